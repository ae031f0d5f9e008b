/-! formulas of the rules: numbers, words, pairs, tests, clauses -/
set_option maxRecDepth 100000
def kX8_of (G : GT) (l : Launch) (d : Nat) (x0 x1 : Int) (h : Mem) (P : Int → Mem → Prop) : Prop := Ct G l yX8_of cX8_of 2 (some .long) 1 d 0 0 [rf x0, rf x1] h (PJ h P)
def kX9_of (G : GT) (l : Launch) (d : Nat) (x0 x1 : Int) (h : Mem) (P : Int → Mem → Prop) : Prop := Ct G l yX9_of cX9_of 2 (some .long) 1 d 0 0 [rf x0, rf x1] h (PJ h P)
def kX10_of (G : GT) (l : Launch) (d : Nat) (x0 x1 : Int) (h : Mem) (P : Int → Mem → Prop) : Prop := Ct G l yX10_of cX10_of 6 (some .long) 1 d 0 0 [rf x0, rf x1] h (PJ h P)
def kX12_is (G : GT) (l : Launch) (d : Nat) (x0 x1 : Int) (h : Mem) (P : Int → Mem → Prop) : Prop := Ct G l yX12_is cX12_is 2 (some .boolean) 0 d 0 0 [rf x0, rf x1] h (PZ h P)
def kX13_is (G : GT) (l : Launch) (d : Nat) (x0 x1 : Int) (h : Mem) (P : Int → Mem → Prop) : Prop := Ct G l yX13_is cX13_is 6 (some .boolean) 0 d 0 0 [rf x0, rf x1] h (PZ h P)
def kX14_is (G : GT) (l : Launch) (d : Nat) (x0 x1 : Int) (h : Mem) (P : Int → Mem → Prop) : Prop := Ct G l yX14_is cX14_is 2 (some .boolean) 0 d 0 0 [rf x0, rf x1] h (PZ h P)
def kVof (G : GT) (l : Launch) (d : Nat) (v w : Int) (h : Mem) (P : Int → Mem → Prop) : Prop := (h v (-1) = 8 ∧ kX8_of G l d v w h P) ∨ (h v (-1) = 9 ∧ kX9_of G l d v w h P) ∨ (h v (-1) = 10 ∧ kX10_of G l d v w h P)
def kVis (G : GT) (l : Launch) (d : Nat) (v w : Int) (h : Mem) (P : Int → Mem → Prop) : Prop := (h v (-1) = 11 ∧ kX12_is G l d v w h P) ∨ (h v (-1) = 12 ∧ kX13_is G l d v w h P) ∨ (h v (-1) = 13 ∧ kX14_is G l d v w h P)
set_option maxHeartbeats 4000000 in
theorem wX8_of_0 {G : GT} {X : MX} {h0 h : Mem} {P : Int → Mem → Prop} {d0 : Nat} {x0 x1 : Int} (C : Cx G X cX8_of 2 RX8 (d0 + 1) 0 0 (some .long) "of") (B0 : EX h0 h)
    (F : h x0 (-1) = 8 ∧ P (h x0 0) h) :
    V G X 2 0 0 (QF G X 1 0 0 (PJ h0 P)) 0 [(0, rf x0), (1, rf x1)] [] h := by
  have B := B0
  have E : EX h h := EX.rf B.2
  refine v_aload_n C 0 rfl rfl dX8_of_0 ?_
  obtain ⟨o1, F⟩ := F
  refine gX8_7 C o1 rfl dX8_of_1 ?_
  exact v_lret C (Nat.le_refl _) (Nat.le_refl _) dX8_of_4 ⟨B, (EX.rJ B (j := 0) o1 rfl), F⟩
set_option maxHeartbeats 1000000 in
theorem eX8_of {G : GT} {l : Launch} {d0 : Nat} {x0 x1 : Int} {h : Mem} {P : Int → Mem → Prop} (F : ∀ X : MX, Cx G X cX8_of 2 RX8 (d0 + 1) 0 0 (some .long) "of" → X.2.1 = l → (EX h h) →
    h x0 (-1) = 8 ∧ P (h x0 0) h) :
    kX8_of G l (d0 + 1) x0 x1 h P := by
  refine ct_of (by decide +kernel) (Nat.le_of_ble_eq_true rfl) fun X C e => ?_
  refine v_okz fun O => ?_
  exact wX8_of_0 C (EX.rf O) (F X C e (EX.rf O))
set_option maxHeartbeats 4000000 in
theorem wX9_of_0 {G : GT} {X : MX} {h0 h : Mem} {P : Int → Mem → Prop} {d0 : Nat} {x0 x1 : Int} (C : Cx G X cX9_of 2 RX9 (d0 + 1) 0 0 (some .long) "of") (B0 : EX h0 h)
    (F : h x0 (-1) = 9 ∧ h x1 (-1) = 104 ∧ 0 ≤ h x0 0 ∧ h x0 0 < h x1 (-2) ∧ P (h x1 (h x0 0)) h) :
    V G X 2 0 0 (QF G X 1 0 0 (PJ h0 P)) 0 [(0, rf x0), (1, rf x1)] [] h := by
  have B := B0
  have E : EX h h := EX.rf B.2
  refine v_aload_n C 1 rfl rfl dX9_of_0 ?_
  refine v_aload_n C 0 rfl rfl dX9_of_1 ?_
  obtain ⟨o1, F⟩ := F
  refine gX9_7 C o1 rfl dX9_of_2 ?_
  obtain ⟨o2, F⟩ := F
  obtain ⟨o3, F⟩ := F
  obtain ⟨o4, F⟩ := F
  refine v_lald C o2 o3 o4 rfl dX9_of_5 ?_
  exact v_lret C (Nat.le_refl _) (Nat.le_refl _) dX9_of_6 ⟨B, (EX.rJ B (j := h x0 0) o2 rfl), F⟩
set_option maxHeartbeats 1000000 in
theorem eX9_of {G : GT} {l : Launch} {d0 : Nat} {x0 x1 : Int} {h : Mem} {P : Int → Mem → Prop} (F : ∀ X : MX, Cx G X cX9_of 2 RX9 (d0 + 1) 0 0 (some .long) "of" → X.2.1 = l → (EX h h) →
    h x0 (-1) = 9 ∧ h x1 (-1) = 104 ∧ 0 ≤ h x0 0 ∧ h x0 0 < h x1 (-2) ∧ P (h x1 (h x0 0)) h) :
    kX9_of G l (d0 + 1) x0 x1 h P := by
  refine ct_of (by decide +kernel) (Nat.le_of_ble_eq_true rfl) fun X C e => ?_
  refine v_okz fun O => ?_
  exact wX9_of_0 C (EX.rf O) (F X C e (EX.rf O))
set_option maxHeartbeats 4000000 in
theorem wX10_of_0 {G : GT} {X : MX} {h0 h : Mem} {P : Int → Mem → Prop} {d0 : Nat} {x0 x1 : Int} (C : Cx G X cX10_of 6 RX10 (d0 + 1) 0 0 (some .long) "of") (B0 : EX h0 h)
    (F : h x0 (-1) = 10 ∧ kVof G X.2.1 d0 (h x0 0) x1 h (fun r2 h3 => EX h h3 → h3 x0 (-1) = 10 ∧ kVof G X.2.1 d0 (h3 x0 1) x1 h3 (fun r10 h11 => EX h3 h11 → h11 x0 (-1) = 10 ∧ ((h11 x0 2 = 37 → ((r10 ≠ 0 → r10 ≠ 0 ∧ P (w64 (r2.tmod r10)) h11) ∧ (r10 = 0 → P 0 h11))) ∧ (h11 x0 2 = 42 → P (w64 (r2 * r10)) h11) ∧ (h11 x0 2 = 43 → P (w64 (r2 + r10)) h11) ∧ (h11 x0 2 = 45 → P (w64 (r2 - r10)) h11) ∧ (h11 x0 2 ≠ 37 ∧ h11 x0 2 ≠ 42 ∧ h11 x0 2 ≠ 43 ∧ h11 x0 2 ≠ 45 → ((r10 ≠ 0 → r10 ≠ 0 ∧ P (w64 (r2.tdiv r10)) h11) ∧ (r10 = 0 → P 0 h11))))))) :
    V G X 6 0 0 (QF G X 1 0 0 (PJ h0 P)) 0 [(0, rf x0), (1, rf x1)] [] h := by
  have B := B0
  have E : EX h h := EX.rf B.2
  refine v_aload_n C 0 rfl rfl dX10_of_0 ?_
  obtain ⟨o1, F⟩ := F
  refine gX10_7 C o1 rfl dX10_of_1 ?_
  refine v_aload_n C 1 rfl rfl dX10_of_4 ?_
  suffices K6 : ∀ (r2 : Int) (h3 : Mem), PJ h (fun r2 h3 => EX h h3 → h3 x0 (-1) = 10 ∧ kVof G X.2.1 d0 (h3 x0 1) x1 h3 (fun r10 h11 => EX h3 h11 → h11 x0 (-1) = 10 ∧ ((h11 x0 2 = 37 → ((r10 ≠ 0 → r10 ≠ 0 ∧ P (w64 (r2.tmod r10)) h11) ∧ (r10 = 0 → P 0 h11))) ∧ (h11 x0 2 = 42 → P (w64 (r2 * r10)) h11) ∧ (h11 x0 2 = 43 → P (w64 (r2 + r10)) h11) ∧ (h11 x0 2 = 45 → P (w64 (r2 - r10)) h11) ∧ (h11 x0 2 ≠ 37 ∧ h11 x0 2 ≠ 42 ∧ h11 x0 2 ≠ 43 ∧ h11 x0 2 ≠ 45 → ((r10 ≠ 0 → r10 ≠ 0 ∧ P (w64 (r2.tdiv r10)) h11) ∧ (r10 = 0 → P 0 h11)))))) r2 h3 → V G X 6 0 0 (QF G X 1 0 0 (PJ h0 P)) 8 [(0, rf x0), (1, rf x1)] [jv r2] h3 by
    rcases F with ⟨k, F⟩ | ⟨k, F⟩ | ⟨k, F⟩
    · exact mX10_20_X8 C k (d2 := d0) (kc2 := 0) (ks2 := 0) (Nat.le_refl _) (Nat.le_refl _) (Nat.le_refl _) (Nat.le_of_ble_eq_true rfl) dX10_of_5 (Ct.mono F K6)
    · exact mX10_20_X9 C k (d2 := d0) (kc2 := 0) (ks2 := 0) (Nat.le_refl _) (Nat.le_refl _) (Nat.le_refl _) (Nat.le_of_ble_eq_true rfl) dX10_of_5 (Ct.mono F K6)
    · exact mX10_20_X10 C k (d2 := d0) (kc2 := 0) (ks2 := 0) (Nat.le_refl _) (Nat.le_refl _) (Nat.le_refl _) (Nat.le_of_ble_eq_true rfl) dX10_of_5 (Ct.mono F K6)
  rintro r2 h3 ⟨e4, g5, F⟩
  have F := F e4
  have B7 := B.tr e4
  have E8 := E.tr e4
  refine v_lstore_n C rfl (by decide) dX10_of_8 (lv2 := [(2, jv r2), (0, rf x0), (1, rf x1)]) rfl ?_
  refine v_aload_n C 1 rfl rfl dX10_of_9 ?_
  obtain ⟨o9, F⟩ := F
  refine gX10_17 C o9 rfl dX10_of_10 ?_
  refine v_aload_n C 2 rfl rfl dX10_of_13 ?_
  suffices K14 : ∀ (r10 : Int) (h11 : Mem), PJ h3 (fun r10 h11 => EX h3 h11 → h11 x0 (-1) = 10 ∧ ((h11 x0 2 = 37 → ((r10 ≠ 0 → r10 ≠ 0 ∧ P (w64 (r2.tmod r10)) h11) ∧ (r10 = 0 → P 0 h11))) ∧ (h11 x0 2 = 42 → P (w64 (r2 * r10)) h11) ∧ (h11 x0 2 = 43 → P (w64 (r2 + r10)) h11) ∧ (h11 x0 2 = 45 → P (w64 (r2 - r10)) h11) ∧ (h11 x0 2 ≠ 37 ∧ h11 x0 2 ≠ 42 ∧ h11 x0 2 ≠ 43 ∧ h11 x0 2 ≠ 45 → ((r10 ≠ 0 → r10 ≠ 0 ∧ P (w64 (r2.tdiv r10)) h11) ∧ (r10 = 0 → P 0 h11))))) r10 h11 → V G X 6 0 0 (QF G X 1 0 0 (PJ h0 P)) 17 [(2, jv r2), (0, rf x0), (1, rf x1)] [jv r10] h11 by
    rcases F with ⟨k, F⟩ | ⟨k, F⟩ | ⟨k, F⟩
    · exact mX10_20_X8 C k (d2 := d0) (kc2 := 0) (ks2 := 0) (Nat.le_refl _) (Nat.le_refl _) (Nat.le_refl _) (Nat.le_of_ble_eq_true rfl) dX10_of_14 (Ct.mono F K14)
    · exact mX10_20_X9 C k (d2 := d0) (kc2 := 0) (ks2 := 0) (Nat.le_refl _) (Nat.le_refl _) (Nat.le_refl _) (Nat.le_of_ble_eq_true rfl) dX10_of_14 (Ct.mono F K14)
    · exact mX10_20_X10 C k (d2 := d0) (kc2 := 0) (ks2 := 0) (Nat.le_refl _) (Nat.le_refl _) (Nat.le_refl _) (Nat.le_of_ble_eq_true rfl) dX10_of_14 (Ct.mono F K14)
  rintro r10 h11 ⟨e12, g13, F⟩
  have F := F e12
  have B15 := B7.tr e12
  have E16 := E8.tr e12
  refine v_lstore C (by decide) dX10_of_17 (lv2 := [(4, jv r10), (2, jv r2), (0, rf x0), (1, rf x1)]) rfl ?_
  refine v_aload_n C 2 rfl rfl dX10_of_19 ?_
  obtain ⟨o17, F⟩ := F
  refine gX10_13 C o17 rfl dX10_of_20 ?_
  by_cases c20 : h11 x0 2 = 37
  · have F := F.1 c20
    refine v_tableIn C 87 37 ⟨by decide, by decide⟩ c20 dX10_of_23 (by decide) (by decide) rfl (by decide) ?_
    refine v_lload C 0 rfl dX10_of_87 ?_
    refine v_lconst C (x := 0) rfl dX10_of_89 ?_
    refine v_lcmp C g13 ⟨by decide, by decide⟩ dX10_of_90 ?_
    refine v_if_ne C 98 (lcR _ _) dX10_of_91 (by decide) (fun c18 => ?_) (fun c18 => ?_)
    · have F := F.1 ((fun q => c18 (lc_eq.mpr q)))
      refine v_lload_n C 1 rfl rfl dX10_of_98 ?_
      refine v_lload C 0 rfl dX10_of_99 ?_
      obtain ⟨o19, F⟩ := F
      refine v_lrem C g5 g13 o19 dX10_of_101 ?_
      exact v_lret C (Nat.le_refl _) (Nat.le_refl _) dX10_of_102 ⟨B15, (w64_R _), F⟩
    · have F := F.2 (lc_eq.mp c18)
      refine v_lconst C (x := 0) rfl dX10_of_94 ?_
      refine v_goto C 102 dX10_of_95 (by decide) ?_
      exact v_lret C (Nat.le_refl _) (Nat.le_refl _) dX10_of_102 ⟨B15, ⟨by decide, by decide⟩, F⟩
  by_cases c21 : h11 x0 2 = 42
  · have F := F.2.1 c21
    refine v_tableIn C 82 42 ⟨by decide, by decide⟩ c21 dX10_of_23 (by decide) (by decide) rfl (by decide) ?_
    refine v_lload_n C 1 rfl rfl dX10_of_82 ?_
    refine v_lload C 0 rfl dX10_of_83 ?_
    refine v_lmul C dX10_of_85 ?_
    exact v_lret C (Nat.le_refl _) (Nat.le_refl _) dX10_of_86 ⟨B15, (w64_R _), F⟩
  by_cases c22 : h11 x0 2 = 43
  · have F := F.2.2.1 c22
    refine v_tableIn C 72 43 ⟨by decide, by decide⟩ c22 dX10_of_23 (by decide) (by decide) rfl (by decide) ?_
    refine v_lload_n C 1 rfl rfl dX10_of_72 ?_
    refine v_lload C 0 rfl dX10_of_73 ?_
    refine v_ladd C dX10_of_75 ?_
    exact v_lret C (Nat.le_refl _) (Nat.le_refl _) dX10_of_76 ⟨B15, (w64_R _), F⟩
  by_cases c23 : h11 x0 2 = 45
  · have F := F.2.2.2.1 c23
    refine v_tableIn C 77 45 ⟨by decide, by decide⟩ c23 dX10_of_23 (by decide) (by decide) rfl (by decide) ?_
    refine v_lload_n C 1 rfl rfl dX10_of_77 ?_
    refine v_lload C 0 rfl dX10_of_78 ?_
    refine v_lsub C dX10_of_80 ?_
    exact v_lret C (Nat.le_refl _) (Nat.le_refl _) dX10_of_81 ⟨B15, (w64_R _), F⟩
  have F := F.2.2.2.2 (by refine ⟨by assumption, by assumption, by assumption, by assumption⟩)
  have K27 : V G X 6 0 0 (QF G X 1 0 0 (PJ h0 P)) 103 [(4, jv r10), (2, jv r2), (0, rf x0), (1, rf x1)] [] h11 := by
    refine v_lload C 0 rfl dX10_of_103 ?_
    refine v_lconst C (x := 0) rfl dX10_of_105 ?_
    refine v_lcmp C g13 ⟨by decide, by decide⟩ dX10_of_106 ?_
    refine v_if_ne C 114 (lcR _ _) dX10_of_107 (by decide) (fun c24 => ?_) (fun c24 => ?_)
    · have F := F.1 ((fun q => c24 (lc_eq.mpr q)))
      refine v_lload_n C 1 rfl rfl dX10_of_114 ?_
      refine v_lload C 0 rfl dX10_of_115 ?_
      obtain ⟨o25, F⟩ := F
      refine v_ldiv C g5 g13 o25 dX10_of_117 ?_
      exact v_lret C (Nat.le_refl _) (Nat.le_refl _) dX10_of_118 ⟨B15, (w64_R _), F⟩
    · have F := F.2 (lc_eq.mp c24)
      refine v_lconst C (x := 0) rfl dX10_of_110 ?_
      refine v_goto C 118 dX10_of_111 (by decide) ?_
      exact v_lret C (Nat.le_refl _) (Nat.le_refl _) dX10_of_118 ⟨B15, ⟨by decide, by decide⟩, F⟩
  by_cases c28 : h11 x0 2 = 38
  · exact v_tableIn C 103 38 ⟨by decide, by decide⟩ c28 dX10_of_23 (by decide) (by decide) rfl (by decide) K27
  by_cases c29 : h11 x0 2 = 39
  · exact v_tableIn C 103 39 ⟨by decide, by decide⟩ c29 dX10_of_23 (by decide) (by decide) rfl (by decide) K27
  by_cases c30 : h11 x0 2 = 40
  · exact v_tableIn C 103 40 ⟨by decide, by decide⟩ c30 dX10_of_23 (by decide) (by decide) rfl (by decide) K27
  by_cases c31 : h11 x0 2 = 41
  · exact v_tableIn C 103 41 ⟨by decide, by decide⟩ c31 dX10_of_23 (by decide) (by decide) rfl (by decide) K27
  by_cases c32 : h11 x0 2 = 44
  · exact v_tableIn C 103 44 ⟨by decide, by decide⟩ c32 dX10_of_23 (by decide) (by decide) rfl (by decide) K27
  exact v_tableOut C 103 (EX.rI B15 (j := 2) o17 rfl) (by omega) dX10_of_23 (by decide) K27
set_option maxHeartbeats 1000000 in
theorem eX10_of {G : GT} {l : Launch} {d0 : Nat} {x0 x1 : Int} {h : Mem} {P : Int → Mem → Prop} (F : ∀ X : MX, Cx G X cX10_of 6 RX10 (d0 + 1) 0 0 (some .long) "of" → X.2.1 = l → (EX h h) →
    h x0 (-1) = 10 ∧ kVof G X.2.1 d0 (h x0 0) x1 h (fun r2 h3 => EX h h3 → h3 x0 (-1) = 10 ∧ kVof G X.2.1 d0 (h3 x0 1) x1 h3 (fun r10 h11 => EX h3 h11 → h11 x0 (-1) = 10 ∧ ((h11 x0 2 = 37 → ((r10 ≠ 0 → r10 ≠ 0 ∧ P (w64 (r2.tmod r10)) h11) ∧ (r10 = 0 → P 0 h11))) ∧ (h11 x0 2 = 42 → P (w64 (r2 * r10)) h11) ∧ (h11 x0 2 = 43 → P (w64 (r2 + r10)) h11) ∧ (h11 x0 2 = 45 → P (w64 (r2 - r10)) h11) ∧ (h11 x0 2 ≠ 37 ∧ h11 x0 2 ≠ 42 ∧ h11 x0 2 ≠ 43 ∧ h11 x0 2 ≠ 45 → ((r10 ≠ 0 → r10 ≠ 0 ∧ P (w64 (r2.tdiv r10)) h11) ∧ (r10 = 0 → P 0 h11))))))) :
    kX10_of G l (d0 + 1) x0 x1 h P := by
  refine ct_of (by decide +kernel) (Nat.le_of_ble_eq_true rfl) fun X C e => ?_
  refine v_okz fun O => ?_
  exact wX10_of_0 C (EX.rf O) (F X C e (EX.rf O))
set_option maxHeartbeats 4000000 in
theorem wX12_is_0 {G : GT} {X : MX} {h0 h : Mem} {P : Int → Mem → Prop} {d0 : Nat} {x0 x1 : Int} (C : Cx G X cX12_is 2 RX12 (d0 + 1) 0 0 (some .boolean) "is") (B0 : EX h0 h)
    (F : h x0 (-1) = 11 ∧ kVis G X.2.1 d0 (h x0 0) x1 h (fun r2 h3 => EX h h3 → ((r2 ≠ 0 → P 0 h3) ∧ (r2 = 0 → P 1 h3)))) :
    V G X 2 0 0 (QF G X 0 0 0 (PZ h0 P)) 0 [(0, rf x0), (1, rf x1)] [] h := by
  have B := B0
  have E : EX h h := EX.rf B.2
  refine v_aload_n C 0 rfl rfl dX12_is_0 ?_
  obtain ⟨o1, F⟩ := F
  refine gX12_7 C o1 rfl dX12_is_1 ?_
  refine v_aload_n C 1 rfl rfl dX12_is_4 ?_
  suffices K6 : ∀ (r2 : Int) (h3 : Mem), PZ h (fun r2 h3 => EX h h3 → ((r2 ≠ 0 → P 0 h3) ∧ (r2 = 0 → P 1 h3))) r2 h3 → V G X 2 0 0 (QF G X 0 0 0 (PZ h0 P)) 8 [(0, rf x0), (1, rf x1)] [iv r2] h3 by
    rcases F with ⟨k, F⟩ | ⟨k, F⟩ | ⟨k, F⟩
    · exact mX12_13_X12 C k (d2 := d0) (kc2 := 0) (ks2 := 0) (Nat.le_refl _) (Nat.le_refl _) (Nat.le_refl _) (Nat.le_of_ble_eq_true rfl) dX12_is_5 (Ct.mono F K6)
    · exact mX12_13_X13 C k (d2 := d0) (kc2 := 0) (ks2 := 0) (Nat.le_refl _) (Nat.le_refl _) (Nat.le_refl _) (Nat.le_of_ble_eq_true rfl) dX12_is_5 (Ct.mono F K6)
    · exact mX12_13_X14 C k (d2 := d0) (kc2 := 0) (ks2 := 0) (Nat.le_refl _) (Nat.le_refl _) (Nat.le_refl _) (Nat.le_of_ble_eq_true rfl) dX12_is_5 (Ct.mono F K6)
  rintro r2 h3 ⟨e4, g5, F⟩
  have F := F e4
  have B7 := B.tr e4
  have E8 := E.tr e4
  refine v_if_ne C 15 (bR g5) dX12_is_8 (by decide) (fun c9 => ?_) (fun c9 => ?_)
  · have F := F.1 (c9)
    refine v_iconst C dX12_is_15 ?_
    exact v_zret C (by decide) (Nat.le_refl _) (Nat.le_refl _) dX12_is_16 ⟨B7, (by decide), F⟩
  · have F := F.2 (c9)
    refine v_iconst C dX12_is_11 ?_
    refine v_goto C 16 dX12_is_12 (by decide) ?_
    exact v_zret C (by decide) (Nat.le_refl _) (Nat.le_refl _) dX12_is_16 ⟨B7, (by decide), F⟩
set_option maxHeartbeats 1000000 in
theorem eX12_is {G : GT} {l : Launch} {d0 : Nat} {x0 x1 : Int} {h : Mem} {P : Int → Mem → Prop} (F : ∀ X : MX, Cx G X cX12_is 2 RX12 (d0 + 1) 0 0 (some .boolean) "is" → X.2.1 = l → (EX h h) →
    h x0 (-1) = 11 ∧ kVis G X.2.1 d0 (h x0 0) x1 h (fun r2 h3 => EX h h3 → ((r2 ≠ 0 → P 0 h3) ∧ (r2 = 0 → P 1 h3)))) :
    kX12_is G l (d0 + 1) x0 x1 h P := by
  refine ct_of (by decide +kernel) (Nat.le_of_ble_eq_true rfl) fun X C e => ?_
  refine v_okz fun O => ?_
  exact wX12_is_0 C (EX.rf O) (F X C e (EX.rf O))
set_option maxHeartbeats 4000000 in
theorem wX13_is_0 {G : GT} {X : MX} {h0 h : Mem} {P : Int → Mem → Prop} {d0 : Nat} {x0 x1 : Int} (C : Cx G X cX13_is 6 RX13 (d0 + 1) 0 0 (some .boolean) "is") (B0 : EX h0 h)
    (F : h x0 (-1) = 12 ∧ kVof G X.2.1 d0 (h x0 0) x1 h (fun r2 h3 => EX h h3 → h3 x0 (-1) = 12 ∧ kVof G X.2.1 d0 (h3 x0 1) x1 h3 (fun r10 h11 => EX h3 h11 → h11 x0 (-1) = 12 ∧ ((h11 x0 2 = 0 → ((r2 ≥ r10 → P 0 h11) ∧ (r2 < r10 → P 1 h11))) ∧ (h11 x0 2 = 1 → ((r2 > r10 → P 0 h11) ∧ (r2 ≤ r10 → P 1 h11))) ∧ (h11 x0 2 = 2 → ((r2 ≠ r10 → P 0 h11) ∧ (r2 = r10 → P 1 h11))) ∧ (h11 x0 2 = 3 → ((r2 < r10 → P 0 h11) ∧ (r2 ≥ r10 → P 1 h11))) ∧ ((h11 x0 2 < 0 ∨ 3 < h11 x0 2) → ((r2 ≤ r10 → P 0 h11) ∧ (r2 > r10 → P 1 h11))))))) :
    V G X 6 0 0 (QF G X 0 0 0 (PZ h0 P)) 0 [(0, rf x0), (1, rf x1)] [] h := by
  have B := B0
  have E : EX h h := EX.rf B.2
  refine v_aload_n C 0 rfl rfl dX13_is_0 ?_
  obtain ⟨o1, F⟩ := F
  refine gX13_7 C o1 rfl dX13_is_1 ?_
  refine v_aload_n C 1 rfl rfl dX13_is_4 ?_
  suffices K6 : ∀ (r2 : Int) (h3 : Mem), PJ h (fun r2 h3 => EX h h3 → h3 x0 (-1) = 12 ∧ kVof G X.2.1 d0 (h3 x0 1) x1 h3 (fun r10 h11 => EX h3 h11 → h11 x0 (-1) = 12 ∧ ((h11 x0 2 = 0 → ((r2 ≥ r10 → P 0 h11) ∧ (r2 < r10 → P 1 h11))) ∧ (h11 x0 2 = 1 → ((r2 > r10 → P 0 h11) ∧ (r2 ≤ r10 → P 1 h11))) ∧ (h11 x0 2 = 2 → ((r2 ≠ r10 → P 0 h11) ∧ (r2 = r10 → P 1 h11))) ∧ (h11 x0 2 = 3 → ((r2 < r10 → P 0 h11) ∧ (r2 ≥ r10 → P 1 h11))) ∧ ((h11 x0 2 < 0 ∨ 3 < h11 x0 2) → ((r2 ≤ r10 → P 0 h11) ∧ (r2 > r10 → P 1 h11)))))) r2 h3 → V G X 6 0 0 (QF G X 0 0 0 (PZ h0 P)) 8 [(0, rf x0), (1, rf x1)] [jv r2] h3 by
    rcases F with ⟨k, F⟩ | ⟨k, F⟩ | ⟨k, F⟩
    · exact mX13_20_X8 C k (d2 := d0) (kc2 := 0) (ks2 := 0) (Nat.le_refl _) (Nat.le_refl _) (Nat.le_refl _) (Nat.le_of_ble_eq_true rfl) dX13_is_5 (Ct.mono F K6)
    · exact mX13_20_X9 C k (d2 := d0) (kc2 := 0) (ks2 := 0) (Nat.le_refl _) (Nat.le_refl _) (Nat.le_refl _) (Nat.le_of_ble_eq_true rfl) dX13_is_5 (Ct.mono F K6)
    · exact mX13_20_X10 C k (d2 := d0) (kc2 := 0) (ks2 := 0) (Nat.le_refl _) (Nat.le_refl _) (Nat.le_refl _) (Nat.le_of_ble_eq_true rfl) dX13_is_5 (Ct.mono F K6)
  rintro r2 h3 ⟨e4, g5, F⟩
  have F := F e4
  have B7 := B.tr e4
  have E8 := E.tr e4
  refine v_lstore_n C rfl (by decide) dX13_is_8 (lv2 := [(2, jv r2), (0, rf x0), (1, rf x1)]) rfl ?_
  refine v_aload_n C 1 rfl rfl dX13_is_9 ?_
  obtain ⟨o9, F⟩ := F
  refine gX13_17 C o9 rfl dX13_is_10 ?_
  refine v_aload_n C 2 rfl rfl dX13_is_13 ?_
  suffices K14 : ∀ (r10 : Int) (h11 : Mem), PJ h3 (fun r10 h11 => EX h3 h11 → h11 x0 (-1) = 12 ∧ ((h11 x0 2 = 0 → ((r2 ≥ r10 → P 0 h11) ∧ (r2 < r10 → P 1 h11))) ∧ (h11 x0 2 = 1 → ((r2 > r10 → P 0 h11) ∧ (r2 ≤ r10 → P 1 h11))) ∧ (h11 x0 2 = 2 → ((r2 ≠ r10 → P 0 h11) ∧ (r2 = r10 → P 1 h11))) ∧ (h11 x0 2 = 3 → ((r2 < r10 → P 0 h11) ∧ (r2 ≥ r10 → P 1 h11))) ∧ ((h11 x0 2 < 0 ∨ 3 < h11 x0 2) → ((r2 ≤ r10 → P 0 h11) ∧ (r2 > r10 → P 1 h11))))) r10 h11 → V G X 6 0 0 (QF G X 0 0 0 (PZ h0 P)) 17 [(2, jv r2), (0, rf x0), (1, rf x1)] [jv r10] h11 by
    rcases F with ⟨k, F⟩ | ⟨k, F⟩ | ⟨k, F⟩
    · exact mX13_20_X8 C k (d2 := d0) (kc2 := 0) (ks2 := 0) (Nat.le_refl _) (Nat.le_refl _) (Nat.le_refl _) (Nat.le_of_ble_eq_true rfl) dX13_is_14 (Ct.mono F K14)
    · exact mX13_20_X9 C k (d2 := d0) (kc2 := 0) (ks2 := 0) (Nat.le_refl _) (Nat.le_refl _) (Nat.le_refl _) (Nat.le_of_ble_eq_true rfl) dX13_is_14 (Ct.mono F K14)
    · exact mX13_20_X10 C k (d2 := d0) (kc2 := 0) (ks2 := 0) (Nat.le_refl _) (Nat.le_refl _) (Nat.le_refl _) (Nat.le_of_ble_eq_true rfl) dX13_is_14 (Ct.mono F K14)
  rintro r10 h11 ⟨e12, g13, F⟩
  have F := F e12
  have B15 := B7.tr e12
  have E16 := E8.tr e12
  refine v_lstore C (by decide) dX13_is_17 (lv2 := [(4, jv r10), (2, jv r2), (0, rf x0), (1, rf x1)]) rfl ?_
  refine v_aload_n C 2 rfl rfl dX13_is_19 ?_
  obtain ⟨o17, F⟩ := F
  refine gX13_13 C o17 rfl dX13_is_20 ?_
  by_cases c19 : h11 x0 2 = 0
  · have F := F.1 c19
    refine v_tableIn C 52 0 ⟨by decide, by decide⟩ c19 dX13_is_23 (by decide) (by decide) rfl (by decide) ?_
    refine v_lload_n C 1 rfl rfl dX13_is_52 ?_
    refine v_lload C 0 rfl dX13_is_53 ?_
    refine v_lcmp C g5 g13 dX13_is_55 ?_
    refine v_if_ge C 63 (lcR _ _) dX13_is_56 (by decide) (fun c18 => ?_) (fun c18 => ?_)
    · have F := F.1 (lc_ge.mp c18)
      refine v_iconst C dX13_is_63 ?_
      exact v_zret C (by decide) (Nat.le_refl _) (Nat.le_refl _) dX13_is_64 ⟨B15, (by decide), F⟩
    · have F := F.2 (lc_lt.mp c18)
      refine v_iconst C dX13_is_59 ?_
      refine v_goto C 64 dX13_is_60 (by decide) ?_
      exact v_zret C (by decide) (Nat.le_refl _) (Nat.le_refl _) dX13_is_64 ⟨B15, (by decide), F⟩
  by_cases c21 : h11 x0 2 = 1
  · have F := F.2.1 c21
    refine v_tableIn C 65 1 ⟨by decide, by decide⟩ c21 dX13_is_23 (by decide) (by decide) rfl (by decide) ?_
    refine v_lload_n C 1 rfl rfl dX13_is_65 ?_
    refine v_lload C 0 rfl dX13_is_66 ?_
    refine v_lcmp C g5 g13 dX13_is_68 ?_
    refine v_if_gt C 76 (lcR _ _) dX13_is_69 (by decide) (fun c20 => ?_) (fun c20 => ?_)
    · have F := F.1 (lc_gt.mp c20)
      refine v_iconst C dX13_is_76 ?_
      exact v_zret C (by decide) (Nat.le_refl _) (Nat.le_refl _) dX13_is_77 ⟨B15, (by decide), F⟩
    · have F := F.2 (lc_le.mp c20)
      refine v_iconst C dX13_is_72 ?_
      refine v_goto C 77 dX13_is_73 (by decide) ?_
      exact v_zret C (by decide) (Nat.le_refl _) (Nat.le_refl _) dX13_is_77 ⟨B15, (by decide), F⟩
  by_cases c23 : h11 x0 2 = 2
  · have F := F.2.2.1 c23
    refine v_tableIn C 78 2 ⟨by decide, by decide⟩ c23 dX13_is_23 (by decide) (by decide) rfl (by decide) ?_
    refine v_lload_n C 1 rfl rfl dX13_is_78 ?_
    refine v_lload C 0 rfl dX13_is_79 ?_
    refine v_lcmp C g5 g13 dX13_is_81 ?_
    refine v_if_ne C 89 (lcR _ _) dX13_is_82 (by decide) (fun c22 => ?_) (fun c22 => ?_)
    · have F := F.1 ((fun q => c22 (lc_eq.mpr q)))
      refine v_iconst C dX13_is_89 ?_
      exact v_zret C (by decide) (Nat.le_refl _) (Nat.le_refl _) dX13_is_90 ⟨B15, (by decide), F⟩
    · have F := F.2 (lc_eq.mp c22)
      refine v_iconst C dX13_is_85 ?_
      refine v_goto C 90 dX13_is_86 (by decide) ?_
      exact v_zret C (by decide) (Nat.le_refl _) (Nat.le_refl _) dX13_is_90 ⟨B15, (by decide), F⟩
  by_cases c25 : h11 x0 2 = 3
  · have F := F.2.2.2.1 c25
    refine v_tableIn C 91 3 ⟨by decide, by decide⟩ c25 dX13_is_23 (by decide) (by decide) rfl (by decide) ?_
    refine v_lload_n C 1 rfl rfl dX13_is_91 ?_
    refine v_lload C 0 rfl dX13_is_92 ?_
    refine v_lcmp C g5 g13 dX13_is_94 ?_
    refine v_if_lt C 102 (lcR _ _) dX13_is_95 (by decide) (fun c24 => ?_) (fun c24 => ?_)
    · have F := F.1 (lc_lt.mp c24)
      refine v_iconst C dX13_is_102 ?_
      exact v_zret C (by decide) (Nat.le_refl _) (Nat.le_refl _) dX13_is_103 ⟨B15, (by decide), F⟩
    · have F := F.2 (lc_ge.mp c24)
      refine v_iconst C dX13_is_98 ?_
      refine v_goto C 103 dX13_is_99 (by decide) ?_
      exact v_zret C (by decide) (Nat.le_refl _) (Nat.le_refl _) dX13_is_103 ⟨B15, (by decide), F⟩
  have c27 : h11 x0 2 < 0 ∨ 3 < h11 x0 2 := by omega
  have F := F.2.2.2.2 c27
  refine v_tableOut C 104 (EX.rI B15 (j := 2) o17 rfl) c27 dX13_is_23 (by decide) ?_
  refine v_lload_n C 1 rfl rfl dX13_is_104 ?_
  refine v_lload C 0 rfl dX13_is_105 ?_
  refine v_lcmp C g5 g13 dX13_is_107 ?_
  refine v_if_le C 115 (lcR _ _) dX13_is_108 (by decide) (fun c26 => ?_) (fun c26 => ?_)
  · have F := F.1 (lc_le.mp c26)
    refine v_iconst C dX13_is_115 ?_
    exact v_zret C (by decide) (Nat.le_refl _) (Nat.le_refl _) dX13_is_116 ⟨B15, (by decide), F⟩
  · have F := F.2 (lc_gt.mp c26)
    refine v_iconst C dX13_is_111 ?_
    refine v_goto C 116 dX13_is_112 (by decide) ?_
    exact v_zret C (by decide) (Nat.le_refl _) (Nat.le_refl _) dX13_is_116 ⟨B15, (by decide), F⟩
set_option maxHeartbeats 1000000 in
theorem eX13_is {G : GT} {l : Launch} {d0 : Nat} {x0 x1 : Int} {h : Mem} {P : Int → Mem → Prop} (F : ∀ X : MX, Cx G X cX13_is 6 RX13 (d0 + 1) 0 0 (some .boolean) "is" → X.2.1 = l → (EX h h) →
    h x0 (-1) = 12 ∧ kVof G X.2.1 d0 (h x0 0) x1 h (fun r2 h3 => EX h h3 → h3 x0 (-1) = 12 ∧ kVof G X.2.1 d0 (h3 x0 1) x1 h3 (fun r10 h11 => EX h3 h11 → h11 x0 (-1) = 12 ∧ ((h11 x0 2 = 0 → ((r2 ≥ r10 → P 0 h11) ∧ (r2 < r10 → P 1 h11))) ∧ (h11 x0 2 = 1 → ((r2 > r10 → P 0 h11) ∧ (r2 ≤ r10 → P 1 h11))) ∧ (h11 x0 2 = 2 → ((r2 ≠ r10 → P 0 h11) ∧ (r2 = r10 → P 1 h11))) ∧ (h11 x0 2 = 3 → ((r2 < r10 → P 0 h11) ∧ (r2 ≥ r10 → P 1 h11))) ∧ ((h11 x0 2 < 0 ∨ 3 < h11 x0 2) → ((r2 ≤ r10 → P 0 h11) ∧ (r2 > r10 → P 1 h11))))))) :
    kX13_is G l (d0 + 1) x0 x1 h P := by
  refine ct_of (by decide +kernel) (Nat.le_of_ble_eq_true rfl) fun X C e => ?_
  refine v_okz fun O => ?_
  exact wX13_is_0 C (EX.rf O) (F X C e (EX.rf O))
set_option maxHeartbeats 4000000 in
theorem wX14_is_0 {G : GT} {X : MX} {h0 h : Mem} {P : Int → Mem → Prop} {d0 : Nat} {x0 x1 : Int} (C : Cx G X cX14_is 2 RX14 (d0 + 1) 0 0 (some .boolean) "is") (B0 : EX h0 h)
    (F : h x0 (-1) = 13 ∧ ((h x0 2 = 0 → kVis G X.2.1 d0 (h x0 0) x1 h (fun r3 h4 => EX h h4 → ((r3 ≠ 0 → P 1 h4) ∧ (r3 = 0 → h4 x0 (-1) = 13 ∧ kVis G X.2.1 d0 (h4 x0 1) x1 h4 (fun r12 h13 => EX h4 h13 → ((r12 = 0 → P 0 h13) ∧ (r12 ≠ 0 → P 1 h13))))))) ∧ (h x0 2 ≠ 0 → kVis G X.2.1 d0 (h x0 0) x1 h (fun r20 h21 => EX h h21 → ((r20 = 0 → P 0 h21) ∧ (r20 ≠ 0 → h21 x0 (-1) = 13 ∧ kVis G X.2.1 d0 (h21 x0 1) x1 h21 (fun r29 h30 => EX h21 h30 → ((r29 = 0 → P 0 h30) ∧ (r29 ≠ 0 → P 1 h30))))))))) :
    V G X 2 0 0 (QF G X 0 0 0 (PZ h0 P)) 0 [(0, rf x0), (1, rf x1)] [] h := by
  have B := B0
  have E : EX h h := EX.rf B.2
  refine v_aload_n C 0 rfl rfl dX14_is_0 ?_
  obtain ⟨o1, F⟩ := F
  refine gX14_13 C o1 rfl dX14_is_1 ?_
  refine v_if_eq C 37 (EX.rI B (j := 2) o1 rfl) dX14_is_4 (by decide) (fun c2 => ?_) (fun c2 => ?_)
  · have F := F.1 (c2)
    refine v_aload_n C 0 rfl rfl dX14_is_37 ?_
    refine gX14_7 C o1 rfl dX14_is_38 ?_
    refine v_aload_n C 1 rfl rfl dX14_is_41 ?_
    suffices K7 : ∀ (r3 : Int) (h4 : Mem), PZ h (fun r3 h4 => EX h h4 → ((r3 ≠ 0 → P 1 h4) ∧ (r3 = 0 → h4 x0 (-1) = 13 ∧ kVis G X.2.1 d0 (h4 x0 1) x1 h4 (fun r12 h13 => EX h4 h13 → ((r12 = 0 → P 0 h13) ∧ (r12 ≠ 0 → P 1 h13)))))) r3 h4 → V G X 2 0 0 (QF G X 0 0 0 (PZ h0 P)) 45 [(0, rf x0), (1, rf x1)] [iv r3] h4 by
      rcases F with ⟨k, F⟩ | ⟨k, F⟩ | ⟨k, F⟩
      · exact mX14_20_X12 C k (d2 := d0) (kc2 := 0) (ks2 := 0) (Nat.le_refl _) (Nat.le_refl _) (Nat.le_refl _) (Nat.le_of_ble_eq_true rfl) dX14_is_42 (Ct.mono F K7)
      · exact mX14_20_X13 C k (d2 := d0) (kc2 := 0) (ks2 := 0) (Nat.le_refl _) (Nat.le_refl _) (Nat.le_refl _) (Nat.le_of_ble_eq_true rfl) dX14_is_42 (Ct.mono F K7)
      · exact mX14_20_X14 C k (d2 := d0) (kc2 := 0) (ks2 := 0) (Nat.le_refl _) (Nat.le_refl _) (Nat.le_refl _) (Nat.le_of_ble_eq_true rfl) dX14_is_42 (Ct.mono F K7)
    rintro r3 h4 ⟨e5, g6, F⟩
    have F := F e5
    have B8 := B.tr e5
    have E9 := E.tr e5
    refine v_if_ne C 59 (bR g6) dX14_is_45 (by decide) (fun c10 => ?_) (fun c10 => ?_)
    · have F := F.1 (c10)
      refine v_iconst C dX14_is_59 ?_
      refine v_goto C 64 dX14_is_60 (by decide) ?_
      exact v_zret C (by decide) (Nat.le_refl _) (Nat.le_refl _) dX14_is_64 ⟨B8, (by decide), F⟩
    · have F := F.2 (c10)
      refine v_aload_n C 0 rfl rfl dX14_is_48 ?_
      obtain ⟨o11, F⟩ := F
      refine gX14_17 C o11 rfl dX14_is_49 ?_
      refine v_aload_n C 1 rfl rfl dX14_is_52 ?_
      suffices K16 : ∀ (r12 : Int) (h13 : Mem), PZ h4 (fun r12 h13 => EX h4 h13 → ((r12 = 0 → P 0 h13) ∧ (r12 ≠ 0 → P 1 h13))) r12 h13 → V G X 2 0 0 (QF G X 0 0 0 (PZ h0 P)) 56 [(0, rf x0), (1, rf x1)] [iv r12] h13 by
        rcases F with ⟨k, F⟩ | ⟨k, F⟩ | ⟨k, F⟩
        · exact mX14_20_X12 C k (d2 := d0) (kc2 := 0) (ks2 := 0) (Nat.le_refl _) (Nat.le_refl _) (Nat.le_refl _) (Nat.le_of_ble_eq_true rfl) dX14_is_53 (Ct.mono F K16)
        · exact mX14_20_X13 C k (d2 := d0) (kc2 := 0) (ks2 := 0) (Nat.le_refl _) (Nat.le_refl _) (Nat.le_refl _) (Nat.le_of_ble_eq_true rfl) dX14_is_53 (Ct.mono F K16)
        · exact mX14_20_X14 C k (d2 := d0) (kc2 := 0) (ks2 := 0) (Nat.le_refl _) (Nat.le_refl _) (Nat.le_refl _) (Nat.le_of_ble_eq_true rfl) dX14_is_53 (Ct.mono F K16)
      rintro r12 h13 ⟨e14, g15, F⟩
      have F := F e14
      have B17 := B8.tr e14
      have E18 := E9.tr e14
      refine v_if_eq C 63 (bR g15) dX14_is_56 (by decide) (fun c19 => ?_) (fun c19 => ?_)
      · have F := F.1 (c19)
        refine v_iconst C dX14_is_63 ?_
        exact v_zret C (by decide) (Nat.le_refl _) (Nat.le_refl _) dX14_is_64 ⟨B17, (by decide), F⟩
      · have F := F.2 (c19)
        refine v_iconst C dX14_is_59 ?_
        refine v_goto C 64 dX14_is_60 (by decide) ?_
        exact v_zret C (by decide) (Nat.le_refl _) (Nat.le_refl _) dX14_is_64 ⟨B17, (by decide), F⟩
  · have F := F.2 (c2)
    refine v_aload_n C 0 rfl rfl dX14_is_7 ?_
    refine gX14_7 C o1 rfl dX14_is_8 ?_
    refine v_aload_n C 1 rfl rfl dX14_is_11 ?_
    suffices K24 : ∀ (r20 : Int) (h21 : Mem), PZ h (fun r20 h21 => EX h h21 → ((r20 = 0 → P 0 h21) ∧ (r20 ≠ 0 → h21 x0 (-1) = 13 ∧ kVis G X.2.1 d0 (h21 x0 1) x1 h21 (fun r29 h30 => EX h21 h30 → ((r29 = 0 → P 0 h30) ∧ (r29 ≠ 0 → P 1 h30)))))) r20 h21 → V G X 2 0 0 (QF G X 0 0 0 (PZ h0 P)) 15 [(0, rf x0), (1, rf x1)] [iv r20] h21 by
      rcases F with ⟨k, F⟩ | ⟨k, F⟩ | ⟨k, F⟩
      · exact mX14_20_X12 C k (d2 := d0) (kc2 := 0) (ks2 := 0) (Nat.le_refl _) (Nat.le_refl _) (Nat.le_refl _) (Nat.le_of_ble_eq_true rfl) dX14_is_12 (Ct.mono F K24)
      · exact mX14_20_X13 C k (d2 := d0) (kc2 := 0) (ks2 := 0) (Nat.le_refl _) (Nat.le_refl _) (Nat.le_refl _) (Nat.le_of_ble_eq_true rfl) dX14_is_12 (Ct.mono F K24)
      · exact mX14_20_X14 C k (d2 := d0) (kc2 := 0) (ks2 := 0) (Nat.le_refl _) (Nat.le_refl _) (Nat.le_refl _) (Nat.le_of_ble_eq_true rfl) dX14_is_12 (Ct.mono F K24)
    rintro r20 h21 ⟨e22, g23, F⟩
    have F := F e22
    have B25 := B.tr e22
    have E26 := E.tr e22
    refine v_if_eq C 33 (bR g23) dX14_is_15 (by decide) (fun c27 => ?_) (fun c27 => ?_)
    · have F := F.1 (c27)
      refine v_iconst C dX14_is_33 ?_
      refine v_goto C 64 dX14_is_34 (by decide) ?_
      exact v_zret C (by decide) (Nat.le_refl _) (Nat.le_refl _) dX14_is_64 ⟨B25, (by decide), F⟩
    · have F := F.2 (c27)
      refine v_aload_n C 0 rfl rfl dX14_is_18 ?_
      obtain ⟨o28, F⟩ := F
      refine gX14_17 C o28 rfl dX14_is_19 ?_
      refine v_aload_n C 1 rfl rfl dX14_is_22 ?_
      suffices K33 : ∀ (r29 : Int) (h30 : Mem), PZ h21 (fun r29 h30 => EX h21 h30 → ((r29 = 0 → P 0 h30) ∧ (r29 ≠ 0 → P 1 h30))) r29 h30 → V G X 2 0 0 (QF G X 0 0 0 (PZ h0 P)) 26 [(0, rf x0), (1, rf x1)] [iv r29] h30 by
        rcases F with ⟨k, F⟩ | ⟨k, F⟩ | ⟨k, F⟩
        · exact mX14_20_X12 C k (d2 := d0) (kc2 := 0) (ks2 := 0) (Nat.le_refl _) (Nat.le_refl _) (Nat.le_refl _) (Nat.le_of_ble_eq_true rfl) dX14_is_23 (Ct.mono F K33)
        · exact mX14_20_X13 C k (d2 := d0) (kc2 := 0) (ks2 := 0) (Nat.le_refl _) (Nat.le_refl _) (Nat.le_refl _) (Nat.le_of_ble_eq_true rfl) dX14_is_23 (Ct.mono F K33)
        · exact mX14_20_X14 C k (d2 := d0) (kc2 := 0) (ks2 := 0) (Nat.le_refl _) (Nat.le_refl _) (Nat.le_refl _) (Nat.le_of_ble_eq_true rfl) dX14_is_23 (Ct.mono F K33)
      rintro r29 h30 ⟨e31, g32, F⟩
      have F := F e31
      have B34 := B25.tr e31
      have E35 := E26.tr e31
      refine v_if_eq C 33 (bR g32) dX14_is_26 (by decide) (fun c36 => ?_) (fun c36 => ?_)
      · have F := F.1 (c36)
        refine v_iconst C dX14_is_33 ?_
        refine v_goto C 64 dX14_is_34 (by decide) ?_
        exact v_zret C (by decide) (Nat.le_refl _) (Nat.le_refl _) dX14_is_64 ⟨B34, (by decide), F⟩
      · have F := F.2 (c36)
        refine v_iconst C dX14_is_29 ?_
        refine v_goto C 64 dX14_is_30 (by decide) ?_
        exact v_zret C (by decide) (Nat.le_refl _) (Nat.le_refl _) dX14_is_64 ⟨B34, (by decide), F⟩
set_option maxHeartbeats 1000000 in
theorem eX14_is {G : GT} {l : Launch} {d0 : Nat} {x0 x1 : Int} {h : Mem} {P : Int → Mem → Prop} (F : ∀ X : MX, Cx G X cX14_is 2 RX14 (d0 + 1) 0 0 (some .boolean) "is" → X.2.1 = l → (EX h h) →
    h x0 (-1) = 13 ∧ ((h x0 2 = 0 → kVis G X.2.1 d0 (h x0 0) x1 h (fun r3 h4 => EX h h4 → ((r3 ≠ 0 → P 1 h4) ∧ (r3 = 0 → h4 x0 (-1) = 13 ∧ kVis G X.2.1 d0 (h4 x0 1) x1 h4 (fun r12 h13 => EX h4 h13 → ((r12 = 0 → P 0 h13) ∧ (r12 ≠ 0 → P 1 h13))))))) ∧ (h x0 2 ≠ 0 → kVis G X.2.1 d0 (h x0 0) x1 h (fun r20 h21 => EX h h21 → ((r20 = 0 → P 0 h21) ∧ (r20 ≠ 0 → h21 x0 (-1) = 13 ∧ kVis G X.2.1 d0 (h21 x0 1) x1 h21 (fun r29 h30 => EX h21 h30 → ((r29 = 0 → P 0 h30) ∧ (r29 ≠ 0 → P 1 h30))))))))) :
    kX14_is G l (d0 + 1) x0 x1 h P := by
  refine ct_of (by decide +kernel) (Nat.le_of_ble_eq_true rfl) fun X C e => ?_
  refine v_okz fun O => ?_
  exact wX14_is_0 C (EX.rf O) (F X C e (EX.rf O))
def kX6_fits (G : GT) (l : Launch) (x0 x1 : Int) (h : Mem) (P : Int → Mem → Prop) : Prop := Ct G l yX6_fits cX6_fits 2 (some .boolean) 0 401 0 0 [rf x0, rf x1] h (PZ h P)
set_option maxHeartbeats 4000000 in
theorem wX6_fits_0 {G : GT} {X : MX} {h0 h : Mem} {P : Int → Mem → Prop} {x0 x1 : Int} (C : Cx G X cX6_fits 2 RX6 401 0 0 (some .boolean) "fits") (B0 : EX h0 h)
    (F : h x0 (-1) = 7 ∧ ((h x0 1 = 0 → P 1 h) ∧ (h x0 1 ≠ 0 → kVis G X.2.1 400 (h x0 1) x1 h (fun r3 h4 => EX h h4 → ((r3 = 0 → P 0 h4) ∧ (r3 ≠ 0 → P 1 h4)))))) :
    V G X 2 0 0 (QF G X 0 0 0 (PZ h0 P)) 0 [(0, rf x0), (1, rf x1)] [] h := by
  have B := B0
  have E : EX h h := EX.rf B.2
  refine v_aload_n C 0 rfl rfl dX6_fits_0 ?_
  obtain ⟨o1, F⟩ := F
  refine gX6_7 C o1 rfl dX6_fits_1 ?_
  refine v_ifnull C 18 dX6_fits_4 (by decide) (fun c2 => ?_) (fun c2 => ?_)
  · have F := F.1 c2
    refine v_iconst C dX6_fits_18 ?_
    refine v_goto C 23 dX6_fits_19 (by decide) ?_
    exact v_zret C (by decide) (Nat.le_refl _) (Nat.le_refl _) dX6_fits_23 ⟨B, (by decide), F⟩
  · have F := F.2 c2
    refine v_aload_n C 0 rfl rfl dX6_fits_7 ?_
    refine gX6_7 C o1 rfl dX6_fits_8 ?_
    refine v_aload_n C 1 rfl rfl dX6_fits_11 ?_
    suffices K7 : ∀ (r3 : Int) (h4 : Mem), PZ h (fun r3 h4 => EX h h4 → ((r3 = 0 → P 0 h4) ∧ (r3 ≠ 0 → P 1 h4))) r3 h4 → V G X 2 0 0 (QF G X 0 0 0 (PZ h0 P)) 15 [(0, rf x0), (1, rf x1)] [iv r3] h4 by
      rcases F with ⟨k, F⟩ | ⟨k, F⟩ | ⟨k, F⟩
      · exact mX6_13_X12 C k (d2 := 400) (kc2 := 0) (ks2 := 0) (by decide) (Nat.le_refl _) (Nat.le_refl _) (Nat.le_of_ble_eq_true rfl) dX6_fits_12 (Ct.mono F K7)
      · exact mX6_13_X13 C k (d2 := 400) (kc2 := 0) (ks2 := 0) (by decide) (Nat.le_refl _) (Nat.le_refl _) (Nat.le_of_ble_eq_true rfl) dX6_fits_12 (Ct.mono F K7)
      · exact mX6_13_X14 C k (d2 := 400) (kc2 := 0) (ks2 := 0) (by decide) (Nat.le_refl _) (Nat.le_refl _) (Nat.le_of_ble_eq_true rfl) dX6_fits_12 (Ct.mono F K7)
    rintro r3 h4 ⟨e5, g6, F⟩
    have F := F e5
    have B8 := B.tr e5
    have E9 := E.tr e5
    refine v_if_eq C 22 (bR g6) dX6_fits_15 (by decide) (fun c10 => ?_) (fun c10 => ?_)
    · have F := F.1 (c10)
      refine v_iconst C dX6_fits_22 ?_
      exact v_zret C (by decide) (Nat.le_refl _) (Nat.le_refl _) dX6_fits_23 ⟨B8, (by decide), F⟩
    · have F := F.2 (c10)
      refine v_iconst C dX6_fits_18 ?_
      refine v_goto C 23 dX6_fits_19 (by decide) ?_
      exact v_zret C (by decide) (Nat.le_refl _) (Nat.le_refl _) dX6_fits_23 ⟨B8, (by decide), F⟩
set_option maxHeartbeats 1000000 in
theorem eX6_fits {G : GT} {l : Launch} {x0 x1 : Int} {h : Mem} {P : Int → Mem → Prop} (F : ∀ X : MX, Cx G X cX6_fits 2 RX6 401 0 0 (some .boolean) "fits" → X.2.1 = l → (EX h h) →
    h x0 (-1) = 7 ∧ ((h x0 1 = 0 → P 1 h) ∧ (h x0 1 ≠ 0 → kVis G X.2.1 400 (h x0 1) x1 h (fun r3 h4 => EX h h4 → ((r3 = 0 → P 0 h4) ∧ (r3 ≠ 0 → P 1 h4)))))) :
    kX6_fits G l x0 x1 h P := by
  refine ct_of (by decide +kernel) (Nat.le_of_ble_eq_true rfl) fun X C e => ?_
  refine v_okz fun O => ?_
  exact wX6_fits_0 C (EX.rf O) (F X C e (EX.rf O))
def kX5_summed (G : GT) (l : Launch) (x0 x1 : Int) (h : Mem) (P : Int → Mem → Prop) : Prop := Ct G l yX5_summed cX5_summed 3 (some .long) 1 402 0 0 [rf x0, rf x1] h (PJ h P)
set_option maxHeartbeats 4000000 in
theorem wX5_summed_0 {G : GT} {X : MX} {h0 h : Mem} {P : Int → Mem → Prop} {x0 x1 : Int} (C : Cx G X cX5_summed 3 RX5 402 0 0 (some .long) "summed") (B0 : EX h0 h)
    (F : (EX h0 h ∧ R32 0 → V G X 3 0 0 (QF G X 1 0 0 (PJ h0 P)) 2 [(0, rf x0), (1, rf x1), (2, iv 0)] [] h)) :
    V G X 3 0 0 (QF G X 1 0 0 (PJ h0 P)) 0 [(0, rf x0), (1, rf x1)] [] h := by
  have B := B0
  have E : EX h h := EX.rf B.2
  refine v_iconst C dX5_summed_0 ?_
  refine v_istore_n C rfl (by decide) dX5_summed_1 (lv2 := [(2, iv 0), (0, rf x0), (1, rf x1)]) rfl ?_
  refine v_sub (lv2 := [(0, rf x0), (1, rf x1), (2, iv 0)]) [1, 2, 0] rfl ?_
  exact F ⟨B, ⟨by decide, by decide⟩⟩
set_option maxHeartbeats 4000000 in
theorem wX5_summed_L2 {G : GT} {X : MX} {h0 h : Mem} {P : Int → Mem → Prop} {x0 x1 x2 : Int} (C : Cx G X cX5_summed 3 RX5 402 0 0 (some .long) "summed") (B0 : EX h0 h ∧ R32 x2)
    (F : RuleS h x0 ∧ ((x2 ≥ h x0 1 → P 0 h) ∧ (x2 < h x0 1 → 0 ≤ x2 ∧ x2 < 12 ∧ h (h (x0 + 1) x2) (-1) = 7 ∧ kX6_fits G X.2.1 (h (x0 + 1) x2) x1 h (fun r5 h6 => EX h h6 → ((r5 = 0 → R32 (x2 + 1) ∧ (EX h0 h6 ∧ R32 (x2 + 1) → V G X 3 0 0 (QF G X 1 0 0 (PJ h0 P)) 2 [(0, rf x0), (1, rf x1), (2, iv (x2 + 1))] [] h6)) ∧ (r5 ≠ 0 → h6 (h6 (x0 + 1) x2) (-1) = 7 ∧ kVof G X.2.1 400 (h6 (h6 (x0 + 1) x2) 0) x1 h6 (fun r14 h15 => EX h6 h15 → P r14 h15))))))) :
    V G X 3 0 0 (QF G X 1 0 0 (PJ h0 P)) 2 [(0, rf x0), (1, rf x1), (2, iv x2)] [] h := by
  obtain ⟨B, R2⟩ := B0
  have E : EX h h := EX.rf B.2
  obtain ⟨S_x0, F⟩ := F
  refine v_iload_n C 2 rfl rfl dX5_summed_2 ?_
  refine v_aload_n C 0 rfl rfl dX5_summed_3 ?_
  refine gX5_17 C (S_x0.ext E.1).k rfl dX5_summed_4 ?_
  refine v_icmp_ge C 43 R2 (EX.rI B (j := 1) (S_x0.ext E.1).k rfl) dX5_summed_7 (by decide) (fun c1 => ?_) (fun c1 => ?_)
  · have F := F.1 (c1)
    refine v_lconst C (x := 0) rfl dX5_summed_43 ?_
    exact v_lret C (Nat.le_refl _) (Nat.le_refl _) dX5_summed_44 ⟨B, ⟨by decide, by decide⟩, F⟩
  · have F := F.2 (c1)
    refine v_aload_n C 0 rfl rfl dX5_summed_10 ?_
    refine gX5_11 C (S_x0.ext E.1).k (S_x0.ext E.1).f0 dX5_summed_11 ?_
    refine v_iload_n C 2 rfl rfl dX5_summed_14 ?_
    obtain ⟨o2, F⟩ := F
    obtain ⟨o3, F⟩ := F
    refine v_aald C 8 (by decide) (by decide) (S_x0.ext E.1).k0 o2 (by rw [(S_x0.ext E.1).l0]; exact o3) rfl dX5_summed_15 ?_
    refine v_aload_n C 1 rfl rfl dX5_summed_16 ?_
    obtain ⟨o4, F⟩ := F
    refine mX5_21 C o4 (d2 := 401) (kc2 := 0) (ks2 := 0) (by decide) (Nat.le_refl _) (Nat.le_refl _) (Nat.le_of_ble_eq_true rfl) dX5_summed_17 (Ct.mono (F) ?_)
    rintro r5 h6 ⟨e7, g8, F⟩
    have F := F e7
    have B9 := B.tr e7
    have E10 := E.tr e7
    refine v_if_eq C 37 (bR g8) dX5_summed_20 (by decide) (fun c11 => ?_) (fun c11 => ?_)
    · have F := F.1 (c11)
      obtain ⟨o12, F⟩ := F
      refine v_iinc C 2 rfl (by decide) dX5_summed_37 (lv2 := [(2, iv (x2 + 1)), (0, rf x0), (1, rf x1)]) rfl ?_
      refine v_goto C 2 dX5_summed_40 (by decide) ?_
      refine v_sub (lv2 := [(0, rf x0), (1, rf x1), (2, iv (x2 + 1))]) [1, 2, 0] rfl ?_
      exact F ⟨B9, o12⟩
    · have F := F.2 (c11)
      refine v_aload_n C 0 rfl rfl dX5_summed_23 ?_
      refine gX5_11 C (S_x0.ext E10.1).k (S_x0.ext E10.1).f0 dX5_summed_24 ?_
      refine v_iload_n C 2 rfl rfl dX5_summed_27 ?_
      refine v_aald C 8 (by decide) (by decide) (S_x0.ext E10.1).k0 o2 (by rw [(S_x0.ext E10.1).l0]; exact o3) rfl dX5_summed_28 ?_
      obtain ⟨o13, F⟩ := F
      refine gX5_25 C o13 rfl dX5_summed_29 ?_
      refine v_aload_n C 1 rfl rfl dX5_summed_32 ?_
      suffices K18 : ∀ (r14 : Int) (h15 : Mem), PJ h6 (fun r14 h15 => EX h6 h15 → P r14 h15) r14 h15 → V G X 3 0 0 (QF G X 1 0 0 (PJ h0 P)) 36 [(0, rf x0), (1, rf x1), (2, iv x2)] [jv r14] h15 by
        rcases F with ⟨k, F⟩ | ⟨k, F⟩ | ⟨k, F⟩
        · exact mX5_29_X8 C k (d2 := 400) (kc2 := 0) (ks2 := 0) (by decide) (Nat.le_refl _) (Nat.le_refl _) (Nat.le_of_ble_eq_true rfl) dX5_summed_33 (Ct.mono F K18)
        · exact mX5_29_X9 C k (d2 := 400) (kc2 := 0) (ks2 := 0) (by decide) (Nat.le_refl _) (Nat.le_refl _) (Nat.le_of_ble_eq_true rfl) dX5_summed_33 (Ct.mono F K18)
        · exact mX5_29_X10 C k (d2 := 400) (kc2 := 0) (ks2 := 0) (by decide) (Nat.le_refl _) (Nat.le_refl _) (Nat.le_of_ble_eq_true rfl) dX5_summed_33 (Ct.mono F K18)
      rintro r14 h15 ⟨e16, g17, F⟩
      have F := F e16
      have B19 := B9.tr e16
      have E20 := E10.tr e16
      exact v_lret C (Nat.le_refl _) (Nat.le_refl _) dX5_summed_36 ⟨B19, g17, F⟩
set_option maxHeartbeats 1000000 in
theorem eX5_summed {G : GT} {l : Launch} {x0 x1 : Int} {h : Mem} {P : Int → Mem → Prop} (F : ∀ X : MX, Cx G X cX5_summed 3 RX5 402 0 0 (some .long) "summed" → X.2.1 = l → (EX h h) →
    (EX h h ∧ R32 0 → V G X 3 0 0 (QF G X 1 0 0 (PJ h P)) 2 [(0, rf x0), (1, rf x1), (2, iv 0)] [] h)) :
    kX5_summed G l x0 x1 h P := by
  refine ct_of (by decide +kernel) (Nat.le_of_ble_eq_true rfl) fun X C e => ?_
  refine v_okz fun O => ?_
  exact wX5_summed_0 C (EX.rf O) (F X C e (EX.rf O))
