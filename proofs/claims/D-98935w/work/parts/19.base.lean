/-! formulas of base -/
set_option maxRecDepth 100000
def kX0_in (G : GT) (l : Launch) (x0 x2 x4 : Int) (h : Mem) (P : Int → Mem → Prop) : Prop := R64 x0 → R64 x2 → R64 x4 → Ct G l yX0_in cX0_in 6 (some .boolean) 0 0 0 0 [jv x0, jv x2, jv x4] h (PZ h P)
set_option maxHeartbeats 4000000 in
theorem wX0_in_0 {G : GT} {X : MX} {h0 h : Mem} {P : Int → Mem → Prop} {x0 x2 x4 : Int} (C : Cx G X cX0_in 6 RX0 0 0 0 (some .boolean) "in") (B0 : EX h0 h ∧ R64 x0 ∧ R64 x2 ∧ R64 x4)
    (F : ((x0 < x2 → P 0 h) ∧ (x0 ≥ x2 → ((x0 > x4 → P 0 h) ∧ (x0 ≤ x4 → P 1 h))))) :
    V G X 6 0 0 (QF G X 0 0 0 (PZ h0 P)) 0 [(0, jv x0), (2, jv x2), (4, jv x4)] [] h := by
  obtain ⟨B, R0, R2, R4⟩ := B0
  have E : EX h h := EX.rf B.2
  refine v_lload_n C 0 rfl rfl dX0_in_0 ?_
  refine v_lload_n C 1 rfl rfl dX0_in_1 ?_
  refine v_lcmp C R0 R2 dX0_in_2 ?_
  refine v_if_lt C 17 (lcR _ _) dX0_in_3 (by decide) (fun c1 => ?_) (fun c1 => ?_)
  · have F := F.1 (lc_lt.mp c1)
    refine v_iconst C dX0_in_17 ?_
    exact v_zret C (by decide) (Nat.le_refl _) (Nat.le_refl _) dX0_in_18 ⟨B, (by decide), F⟩
  · have F := F.2 (lc_ge.mp c1)
    refine v_lload_n C 0 rfl rfl dX0_in_6 ?_
    refine v_lload C 2 rfl dX0_in_7 ?_
    refine v_lcmp C R0 R4 dX0_in_9 ?_
    refine v_if_gt C 17 (lcR _ _) dX0_in_10 (by decide) (fun c2 => ?_) (fun c2 => ?_)
    · have F := F.1 (lc_gt.mp c2)
      refine v_iconst C dX0_in_17 ?_
      exact v_zret C (by decide) (Nat.le_refl _) (Nat.le_refl _) dX0_in_18 ⟨B, (by decide), F⟩
    · have F := F.2 (lc_le.mp c2)
      refine v_iconst C dX0_in_13 ?_
      refine v_goto C 18 dX0_in_14 (by decide) ?_
      exact v_zret C (by decide) (Nat.le_refl _) (Nat.le_refl _) dX0_in_18 ⟨B, (by decide), F⟩
set_option maxHeartbeats 1000000 in
theorem eX0_in {G : GT} {l : Launch} {x0 x2 x4 : Int} {h : Mem} {P : Int → Mem → Prop} (F : ∀ X : MX, Cx G X cX0_in 6 RX0 0 0 0 (some .boolean) "in" → X.2.1 = l → (EX h h ∧ R64 x0 ∧ R64 x2 ∧ R64 x4) →
    ((x0 < x2 → P 0 h) ∧ (x0 ≥ x2 → ((x0 > x4 → P 0 h) ∧ (x0 ≤ x4 → P 1 h))))) :
    kX0_in G l x0 x2 x4 h P := by
  intro R0 R2 R4
  refine ct_of (by decide +kernel) (Nat.le_of_ble_eq_true rfl) fun X C e => ?_
  refine v_okz fun O => ?_
  exact wX0_in_0 C ⟨EX.rf O, R0, R2, R4⟩ (F X C e ⟨EX.rf O, R0, R2, R4⟩)
def kX0_has (G : GT) (l : Launch) (x0 x1 : Int) (h : Mem) (P : Int → Mem → Prop) : Prop := R32 x0 → R32 x1 → Ct G l yX0_has cX0_has 2 (some .boolean) 0 0 0 0 [iv x0, iv x1] h (PZ h P)
set_option maxHeartbeats 4000000 in
theorem wX0_has_0 {G : GT} {X : MX} {h0 h : Mem} {P : Int → Mem → Prop} {x0 x1 : Int} (C : Cx G X cX0_has 2 RX0 0 0 0 (some .boolean) "has") (B0 : EX h0 h ∧ R32 x0 ∧ R32 x1)
    (F : ((bAnd (bShr x0 x1) 1 ≠ 1 → P 0 h) ∧ (bAnd (bShr x0 x1) 1 = 1 → P 1 h))) :
    V G X 2 0 0 (QF G X 0 0 0 (PZ h0 P)) 0 [(0, iv x0), (1, iv x1)] [] h := by
  obtain ⟨B, R0, R1⟩ := B0
  have E : EX h h := EX.rf B.2
  refine v_iload_n C 0 rfl rfl dX0_has_0 ?_
  refine v_iload_n C 1 rfl rfl dX0_has_1 ?_
  refine v_ishr C dX0_has_2 ?_
  refine v_iconst C dX0_has_3 ?_
  refine v_iand C dX0_has_4 ?_
  refine v_iconst C dX0_has_5 ?_
  refine v_icmp_ne C 13 (R32_toInt _) ⟨by decide, by decide⟩ dX0_has_6 (by decide) (fun c1 => ?_) (fun c1 => ?_)
  · have F := F.1 (c1)
    refine v_iconst C dX0_has_13 ?_
    exact v_zret C (by decide) (Nat.le_refl _) (Nat.le_refl _) dX0_has_14 ⟨B, (by decide), F⟩
  · have F := F.2 (c1)
    refine v_iconst C dX0_has_9 ?_
    refine v_goto C 14 dX0_has_10 (by decide) ?_
    exact v_zret C (by decide) (Nat.le_refl _) (Nat.le_refl _) dX0_has_14 ⟨B, (by decide), F⟩
set_option maxHeartbeats 1000000 in
theorem eX0_has {G : GT} {l : Launch} {x0 x1 : Int} {h : Mem} {P : Int → Mem → Prop} (F : ∀ X : MX, Cx G X cX0_has 2 RX0 0 0 0 (some .boolean) "has" → X.2.1 = l → (EX h h ∧ R32 x0 ∧ R32 x1) →
    ((bAnd (bShr x0 x1) 1 ≠ 1 → P 0 h) ∧ (bAnd (bShr x0 x1) 1 = 1 → P 1 h))) :
    kX0_has G l x0 x1 h P := by
  intro R0 R1
  refine ct_of (by decide +kernel) (Nat.le_of_ble_eq_true rfl) fun X C e => ?_
  refine v_okz fun O => ?_
  exact wX0_has_0 C ⟨EX.rf O, R0, R1⟩ (F X C e ⟨EX.rf O, R0, R1⟩)
def kJ8_bitCount (G : GT) (l : Launch) (x0 : Int) (h : Mem) (P : Int → Mem → Prop) : Prop := R32 x0 → Ct G l yJ8_bitCount cJ8_bitCount 1 (some .int) 0 0 0 0 [iv x0] h (PI h P)
set_option maxHeartbeats 4000000 in
theorem wJ8_bitCount_0 {G : GT} {X : MX} {h0 h : Mem} {P : Int → Mem → Prop} {x0 : Int} (C : Cx G X cJ8_bitCount 1 RJ8 0 0 0 (some .int) "bitCount") (B0 : EX h0 h ∧ R32 x0)
    (F : R32 (x0 - bAnd (bUshr x0 1) 1431655765) ∧ ∀ y2 : Int, y2 = x0 - bAnd (bUshr x0 1) 1431655765 → R32 (bAnd y2 858993459 + bAnd (bUshr y2 2) 858993459) ∧ ∀ y4 : Int, y4 = bAnd y2 858993459 + bAnd (bUshr y2 2) 858993459 → ∀ y5 : Int, y5 = bAnd (y4 + bUshr y4 4) 252645135 → R32 (y5 + bUshr y5 8) ∧ ∀ y7 : Int, y7 = y5 + bUshr y5 8 → R32 (y7 + bUshr y7 16) ∧ ∀ y9 : Int, y9 = y7 + bUshr y7 16 → P (bAnd y9 63) h) :
    V G X 1 0 0 (QF G X 0 0 0 (PI h0 P)) 0 [(0, iv x0)] [] h := by
  obtain ⟨B, R0⟩ := B0
  have E : EX h h := EX.rf B.2
  refine v_iload_n C 0 rfl rfl dJ8_bitCount_0 ?_
  refine v_iload_n C 0 rfl rfl dJ8_bitCount_1 ?_
  refine v_iconst C dJ8_bitCount_2 ?_
  refine v_iushr C dJ8_bitCount_3 ?_
  refine v_ldcw C (x := 1431655765) q1073 dJ8_bitCount_4 ?_
  refine v_iand C dJ8_bitCount_7 ?_
  refine v_isub C dJ8_bitCount_8 ?_
  obtain ⟨o1, F⟩ := F
  obtain ⟨y2, ey2⟩ : ∃ z : Int, z = x0 - bAnd (bUshr x0 1) 1431655765 := ⟨_, rfl⟩
  have F := F y2 ey2
  have Ry2 : R32 y2 := by rw [ey2]; exact o1
  refine v_istore_n C rfl (by decide) dJ8_bitCount_9 (lv2 := [(0, iv y2)]) (by rw [ey2]; rfl) ?_
  refine v_iload_n C 0 rfl rfl dJ8_bitCount_10 ?_
  refine v_ldcw C (x := 858993459) q1074 dJ8_bitCount_11 ?_
  refine v_iand C dJ8_bitCount_14 ?_
  refine v_iload_n C 0 rfl rfl dJ8_bitCount_15 ?_
  refine v_iconst C dJ8_bitCount_16 ?_
  refine v_iushr C dJ8_bitCount_17 ?_
  refine v_ldcw C (x := 858993459) q1074 dJ8_bitCount_18 ?_
  refine v_iand C dJ8_bitCount_21 ?_
  refine v_iadd C dJ8_bitCount_22 ?_
  obtain ⟨o3, F⟩ := F
  obtain ⟨y4, ey4⟩ : ∃ z : Int, z = bAnd y2 858993459 + bAnd (bUshr y2 2) 858993459 := ⟨_, rfl⟩
  have F := F y4 ey4
  have Ry4 : R32 y4 := by rw [ey4]; exact o3
  refine v_istore_n C rfl (by decide) dJ8_bitCount_23 (lv2 := [(0, iv y4)]) (by rw [ey4]; rfl) ?_
  refine v_iload_n C 0 rfl rfl dJ8_bitCount_24 ?_
  refine v_iload_n C 0 rfl rfl dJ8_bitCount_25 ?_
  refine v_iconst C dJ8_bitCount_26 ?_
  refine v_iushr C dJ8_bitCount_27 ?_
  refine v_iadd C dJ8_bitCount_28 ?_
  refine v_ldcw C (x := 252645135) q1075 dJ8_bitCount_29 ?_
  refine v_iand C dJ8_bitCount_32 ?_
  obtain ⟨y5, ey5⟩ : ∃ z : Int, z = bAnd (y4 + bUshr y4 4) 252645135 := ⟨_, rfl⟩
  have F := F y5 ey5
  have Ry5 : R32 y5 := by rw [ey5]; exact (R32_toInt _)
  refine v_istore_n C rfl (by decide) dJ8_bitCount_33 (lv2 := [(0, iv y5)]) (by rw [ey5]; rfl) ?_
  refine v_iload_n C 0 rfl rfl dJ8_bitCount_34 ?_
  refine v_iload_n C 0 rfl rfl dJ8_bitCount_35 ?_
  refine v_bipush C rfl dJ8_bitCount_36 ?_
  refine v_iushr C dJ8_bitCount_38 ?_
  refine v_iadd C dJ8_bitCount_39 ?_
  obtain ⟨o6, F⟩ := F
  obtain ⟨y7, ey7⟩ : ∃ z : Int, z = y5 + bUshr y5 8 := ⟨_, rfl⟩
  have F := F y7 ey7
  have Ry7 : R32 y7 := by rw [ey7]; exact o6
  refine v_istore_n C rfl (by decide) dJ8_bitCount_40 (lv2 := [(0, iv y7)]) (by rw [ey7]; rfl) ?_
  refine v_iload_n C 0 rfl rfl dJ8_bitCount_41 ?_
  refine v_iload_n C 0 rfl rfl dJ8_bitCount_42 ?_
  refine v_bipush C rfl dJ8_bitCount_43 ?_
  refine v_iushr C dJ8_bitCount_45 ?_
  refine v_iadd C dJ8_bitCount_46 ?_
  obtain ⟨o8, F⟩ := F
  obtain ⟨y9, ey9⟩ : ∃ z : Int, z = y7 + bUshr y7 16 := ⟨_, rfl⟩
  have F := F y9 ey9
  have Ry9 : R32 y9 := by rw [ey9]; exact o8
  refine v_istore_n C rfl (by decide) dJ8_bitCount_47 (lv2 := [(0, iv y9)]) (by rw [ey9]; rfl) ?_
  refine v_iload_n C 0 rfl rfl dJ8_bitCount_48 ?_
  refine v_bipush C rfl dJ8_bitCount_49 ?_
  refine v_iand C dJ8_bitCount_51 ?_
  exact v_iret C (Nat.le_refl _) (Nat.le_refl _) dJ8_bitCount_52 ⟨B, (R32_toInt _), F⟩
set_option maxHeartbeats 1000000 in
theorem eJ8_bitCount {G : GT} {l : Launch} {x0 : Int} {h : Mem} {P : Int → Mem → Prop} (F : ∀ X : MX, Cx G X cJ8_bitCount 1 RJ8 0 0 0 (some .int) "bitCount" → X.2.1 = l → (EX h h ∧ R32 x0) →
    R32 (x0 - bAnd (bUshr x0 1) 1431655765) ∧ ∀ y2 : Int, y2 = x0 - bAnd (bUshr x0 1) 1431655765 → R32 (bAnd y2 858993459 + bAnd (bUshr y2 2) 858993459) ∧ ∀ y4 : Int, y4 = bAnd y2 858993459 + bAnd (bUshr y2 2) 858993459 → ∀ y5 : Int, y5 = bAnd (y4 + bUshr y4 4) 252645135 → R32 (y5 + bUshr y5 8) ∧ ∀ y7 : Int, y7 = y5 + bUshr y5 8 → R32 (y7 + bUshr y7 16) ∧ ∀ y9 : Int, y9 = y7 + bUshr y7 16 → P (bAnd y9 63) h) :
    kJ8_bitCount G l x0 h P := by
  intro R0
  refine ct_of (by decide +kernel) (Nat.le_of_ble_eq_true rfl) fun X C e => ?_
  refine v_okz fun O => ?_
  exact wJ8_bitCount_0 C ⟨EX.rf O, R0⟩ (F X C e ⟨EX.rf O, R0⟩)
