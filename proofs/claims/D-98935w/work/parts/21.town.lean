/-! formulas of LatestCoat$Town -/
set_option maxRecDepth 100000
def kX1_bares (G : GT) (l : Launch) (x0 x1 : Int) (h : Mem) (P : Int → Mem → Prop) : Prop := R32 x1 → Ct G l yX1_bares cX1_bares 4 (some .int) 0 0 0 0 [rf x0, iv x1] h (PI h P)
set_option maxHeartbeats 4000000 in
theorem wX1_bares_0 {G : GT} {X : MX} {h0 h : Mem} {P : Int → Mem → Prop} {x0 x1 : Int} (C : Cx G X cX1_bares 4 RX1 0 0 0 (some .int) "bares") (B0 : EX h0 h ∧ R32 x1)
    (F : TownS h x0 ∧ 0 ≤ x1 ∧ x1 < 4 ∧ ∀ y3 : Int, y3 = h (x0 + 1) x1 → (EX h0 h ∧ R32 x1 ∧ R32 0 ∧ R32 y3 → V G X 4 0 0 (QF G X 0 0 0 (PI h0 P)) 9 [(0, rf x0), (1, iv x1), (2, iv 0), (3, iv y3)] [] h)) :
    V G X 4 0 0 (QF G X 0 0 0 (PI h0 P)) 0 [(0, rf x0), (1, iv x1)] [] h := by
  obtain ⟨B, R1⟩ := B0
  have E : EX h h := EX.rf B.2
  obtain ⟨S_x0, F⟩ := F
  refine v_iconst C dX1_bares_0 ?_
  refine v_istore_n C rfl (by decide) dX1_bares_1 (lv2 := [(2, iv 0), (0, rf x0), (1, iv x1)]) rfl ?_
  refine v_aload_n C 1 rfl rfl dX1_bares_2 ?_
  refine gX1_9 C (S_x0.ext E.1).k (S_x0.ext E.1).f13 dX1_bares_3 ?_
  refine v_iload_n C 2 rfl rfl dX1_bares_6 ?_
  obtain ⟨o1, F⟩ := F
  obtain ⟨o2, F⟩ := F
  refine v_iald C (S_x0.ext E.1).k13 o1 (by rw [(S_x0.ext E.1).l13]; exact o2) rfl dX1_bares_7 ?_
  obtain ⟨y3, ey3⟩ : ∃ z : Int, z = h (x0 + 1) x1 := ⟨_, rfl⟩
  have F := F y3 ey3
  have Ry3 : R32 y3 := by rw [ey3]; exact (EX.rI B (j := x1) (S_x0.ext E.1).k13 rfl)
  refine v_istore_n C rfl (by decide) dX1_bares_8 (lv2 := [(3, iv y3), (2, iv 0), (0, rf x0), (1, iv x1)]) (by rw [ey3]; rfl) ?_
  refine v_sub (lv2 := [(0, rf x0), (1, iv x1), (2, iv 0), (3, iv y3)]) [2, 3, 1, 0] rfl ?_
  exact F ⟨B, R1, ⟨by decide, by decide⟩, Ry3⟩
set_option maxHeartbeats 4000000 in
theorem wX1_bares_L9 {G : GT} {X : MX} {h0 h : Mem} {P : Int → Mem → Prop} {x0 x1 x2 x3 : Int} (C : Cx G X cX1_bares 4 RX1 0 0 0 (some .int) "bares") (B0 : EX h0 h ∧ R32 x1 ∧ R32 x2 ∧ R32 x3)
    (F : TownS h x0 ∧ 0 ≤ x1 ∧ x1 < 4 ∧ R32 (h (x0 + 1) x1 + h (x0 + 2) x1) ∧ ((x3 ≥ h (x0 + 1) x1 + h (x0 + 2) x1 → ∀ h5 : Mem, h5 = up h x0 12 (bOr (h x0 12) (bShl 1 x1)) → P x2 h5) ∧ (x3 < h (x0 + 1) x1 + h (x0 + 2) x1 → 0 ≤ x3 ∧ x3 < 16 ∧ R32 (x2 + h (x0 + 11) x3) ∧ ∀ y11 : Int, y11 = x2 + h (x0 + 11) x3 → ∀ h12 : Mem, h12 = up h (x0 + 11) x3 0 → R32 (x3 + 1) ∧ (EX h0 h12 ∧ R32 x1 ∧ R32 y11 ∧ R32 (x3 + 1) → V G X 4 0 0 (QF G X 0 0 0 (PI h0 P)) 9 [(0, rf x0), (1, iv x1), (2, iv y11), (3, iv (x3 + 1))] [] h12)))) :
    V G X 4 0 0 (QF G X 0 0 0 (PI h0 P)) 9 [(0, rf x0), (1, iv x1), (2, iv x2), (3, iv x3)] [] h := by
  obtain ⟨B, R1, R2, R3⟩ := B0
  have E : EX h h := EX.rf B.2
  obtain ⟨S_x0, F⟩ := F
  refine v_iload_n C 3 rfl rfl dX1_bares_9 ?_
  refine v_aload_n C 0 rfl rfl dX1_bares_10 ?_
  refine gX1_9 C (S_x0.ext E.1).k (S_x0.ext E.1).f13 dX1_bares_11 ?_
  refine v_iload_n C 1 rfl rfl dX1_bares_14 ?_
  obtain ⟨o1, F⟩ := F
  obtain ⟨o2, F⟩ := F
  refine v_iald C (S_x0.ext E.1).k13 o1 (by rw [(S_x0.ext E.1).l13]; exact o2) rfl dX1_bares_15 ?_
  refine v_aload_n C 0 rfl rfl dX1_bares_16 ?_
  refine gX1_15 C (S_x0.ext E.1).k (S_x0.ext E.1).f14 dX1_bares_17 ?_
  refine v_iload_n C 1 rfl rfl dX1_bares_20 ?_
  refine v_iald C (S_x0.ext E.1).k14 o1 (by rw [(S_x0.ext E.1).l14]; exact o2) rfl dX1_bares_21 ?_
  refine v_iadd C dX1_bares_22 ?_
  obtain ⟨o3, F⟩ := F
  refine v_icmp_ge C 48 R3 o3 dX1_bares_23 (by decide) (fun c4 => ?_) (fun c4 => ?_)
  · have F := F.1 (c4)
    refine v_aload_n C 0 rfl rfl dX1_bares_48 ?_
    refine v_dup C (rf_n1 _) dX1_bares_49 ?_
    refine gX1_111 C (S_x0.ext E.1).k rfl dX1_bares_50 ?_
    refine v_iconst C dX1_bares_53 ?_
    refine v_iload_n C 1 rfl rfl dX1_bares_54 ?_
    refine v_ishl C dX1_bares_55 ?_
    refine v_ior C dX1_bares_56 ?_
    refine pX1_111 C (S_x0.ext E.1).k (okI_i rfl (R32_toInt _)) dX1_bares_57 ?_
    obtain ⟨h5, eh5⟩ : ∃ m : Mem, m = up h x0 12 (bOr (h x0 12) (bShl 1 x1)) := ⟨_, rfl⟩
    have B6 : EX h0 h5 := by rw [eh5]; exact EX_up B (S_x0.ext E.1).k (by decide) rfl (by decide) (okI_i rfl (R32_toInt _))
    have E7 : EX h h5 := by rw [eh5]; exact EX_up E (S_x0.ext E.1).k (by decide) rfl (by decide) (okI_i rfl (R32_toInt _))
    refine v_mem eh5 ?_
    have F := F h5 eh5
    refine v_iload_n C 2 rfl rfl dX1_bares_60 ?_
    exact v_iret C (Nat.le_refl _) (Nat.le_refl _) dX1_bares_61 ⟨B6, R2, F⟩
  · have F := F.2 (c4)
    refine v_iload_n C 2 rfl rfl dX1_bares_26 ?_
    refine v_aload_n C 0 rfl rfl dX1_bares_27 ?_
    refine gX1_42 C (S_x0.ext E.1).k (S_x0.ext E.1).f23 dX1_bares_28 ?_
    refine v_iload_n C 3 rfl rfl dX1_bares_31 ?_
    obtain ⟨o8, F⟩ := F
    obtain ⟨o9, F⟩ := F
    refine v_iald C (S_x0.ext E.1).k23 o8 (by rw [(S_x0.ext E.1).l23]; exact o9) rfl dX1_bares_32 ?_
    refine v_iadd C dX1_bares_33 ?_
    obtain ⟨o10, F⟩ := F
    obtain ⟨y11, ey11⟩ : ∃ z : Int, z = x2 + h (x0 + 11) x3 := ⟨_, rfl⟩
    have F := F y11 ey11
    have Ry11 : R32 y11 := by rw [ey11]; exact o10
    refine v_istore_n C rfl (by decide) dX1_bares_34 (lv2 := [(2, iv y11), (0, rf x0), (1, iv x1), (3, iv x3)]) (by rw [ey11]; rfl) ?_
    refine v_aload_n C 1 rfl rfl dX1_bares_35 ?_
    refine gX1_42 C (S_x0.ext E.1).k (S_x0.ext E.1).f23 dX1_bares_36 ?_
    refine v_iload_n C 3 rfl rfl dX1_bares_39 ?_
    refine v_iconst C dX1_bares_40 ?_
    refine v_iast C (S_x0.ext E.1).k23 o8 (by rw [(S_x0.ext E.1).l23]; exact o9) ⟨by decide, by decide⟩ dX1_bares_41 ?_
    obtain ⟨h12, eh12⟩ : ∃ m : Mem, m = up h (x0 + 11) x3 0 := ⟨_, rfl⟩
    have B13 : EX h0 h12 := by rw [eh12]; exact EX_up B (S_x0.ext E.1).k23 (by decide) rfl o8 (okI_a (Or.inl rfl) ⟨by decide, by decide⟩)
    have E14 : EX h h12 := by rw [eh12]; exact EX_up E (S_x0.ext E.1).k23 (by decide) rfl o8 (okI_a (Or.inl rfl) ⟨by decide, by decide⟩)
    refine v_mem eh12 ?_
    have F := F h12 eh12
    obtain ⟨o15, F⟩ := F
    refine v_iinc C 3 rfl (by decide) dX1_bares_42 (lv2 := [(3, iv (x3 + 1)), (2, iv y11), (0, rf x0), (1, iv x1)]) rfl ?_
    refine v_goto C 9 dX1_bares_45 (by decide) ?_
    refine v_sub (lv2 := [(0, rf x0), (1, iv x1), (2, iv y11), (3, iv (x3 + 1))]) [2, 3, 1, 0] rfl ?_
    exact F ⟨B13, R1, Ry11, o15⟩
set_option maxHeartbeats 1000000 in
theorem eX1_bares {G : GT} {l : Launch} {x0 x1 : Int} {h : Mem} {P : Int → Mem → Prop} (F : ∀ X : MX, Cx G X cX1_bares 4 RX1 0 0 0 (some .int) "bares" → X.2.1 = l → (EX h h ∧ R32 x1) →
    TownS h x0 ∧ 0 ≤ x1 ∧ x1 < 4 ∧ ∀ y3 : Int, y3 = h (x0 + 1) x1 → (EX h h ∧ R32 x1 ∧ R32 0 ∧ R32 y3 → V G X 4 0 0 (QF G X 0 0 0 (PI h P)) 9 [(0, rf x0), (1, iv x1), (2, iv 0), (3, iv y3)] [] h)) :
    kX1_bares G l x0 x1 h P := by
  intro R1
  refine ct_of (by decide +kernel) (Nat.le_of_ble_eq_true rfl) fun X C e => ?_
  refine v_okz fun O => ?_
  exact wX1_bares_0 C ⟨EX.rf O, R1⟩ (F X C e ⟨EX.rf O, R1⟩)
def kX1_holder (G : GT) (l : Launch) (x0 x1 x2 : Int) (h : Mem) (P : Int → Mem → Prop) : Prop := R32 x1 → R32 x2 → Ct G l yX1_holder cX1_holder 6 (some .int) 0 0 0 0 [rf x0, iv x1, iv x2] h (PI h P)
set_option maxHeartbeats 4000000 in
theorem wX1_holder_0 {G : GT} {X : MX} {h0 h : Mem} {P : Int → Mem → Prop} {x0 x1 x2 : Int} (C : Cx G X cX1_holder 6 RX1 0 0 0 (some .int) "holder") (B0 : EX h0 h ∧ R32 x1 ∧ R32 x2)
    (F : (EX h0 h ∧ R32 x1 ∧ R32 x2 ∧ R32 (-1) ∧ R32 0 ∧ R32 0 → V G X 6 0 0 (QF G X 0 0 0 (PI h0 P)) 8 [(0, rf x0), (1, iv x1), (2, iv x2), (3, iv (-1)), (4, iv 0), (5, iv 0)] [] h)) :
    V G X 6 0 0 (QF G X 0 0 0 (PI h0 P)) 0 [(0, rf x0), (1, iv x1), (2, iv x2)] [] h := by
  obtain ⟨B, R1, R2⟩ := B0
  have E : EX h h := EX.rf B.2
  refine v_iconst C dX1_holder_0 ?_
  refine v_istore_n C rfl (by decide) dX1_holder_1 (lv2 := [(3, iv (-1)), (0, rf x0), (1, iv x1), (2, iv x2)]) rfl ?_
  refine v_iconst C dX1_holder_2 ?_
  refine v_istore C (by decide) dX1_holder_3 (lv2 := [(4, iv 0), (3, iv (-1)), (0, rf x0), (1, iv x1), (2, iv x2)]) rfl ?_
  refine v_iconst C dX1_holder_5 ?_
  refine v_istore C (by decide) dX1_holder_6 (lv2 := [(5, iv 0), (4, iv 0), (3, iv (-1)), (0, rf x0), (1, iv x1), (2, iv x2)]) rfl ?_
  refine v_sub (lv2 := [(0, rf x0), (1, iv x1), (2, iv x2), (3, iv (-1)), (4, iv 0), (5, iv 0)]) [3, 4, 5, 2, 1, 0] rfl ?_
  exact F ⟨B, R1, R2, ⟨by decide, by decide⟩, ⟨by decide, by decide⟩, ⟨by decide, by decide⟩⟩
set_option maxHeartbeats 4000000 in
theorem wX1_holder_L8 {G : GT} {X : MX} {h0 h : Mem} {P : Int → Mem → Prop} {x0 x1 x2 x3 x4 x5 : Int} (C : Cx G X cX1_holder 6 RX1 0 0 0 (some .int) "holder") (B0 : EX h0 h ∧ R32 x1 ∧ R32 x2 ∧ R32 x3 ∧ R32 x4 ∧ R32 x5)
    (F : TownS h x0 ∧ ((x5 ≥ h x0 5 → ((x4 = 0 → P (-1) h) ∧ (x4 ≠ 0 → P x3 h))) ∧ (x5 < h x0 5 → 0 ≤ x5 ∧ x5 < 4 ∧ 0 ≤ x1 ∧ x1 < 4 ∧ R32 (h (x0 + 17) x5 * 100) ∧ R32 (x2 * h (x0 + 2) x1) ∧ ((h (x0 + 17) x5 * 100 < x2 * h (x0 + 2) x1 → R32 (x5 + 1) ∧ (EX h0 h ∧ R32 x1 ∧ R32 x2 ∧ R32 x3 ∧ R32 x4 ∧ R32 (x5 + 1) → V G X 6 0 0 (QF G X 0 0 0 (PI h0 P)) 8 [(0, rf x0), (1, iv x1), (2, iv x2), (3, iv x3), (4, iv x4), (5, iv (x5 + 1))] [] h)) ∧ (h (x0 + 17) x5 * 100 ≥ x2 * h (x0 + 2) x1 → ((x3 = (-1) → ((x3 = (-1) → R32 (x5 + 1) ∧ (EX h0 h ∧ R32 x1 ∧ R32 x2 ∧ R32 x5 ∧ R32 1 ∧ R32 (x5 + 1) → V G X 6 0 0 (QF G X 0 0 0 (PI h0 P)) 8 [(0, rf x0), (1, iv x1), (2, iv x2), (3, iv x5), (4, iv 1), (5, iv (x5 + 1))] [] h)) ∧ (x3 ≠ (-1) → 0 ≤ x3 ∧ x3 < 4 ∧ ((h (x0 + 17) x5 ≤ h (x0 + 17) x3 → R32 (x5 + 1) ∧ (EX h0 h ∧ R32 x1 ∧ R32 x2 ∧ R32 x5 ∧ R32 0 ∧ R32 (x5 + 1) → V G X 6 0 0 (QF G X 0 0 0 (PI h0 P)) 8 [(0, rf x0), (1, iv x1), (2, iv x2), (3, iv x5), (4, iv 0), (5, iv (x5 + 1))] [] h)) ∧ (h (x0 + 17) x5 > h (x0 + 17) x3 → R32 (x5 + 1) ∧ (EX h0 h ∧ R32 x1 ∧ R32 x2 ∧ R32 x5 ∧ R32 1 ∧ R32 (x5 + 1) → V G X 6 0 0 (QF G X 0 0 0 (PI h0 P)) 8 [(0, rf x0), (1, iv x1), (2, iv x2), (3, iv x5), (4, iv 1), (5, iv (x5 + 1))] [] h)))))) ∧ (x3 ≠ (-1) → 0 ≤ x3 ∧ x3 < 4 ∧ ((h (x0 + 17) x5 ≥ h (x0 + 17) x3 → ((x3 = (-1) → R32 (x5 + 1) ∧ (EX h0 h ∧ R32 x1 ∧ R32 x2 ∧ R32 x5 ∧ R32 1 ∧ R32 (x5 + 1) → V G X 6 0 0 (QF G X 0 0 0 (PI h0 P)) 8 [(0, rf x0), (1, iv x1), (2, iv x2), (3, iv x5), (4, iv 1), (5, iv (x5 + 1))] [] h)) ∧ (x3 ≠ (-1) → ((h (x0 + 17) x5 ≤ h (x0 + 17) x3 → R32 (x5 + 1) ∧ (EX h0 h ∧ R32 x1 ∧ R32 x2 ∧ R32 x5 ∧ R32 0 ∧ R32 (x5 + 1) → V G X 6 0 0 (QF G X 0 0 0 (PI h0 P)) 8 [(0, rf x0), (1, iv x1), (2, iv x2), (3, iv x5), (4, iv 0), (5, iv (x5 + 1))] [] h)) ∧ (h (x0 + 17) x5 > h (x0 + 17) x3 → R32 (x5 + 1) ∧ (EX h0 h ∧ R32 x1 ∧ R32 x2 ∧ R32 x5 ∧ R32 1 ∧ R32 (x5 + 1) → V G X 6 0 0 (QF G X 0 0 0 (PI h0 P)) 8 [(0, rf x0), (1, iv x1), (2, iv x2), (3, iv x5), (4, iv 1), (5, iv (x5 + 1))] [] h)))))) ∧ (h (x0 + 17) x5 < h (x0 + 17) x3 → R32 (x5 + 1) ∧ (EX h0 h ∧ R32 x1 ∧ R32 x2 ∧ R32 x3 ∧ R32 x4 ∧ R32 (x5 + 1) → V G X 6 0 0 (QF G X 0 0 0 (PI h0 P)) 8 [(0, rf x0), (1, iv x1), (2, iv x2), (3, iv x3), (4, iv x4), (5, iv (x5 + 1))] [] h)))))))))) :
    V G X 6 0 0 (QF G X 0 0 0 (PI h0 P)) 8 [(0, rf x0), (1, iv x1), (2, iv x2), (3, iv x3), (4, iv x4), (5, iv x5)] [] h := by
  obtain ⟨B, R1, R2, R3, R4, R5⟩ := B0
  have E : EX h h := EX.rf B.2
  obtain ⟨S_x0, F⟩ := F
  refine v_iload C 5 rfl dX1_holder_8 ?_
  refine v_aload_n C 0 rfl rfl dX1_holder_10 ?_
  refine gX1_80 C (S_x0.ext E.1).k rfl dX1_holder_11 ?_
  refine v_icmp_ge C 99 R5 (EX.rI B (j := 5) (S_x0.ext E.1).k rfl) dX1_holder_14 (by decide) (fun c1 => ?_) (fun c1 => ?_)
  · have F := F.1 (c1)
    refine v_iload C 4 rfl dX1_holder_99 ?_
    refine v_if_eq C 108 R4 dX1_holder_101 (by decide) (fun c2 => ?_) (fun c2 => ?_)
    · have F := F.1 (c2)
      refine v_iconst C dX1_holder_108 ?_
      exact v_iret C (Nat.le_refl _) (Nat.le_refl _) dX1_holder_109 ⟨B, ⟨by decide, by decide⟩, F⟩
    · have F := F.2 (c2)
      refine v_iload_n C 3 rfl rfl dX1_holder_104 ?_
      refine v_goto C 109 dX1_holder_105 (by decide) ?_
      exact v_iret C (Nat.le_refl _) (Nat.le_refl _) dX1_holder_109 ⟨B, R3, F⟩
  · have F := F.2 (c1)
    refine v_aload_n C 0 rfl rfl dX1_holder_17 ?_
    refine gX1_61 C (S_x0.ext E.1).k (S_x0.ext E.1).f29 dX1_holder_18 ?_
    refine v_iload C 5 rfl dX1_holder_21 ?_
    obtain ⟨o3, F⟩ := F
    obtain ⟨o4, F⟩ := F
    refine v_iald C (S_x0.ext E.1).k29 o3 (by rw [(S_x0.ext E.1).l29]; exact o4) rfl dX1_holder_23 ?_
    refine v_bipush C rfl dX1_holder_24 ?_
    refine v_imul C dX1_holder_26 ?_
    refine v_iload_n C 2 rfl rfl dX1_holder_27 ?_
    refine v_aload_n C 0 rfl rfl dX1_holder_28 ?_
    refine gX1_15 C (S_x0.ext E.1).k (S_x0.ext E.1).f14 dX1_holder_29 ?_
    refine v_iload_n C 1 rfl rfl dX1_holder_32 ?_
    obtain ⟨o5, F⟩ := F
    obtain ⟨o6, F⟩ := F
    refine v_iald C (S_x0.ext E.1).k14 o5 (by rw [(S_x0.ext E.1).l14]; exact o6) rfl dX1_holder_33 ?_
    refine v_imul C dX1_holder_34 ?_
    obtain ⟨o7, F⟩ := F
    obtain ⟨o8, F⟩ := F
    refine v_icmp_lt C 93 o7 o8 dX1_holder_35 (by decide) (fun c9 => ?_) (fun c9 => ?_)
    · have F := F.1 (c9)
      obtain ⟨o10, F⟩ := F
      refine v_iinc C 5 rfl (by decide) dX1_holder_93 (lv2 := [(5, iv (x5 + 1)), (0, rf x0), (1, iv x1), (2, iv x2), (3, iv x3), (4, iv x4)]) rfl ?_
      refine v_goto C 8 dX1_holder_96 (by decide) ?_
      refine v_sub (lv2 := [(0, rf x0), (1, iv x1), (2, iv x2), (3, iv x3), (4, iv x4), (5, iv (x5 + 1))]) [1, 2, 3, 4, 5, 0] rfl ?_
      exact F ⟨B, R1, R2, R3, R4, o10⟩
    · have F := F.2 (c9)
      refine v_iload_n C 3 rfl rfl dX1_holder_38 ?_
      refine v_iconst C dX1_holder_39 ?_
      refine v_icmp_eq C 62 R3 ⟨by decide, by decide⟩ dX1_holder_40 (by decide) (fun c11 => ?_) (fun c11 => ?_)
      · have F := F.1 (c11)
        refine v_iload_n C 3 rfl rfl dX1_holder_62 ?_
        refine v_iconst C dX1_holder_63 ?_
        refine v_icmp_eq C 83 R3 ⟨by decide, by decide⟩ dX1_holder_64 (by decide) (fun c12 => ?_) (fun c12 => ?_)
        · have F := F.1 (c12)
          refine v_iconst C dX1_holder_83 ?_
          refine v_goto C 88 dX1_holder_84 (by decide) ?_
          refine v_istore C (by decide) dX1_holder_88 (lv2 := [(4, iv 1), (0, rf x0), (1, iv x1), (2, iv x2), (3, iv x3), (5, iv x5)]) rfl ?_
          refine v_iload C 5 rfl dX1_holder_90 ?_
          refine v_istore_n C rfl (by decide) dX1_holder_92 (lv2 := [(3, iv x5), (4, iv 1), (0, rf x0), (1, iv x1), (2, iv x2), (5, iv x5)]) rfl ?_
          obtain ⟨o13, F⟩ := F
          refine v_iinc C 5 rfl (by decide) dX1_holder_93 (lv2 := [(5, iv (x5 + 1)), (3, iv x5), (4, iv 1), (0, rf x0), (1, iv x1), (2, iv x2)]) rfl ?_
          refine v_goto C 8 dX1_holder_96 (by decide) ?_
          refine v_sub (lv2 := [(0, rf x0), (1, iv x1), (2, iv x2), (3, iv x5), (4, iv 1), (5, iv (x5 + 1))]) [3, 4, 5, 1, 2, 0] rfl ?_
          exact F ⟨B, R1, R2, R5, ⟨by decide, by decide⟩, o13⟩
        · have F := F.2 (c12)
          refine v_aload_n C 0 rfl rfl dX1_holder_67 ?_
          refine gX1_61 C (S_x0.ext E.1).k (S_x0.ext E.1).f29 dX1_holder_68 ?_
          refine v_iload C 5 rfl dX1_holder_71 ?_
          refine v_iald C (S_x0.ext E.1).k29 o3 (by rw [(S_x0.ext E.1).l29]; exact o4) rfl dX1_holder_73 ?_
          refine v_aload_n C 0 rfl rfl dX1_holder_74 ?_
          refine gX1_61 C (S_x0.ext E.1).k (S_x0.ext E.1).f29 dX1_holder_75 ?_
          refine v_iload_n C 3 rfl rfl dX1_holder_78 ?_
          obtain ⟨o14, F⟩ := F
          obtain ⟨o15, F⟩ := F
          refine v_iald C (S_x0.ext E.1).k29 o14 (by rw [(S_x0.ext E.1).l29]; exact o15) rfl dX1_holder_79 ?_
          refine v_icmp_le C 87 (EX.rI B (j := x5) (S_x0.ext E.1).k29 rfl) (EX.rI B (j := x3) (S_x0.ext E.1).k29 rfl) dX1_holder_80 (by decide) (fun c16 => ?_) (fun c16 => ?_)
          · have F := F.1 (c16)
            refine v_iconst C dX1_holder_87 ?_
            refine v_istore C (by decide) dX1_holder_88 (lv2 := [(4, iv 0), (0, rf x0), (1, iv x1), (2, iv x2), (3, iv x3), (5, iv x5)]) rfl ?_
            refine v_iload C 5 rfl dX1_holder_90 ?_
            refine v_istore_n C rfl (by decide) dX1_holder_92 (lv2 := [(3, iv x5), (4, iv 0), (0, rf x0), (1, iv x1), (2, iv x2), (5, iv x5)]) rfl ?_
            obtain ⟨o17, F⟩ := F
            refine v_iinc C 5 rfl (by decide) dX1_holder_93 (lv2 := [(5, iv (x5 + 1)), (3, iv x5), (4, iv 0), (0, rf x0), (1, iv x1), (2, iv x2)]) rfl ?_
            refine v_goto C 8 dX1_holder_96 (by decide) ?_
            refine v_sub (lv2 := [(0, rf x0), (1, iv x1), (2, iv x2), (3, iv x5), (4, iv 0), (5, iv (x5 + 1))]) [3, 4, 5, 1, 2, 0] rfl ?_
            exact F ⟨B, R1, R2, R5, ⟨by decide, by decide⟩, o17⟩
          · have F := F.2 (c16)
            refine v_iconst C dX1_holder_83 ?_
            refine v_goto C 88 dX1_holder_84 (by decide) ?_
            refine v_istore C (by decide) dX1_holder_88 (lv2 := [(4, iv 1), (0, rf x0), (1, iv x1), (2, iv x2), (3, iv x3), (5, iv x5)]) rfl ?_
            refine v_iload C 5 rfl dX1_holder_90 ?_
            refine v_istore_n C rfl (by decide) dX1_holder_92 (lv2 := [(3, iv x5), (4, iv 1), (0, rf x0), (1, iv x1), (2, iv x2), (5, iv x5)]) rfl ?_
            obtain ⟨o18, F⟩ := F
            refine v_iinc C 5 rfl (by decide) dX1_holder_93 (lv2 := [(5, iv (x5 + 1)), (3, iv x5), (4, iv 1), (0, rf x0), (1, iv x1), (2, iv x2)]) rfl ?_
            refine v_goto C 8 dX1_holder_96 (by decide) ?_
            refine v_sub (lv2 := [(0, rf x0), (1, iv x1), (2, iv x2), (3, iv x5), (4, iv 1), (5, iv (x5 + 1))]) [3, 4, 5, 1, 2, 0] rfl ?_
            exact F ⟨B, R1, R2, R5, ⟨by decide, by decide⟩, o18⟩
      · have F := F.2 (c11)
        refine v_aload_n C 0 rfl rfl dX1_holder_43 ?_
        refine gX1_61 C (S_x0.ext E.1).k (S_x0.ext E.1).f29 dX1_holder_44 ?_
        refine v_iload C 5 rfl dX1_holder_47 ?_
        refine v_iald C (S_x0.ext E.1).k29 o3 (by rw [(S_x0.ext E.1).l29]; exact o4) rfl dX1_holder_49 ?_
        refine v_aload_n C 0 rfl rfl dX1_holder_50 ?_
        refine gX1_61 C (S_x0.ext E.1).k (S_x0.ext E.1).f29 dX1_holder_51 ?_
        refine v_iload_n C 3 rfl rfl dX1_holder_54 ?_
        obtain ⟨o19, F⟩ := F
        obtain ⟨o20, F⟩ := F
        refine v_iald C (S_x0.ext E.1).k29 o19 (by rw [(S_x0.ext E.1).l29]; exact o20) rfl dX1_holder_55 ?_
        refine v_icmp_ge C 62 (EX.rI B (j := x5) (S_x0.ext E.1).k29 rfl) (EX.rI B (j := x3) (S_x0.ext E.1).k29 rfl) dX1_holder_56 (by decide) (fun c21 => ?_) (fun c21 => ?_)
        · have F := F.1 (c21)
          refine v_iload_n C 3 rfl rfl dX1_holder_62 ?_
          refine v_iconst C dX1_holder_63 ?_
          refine v_icmp_eq C 83 R3 ⟨by decide, by decide⟩ dX1_holder_64 (by decide) (fun c22 => ?_) (fun c22 => ?_)
          · have F := F.1 (c22)
            refine v_iconst C dX1_holder_83 ?_
            refine v_goto C 88 dX1_holder_84 (by decide) ?_
            refine v_istore C (by decide) dX1_holder_88 (lv2 := [(4, iv 1), (0, rf x0), (1, iv x1), (2, iv x2), (3, iv x3), (5, iv x5)]) rfl ?_
            refine v_iload C 5 rfl dX1_holder_90 ?_
            refine v_istore_n C rfl (by decide) dX1_holder_92 (lv2 := [(3, iv x5), (4, iv 1), (0, rf x0), (1, iv x1), (2, iv x2), (5, iv x5)]) rfl ?_
            obtain ⟨o23, F⟩ := F
            refine v_iinc C 5 rfl (by decide) dX1_holder_93 (lv2 := [(5, iv (x5 + 1)), (3, iv x5), (4, iv 1), (0, rf x0), (1, iv x1), (2, iv x2)]) rfl ?_
            refine v_goto C 8 dX1_holder_96 (by decide) ?_
            refine v_sub (lv2 := [(0, rf x0), (1, iv x1), (2, iv x2), (3, iv x5), (4, iv 1), (5, iv (x5 + 1))]) [3, 4, 5, 1, 2, 0] rfl ?_
            exact F ⟨B, R1, R2, R5, ⟨by decide, by decide⟩, o23⟩
          · have F := F.2 (c22)
            refine v_aload_n C 0 rfl rfl dX1_holder_67 ?_
            refine gX1_61 C (S_x0.ext E.1).k (S_x0.ext E.1).f29 dX1_holder_68 ?_
            refine v_iload C 5 rfl dX1_holder_71 ?_
            refine v_iald C (S_x0.ext E.1).k29 o3 (by rw [(S_x0.ext E.1).l29]; exact o4) rfl dX1_holder_73 ?_
            refine v_aload_n C 0 rfl rfl dX1_holder_74 ?_
            refine gX1_61 C (S_x0.ext E.1).k (S_x0.ext E.1).f29 dX1_holder_75 ?_
            refine v_iload_n C 3 rfl rfl dX1_holder_78 ?_
            refine v_iald C (S_x0.ext E.1).k29 o19 (by rw [(S_x0.ext E.1).l29]; exact o20) rfl dX1_holder_79 ?_
            refine v_icmp_le C 87 (EX.rI B (j := x5) (S_x0.ext E.1).k29 rfl) (EX.rI B (j := x3) (S_x0.ext E.1).k29 rfl) dX1_holder_80 (by decide) (fun c24 => ?_) (fun c24 => ?_)
            · have F := F.1 (c24)
              refine v_iconst C dX1_holder_87 ?_
              refine v_istore C (by decide) dX1_holder_88 (lv2 := [(4, iv 0), (0, rf x0), (1, iv x1), (2, iv x2), (3, iv x3), (5, iv x5)]) rfl ?_
              refine v_iload C 5 rfl dX1_holder_90 ?_
              refine v_istore_n C rfl (by decide) dX1_holder_92 (lv2 := [(3, iv x5), (4, iv 0), (0, rf x0), (1, iv x1), (2, iv x2), (5, iv x5)]) rfl ?_
              obtain ⟨o25, F⟩ := F
              refine v_iinc C 5 rfl (by decide) dX1_holder_93 (lv2 := [(5, iv (x5 + 1)), (3, iv x5), (4, iv 0), (0, rf x0), (1, iv x1), (2, iv x2)]) rfl ?_
              refine v_goto C 8 dX1_holder_96 (by decide) ?_
              refine v_sub (lv2 := [(0, rf x0), (1, iv x1), (2, iv x2), (3, iv x5), (4, iv 0), (5, iv (x5 + 1))]) [3, 4, 5, 1, 2, 0] rfl ?_
              exact F ⟨B, R1, R2, R5, ⟨by decide, by decide⟩, o25⟩
            · have F := F.2 (c24)
              refine v_iconst C dX1_holder_83 ?_
              refine v_goto C 88 dX1_holder_84 (by decide) ?_
              refine v_istore C (by decide) dX1_holder_88 (lv2 := [(4, iv 1), (0, rf x0), (1, iv x1), (2, iv x2), (3, iv x3), (5, iv x5)]) rfl ?_
              refine v_iload C 5 rfl dX1_holder_90 ?_
              refine v_istore_n C rfl (by decide) dX1_holder_92 (lv2 := [(3, iv x5), (4, iv 1), (0, rf x0), (1, iv x1), (2, iv x2), (5, iv x5)]) rfl ?_
              obtain ⟨o26, F⟩ := F
              refine v_iinc C 5 rfl (by decide) dX1_holder_93 (lv2 := [(5, iv (x5 + 1)), (3, iv x5), (4, iv 1), (0, rf x0), (1, iv x1), (2, iv x2)]) rfl ?_
              refine v_goto C 8 dX1_holder_96 (by decide) ?_
              refine v_sub (lv2 := [(0, rf x0), (1, iv x1), (2, iv x2), (3, iv x5), (4, iv 1), (5, iv (x5 + 1))]) [3, 4, 5, 1, 2, 0] rfl ?_
              exact F ⟨B, R1, R2, R5, ⟨by decide, by decide⟩, o26⟩
        · have F := F.2 (c21)
          refine v_goto C 93 dX1_holder_59 (by decide) ?_
          obtain ⟨o27, F⟩ := F
          refine v_iinc C 5 rfl (by decide) dX1_holder_93 (lv2 := [(5, iv (x5 + 1)), (0, rf x0), (1, iv x1), (2, iv x2), (3, iv x3), (4, iv x4)]) rfl ?_
          refine v_goto C 8 dX1_holder_96 (by decide) ?_
          refine v_sub (lv2 := [(0, rf x0), (1, iv x1), (2, iv x2), (3, iv x3), (4, iv x4), (5, iv (x5 + 1))]) [1, 2, 3, 4, 5, 0] rfl ?_
          exact F ⟨B, R1, R2, R3, R4, o27⟩
set_option maxHeartbeats 1000000 in
theorem eX1_holder {G : GT} {l : Launch} {x0 x1 x2 : Int} {h : Mem} {P : Int → Mem → Prop} (F : ∀ X : MX, Cx G X cX1_holder 6 RX1 0 0 0 (some .int) "holder" → X.2.1 = l → (EX h h ∧ R32 x1 ∧ R32 x2) →
    (EX h h ∧ R32 x1 ∧ R32 x2 ∧ R32 (-1) ∧ R32 0 ∧ R32 0 → V G X 6 0 0 (QF G X 0 0 0 (PI h P)) 8 [(0, rf x0), (1, iv x1), (2, iv x2), (3, iv (-1)), (4, iv 0), (5, iv 0)] [] h)) :
    kX1_holder G l x0 x1 x2 h P := by
  intro R1 R2
  refine ct_of (by decide +kernel) (Nat.le_of_ble_eq_true rfl) fun X C e => ?_
  refine v_okz fun O => ?_
  exact wX1_holder_0 C ⟨EX.rf O, R1, R2⟩ (F X C e ⟨EX.rf O, R1, R2⟩)
def kX1_isRain (G : GT) (l : Launch) (x0 x1 : Int) (h : Mem) (P : Int → Mem → Prop) : Prop := R32 x1 → Ct G l yX1_isRain cX1_isRain 3 (some .boolean) 0 0 0 0 [rf x0, iv x1] h (PZ h P)
set_option maxHeartbeats 4000000 in
theorem wX1_isRain_0 {G : GT} {X : MX} {h0 h : Mem} {P : Int → Mem → Prop} {x0 x1 : Int} (C : Cx G X cX1_isRain 3 RX1 0 0 0 (some .boolean) "isRain") (B0 : EX h0 h ∧ R32 x1)
    (F : (EX h0 h ∧ R32 x1 ∧ R32 0 → V G X 3 0 0 (QF G X 0 0 0 (PZ h0 P)) 2 [(0, rf x0), (1, iv x1), (2, iv 0)] [] h)) :
    V G X 3 0 0 (QF G X 0 0 0 (PZ h0 P)) 0 [(0, rf x0), (1, iv x1)] [] h := by
  obtain ⟨B, R1⟩ := B0
  have E : EX h h := EX.rf B.2
  refine v_iconst C dX1_isRain_0 ?_
  refine v_istore_n C rfl (by decide) dX1_isRain_1 (lv2 := [(2, iv 0), (0, rf x0), (1, iv x1)]) rfl ?_
  refine v_sub (lv2 := [(0, rf x0), (1, iv x1), (2, iv 0)]) [1, 2, 0] rfl ?_
  exact F ⟨B, R1, ⟨by decide, by decide⟩⟩
set_option maxHeartbeats 4000000 in
theorem wX1_isRain_L2 {G : GT} {X : MX} {h0 h : Mem} {P : Int → Mem → Prop} {x0 x1 x2 : Int} (C : Cx G X cX1_isRain 3 RX1 0 0 0 (some .boolean) "isRain") (B0 : EX h0 h ∧ R32 x1 ∧ R32 x2)
    (F : TownS h x0 ∧ ((x2 ≥ h x0 6 → P 0 h) ∧ (x2 < h x0 6 → 0 ≤ 2 * x2 ∧ 2 * x2 < 10 ∧ ((x1 < h (x0 + 9) (2 * x2) → R32 (x2 + 1) ∧ (EX h0 h ∧ R32 x1 ∧ R32 (x2 + 1) → V G X 3 0 0 (QF G X 0 0 0 (PZ h0 P)) 2 [(0, rf x0), (1, iv x1), (2, iv (x2 + 1))] [] h)) ∧ (x1 ≥ h (x0 + 9) (2 * x2) → 0 ≤ 2 * x2 + 1 ∧ 2 * x2 + 1 < 10 ∧ ((x1 > h (x0 + 9) (2 * x2 + 1) → R32 (x2 + 1) ∧ (EX h0 h ∧ R32 x1 ∧ R32 (x2 + 1) → V G X 3 0 0 (QF G X 0 0 0 (PZ h0 P)) 2 [(0, rf x0), (1, iv x1), (2, iv (x2 + 1))] [] h)) ∧ (x1 ≤ h (x0 + 9) (2 * x2 + 1) → P 1 h))))))) :
    V G X 3 0 0 (QF G X 0 0 0 (PZ h0 P)) 2 [(0, rf x0), (1, iv x1), (2, iv x2)] [] h := by
  obtain ⟨B, R1, R2⟩ := B0
  have E : EX h h := EX.rf B.2
  obtain ⟨S_x0, F⟩ := F
  refine v_iload_n C 2 rfl rfl dX1_isRain_2 ?_
  refine v_aload_n C 0 rfl rfl dX1_isRain_3 ?_
  refine gX1_83 C (S_x0.ext E.1).k rfl dX1_isRain_4 ?_
  refine v_icmp_ge C 44 R2 (EX.rI B (j := 6) (S_x0.ext E.1).k rfl) dX1_isRain_7 (by decide) (fun c1 => ?_) (fun c1 => ?_)
  · have F := F.1 (c1)
    refine v_iconst C dX1_isRain_44 ?_
    exact v_zret C (by decide) (Nat.le_refl _) (Nat.le_refl _) dX1_isRain_45 ⟨B, (by decide), F⟩
  · have F := F.2 (c1)
    refine v_iload_n C 1 rfl rfl dX1_isRain_10 ?_
    refine v_aload_n C 0 rfl rfl dX1_isRain_11 ?_
    refine gX1_36 C (S_x0.ext E.1).k (S_x0.ext E.1).f21 dX1_isRain_12 ?_
    refine v_iconst C dX1_isRain_15 ?_
    refine v_iload_n C 2 rfl rfl dX1_isRain_16 ?_
    refine v_imul C dX1_isRain_17 ?_
    obtain ⟨o2, F⟩ := F
    obtain ⟨o3, F⟩ := F
    refine v_iald C (S_x0.ext E.1).k21 o2 (by rw [(S_x0.ext E.1).l21]; exact o3) rfl dX1_isRain_18 ?_
    refine v_icmp_lt C 38 R1 (EX.rI B (j := 2 * x2) (S_x0.ext E.1).k21 rfl) dX1_isRain_19 (by decide) (fun c4 => ?_) (fun c4 => ?_)
    · have F := F.1 (c4)
      obtain ⟨o5, F⟩ := F
      refine v_iinc C 2 rfl (by decide) dX1_isRain_38 (lv2 := [(2, iv (x2 + 1)), (0, rf x0), (1, iv x1)]) rfl ?_
      refine v_goto C 2 dX1_isRain_41 (by decide) ?_
      refine v_sub (lv2 := [(0, rf x0), (1, iv x1), (2, iv (x2 + 1))]) [1, 2, 0] rfl ?_
      exact F ⟨B, R1, o5⟩
    · have F := F.2 (c4)
      refine v_iload_n C 1 rfl rfl dX1_isRain_22 ?_
      refine v_aload_n C 0 rfl rfl dX1_isRain_23 ?_
      refine gX1_36 C (S_x0.ext E.1).k (S_x0.ext E.1).f21 dX1_isRain_24 ?_
      refine v_iconst C dX1_isRain_27 ?_
      refine v_iload_n C 2 rfl rfl dX1_isRain_28 ?_
      refine v_imul C dX1_isRain_29 ?_
      refine v_iconst C dX1_isRain_30 ?_
      refine v_iadd C dX1_isRain_31 ?_
      obtain ⟨o6, F⟩ := F
      obtain ⟨o7, F⟩ := F
      refine v_iald C (S_x0.ext E.1).k21 o6 (by rw [(S_x0.ext E.1).l21]; exact o7) rfl dX1_isRain_32 ?_
      refine v_icmp_gt C 38 R1 (EX.rI B (j := 2 * x2 + 1) (S_x0.ext E.1).k21 rfl) dX1_isRain_33 (by decide) (fun c8 => ?_) (fun c8 => ?_)
      · have F := F.1 (c8)
        obtain ⟨o9, F⟩ := F
        refine v_iinc C 2 rfl (by decide) dX1_isRain_38 (lv2 := [(2, iv (x2 + 1)), (0, rf x0), (1, iv x1)]) rfl ?_
        refine v_goto C 2 dX1_isRain_41 (by decide) ?_
        refine v_sub (lv2 := [(0, rf x0), (1, iv x1), (2, iv (x2 + 1))]) [1, 2, 0] rfl ?_
        exact F ⟨B, R1, o9⟩
      · have F := F.2 (c8)
        refine v_iconst C dX1_isRain_36 ?_
        exact v_zret C (by decide) (Nat.le_refl _) (Nat.le_refl _) dX1_isRain_37 ⟨B, (by decide), F⟩
set_option maxHeartbeats 1000000 in
theorem eX1_isRain {G : GT} {l : Launch} {x0 x1 : Int} {h : Mem} {P : Int → Mem → Prop} (F : ∀ X : MX, Cx G X cX1_isRain 3 RX1 0 0 0 (some .boolean) "isRain" → X.2.1 = l → (EX h h ∧ R32 x1) →
    (EX h h ∧ R32 x1 ∧ R32 0 → V G X 3 0 0 (QF G X 0 0 0 (PZ h P)) 2 [(0, rf x0), (1, iv x1), (2, iv 0)] [] h)) :
    kX1_isRain G l x0 x1 h P := by
  intro R1
  refine ct_of (by decide +kernel) (Nat.le_of_ble_eq_true rfl) fun X C e => ?_
  refine v_okz fun O => ?_
  exact wX1_isRain_0 C ⟨EX.rf O, R1⟩ (F X C e ⟨EX.rf O, R1⟩)
def kX1_isWet (G : GT) (l : Launch) (x0 x1 : Int) (h : Mem) (P : Int → Mem → Prop) : Prop := R32 x1 → Ct G l yX1_isWet cX1_isWet 2 (some .boolean) 0 0 0 0 [rf x0, iv x1] h (PZ h P)
set_option maxHeartbeats 4000000 in
theorem wX1_isWet_0 {G : GT} {X : MX} {h0 h : Mem} {P : Int → Mem → Prop} {x0 x1 : Int} (C : Cx G X cX1_isWet 2 RX1 0 0 0 (some .boolean) "isWet") (B0 : EX h0 h ∧ R32 x1)
    (F : TownS h x0 ∧ 0 ≤ x1 ∧ x1 < 16 ∧ ((h (x0 + 11) x1 ≤ 0 → P 0 h) ∧ (h (x0 + 11) x1 > 0 → 0 ≤ 5 * x1 + h (x0 + 11) x1 - 1 ∧ 5 * x1 + h (x0 + 11) x1 - 1 < 80 ∧ R32 (h (x0 + 13) (5 * x1 + h (x0 + 11) x1 - 1) + h x0 0) ∧ ((h x0 11 ≥ h (x0 + 13) (5 * x1 + h (x0 + 11) x1 - 1) + h x0 0 → P 0 h) ∧ (h x0 11 < h (x0 + 13) (5 * x1 + h (x0 + 11) x1 - 1) + h x0 0 → P 1 h))))) :
    V G X 2 0 0 (QF G X 0 0 0 (PZ h0 P)) 0 [(0, rf x0), (1, iv x1)] [] h := by
  obtain ⟨B, R1⟩ := B0
  have E : EX h h := EX.rf B.2
  obtain ⟨S_x0, F⟩ := F
  refine v_aload_n C 0 rfl rfl dX1_isWet_0 ?_
  refine gX1_42 C (S_x0.ext E.1).k (S_x0.ext E.1).f23 dX1_isWet_1 ?_
  refine v_iload_n C 1 rfl rfl dX1_isWet_4 ?_
  obtain ⟨o1, F⟩ := F
  obtain ⟨o2, F⟩ := F
  refine v_iald C (S_x0.ext E.1).k23 o1 (by rw [(S_x0.ext E.1).l23]; exact o2) rfl dX1_isWet_5 ?_
  refine v_if_le C 42 (EX.rI B (j := x1) (S_x0.ext E.1).k23 rfl) dX1_isWet_6 (by decide) (fun c3 => ?_) (fun c3 => ?_)
  · have F := F.1 (c3)
    refine v_iconst C dX1_isWet_42 ?_
    exact v_zret C (by decide) (Nat.le_refl _) (Nat.le_refl _) dX1_isWet_43 ⟨B, (by decide), F⟩
  · have F := F.2 (c3)
    refine v_aload_n C 0 rfl rfl dX1_isWet_9 ?_
    refine gX1_108 C (S_x0.ext E.1).k rfl dX1_isWet_10 ?_
    refine v_aload_n C 0 rfl rfl dX1_isWet_13 ?_
    refine gX1_48 C (S_x0.ext E.1).k (S_x0.ext E.1).f25 dX1_isWet_14 ?_
    refine v_iconst C dX1_isWet_17 ?_
    refine v_iload_n C 1 rfl rfl dX1_isWet_18 ?_
    refine v_imul C dX1_isWet_19 ?_
    refine v_aload_n C 0 rfl rfl dX1_isWet_20 ?_
    refine gX1_42 C (S_x0.ext E.1).k (S_x0.ext E.1).f23 dX1_isWet_21 ?_
    refine v_iload_n C 1 rfl rfl dX1_isWet_24 ?_
    refine v_iald C (S_x0.ext E.1).k23 o1 (by rw [(S_x0.ext E.1).l23]; exact o2) rfl dX1_isWet_25 ?_
    refine v_iadd C dX1_isWet_26 ?_
    refine v_iconst C dX1_isWet_27 ?_
    refine v_isub C dX1_isWet_28 ?_
    obtain ⟨o4, F⟩ := F
    obtain ⟨o5, F⟩ := F
    refine v_iald C (S_x0.ext E.1).k25 o4 (by rw [(S_x0.ext E.1).l25]; exact o5) rfl dX1_isWet_29 ?_
    refine v_aload_n C 0 rfl rfl dX1_isWet_30 ?_
    refine gX1_64 C (S_x0.ext E.1).k rfl dX1_isWet_31 ?_
    refine v_iadd C dX1_isWet_34 ?_
    obtain ⟨o6, F⟩ := F
    refine v_icmp_ge C 42 (EX.rI B (j := 11) (S_x0.ext E.1).k rfl) o6 dX1_isWet_35 (by decide) (fun c7 => ?_) (fun c7 => ?_)
    · have F := F.1 (c7)
      refine v_iconst C dX1_isWet_42 ?_
      exact v_zret C (by decide) (Nat.le_refl _) (Nat.le_refl _) dX1_isWet_43 ⟨B, (by decide), F⟩
    · have F := F.2 (c7)
      refine v_iconst C dX1_isWet_38 ?_
      refine v_goto C 43 dX1_isWet_39 (by decide) ?_
      exact v_zret C (by decide) (Nat.le_refl _) (Nat.le_refl _) dX1_isWet_43 ⟨B, (by decide), F⟩
set_option maxHeartbeats 1000000 in
theorem eX1_isWet {G : GT} {l : Launch} {x0 x1 : Int} {h : Mem} {P : Int → Mem → Prop} (F : ∀ X : MX, Cx G X cX1_isWet 2 RX1 0 0 0 (some .boolean) "isWet" → X.2.1 = l → (EX h h ∧ R32 x1) →
    TownS h x0 ∧ 0 ≤ x1 ∧ x1 < 16 ∧ ((h (x0 + 11) x1 ≤ 0 → P 0 h) ∧ (h (x0 + 11) x1 > 0 → 0 ≤ 5 * x1 + h (x0 + 11) x1 - 1 ∧ 5 * x1 + h (x0 + 11) x1 - 1 < 80 ∧ R32 (h (x0 + 13) (5 * x1 + h (x0 + 11) x1 - 1) + h x0 0) ∧ ((h x0 11 ≥ h (x0 + 13) (5 * x1 + h (x0 + 11) x1 - 1) + h x0 0 → P 0 h) ∧ (h x0 11 < h (x0 + 13) (5 * x1 + h (x0 + 11) x1 - 1) + h x0 0 → P 1 h))))) :
    kX1_isWet G l x0 x1 h P := by
  intro R1
  refine ct_of (by decide +kernel) (Nat.le_of_ble_eq_true rfl) fun X C e => ?_
  refine v_okz fun O => ?_
  exact wX1_isWet_0 C ⟨EX.rf O, R1⟩ (F X C e ⟨EX.rf O, R1⟩)
def kX1_ownerAt (G : GT) (l : Launch) (x0 x1 x2 x3 : Int) (h : Mem) (P : Int → Mem → Prop) : Prop := R32 x1 → R32 x2 → R32 x3 → Ct G l yX1_ownerAt cX1_ownerAt 6 (some .int) 0 0 0 0 [rf x0, iv x1, iv x2, iv x3] h (PI h P)
set_option maxHeartbeats 4000000 in
theorem wX1_ownerAt_0 {G : GT} {X : MX} {h0 h : Mem} {P : Int → Mem → Prop} {x0 x1 x2 x3 : Int} (C : Cx G X cX1_ownerAt 6 RX1 0 0 0 (some .int) "ownerAt") (B0 : EX h0 h ∧ R32 x1 ∧ R32 x2 ∧ R32 x3)
    (F : TownS h x0 ∧ 0 ≤ x1 ∧ x1 < 16 ∧ R32 (h (x0 + 11) x1 - 1) ∧ ∀ y4 : Int, y4 = h (x0 + 11) x1 - 1 → (EX h0 h ∧ R32 x1 ∧ R32 x2 ∧ R32 x3 ∧ R32 y4 → V G X 6 0 0 (QF G X 0 0 0 (PI h0 P)) 10 [(0, rf x0), (1, iv x1), (2, iv x2), (3, iv x3), (4, iv y4)] [] h)) :
    V G X 6 0 0 (QF G X 0 0 0 (PI h0 P)) 0 [(0, rf x0), (1, iv x1), (2, iv x2), (3, iv x3)] [] h := by
  obtain ⟨B, R1, R2, R3⟩ := B0
  have E : EX h h := EX.rf B.2
  obtain ⟨S_x0, F⟩ := F
  refine v_aload_n C 0 rfl rfl dX1_ownerAt_0 ?_
  refine gX1_42 C (S_x0.ext E.1).k (S_x0.ext E.1).f23 dX1_ownerAt_1 ?_
  refine v_iload_n C 1 rfl rfl dX1_ownerAt_4 ?_
  obtain ⟨o1, F⟩ := F
  obtain ⟨o2, F⟩ := F
  refine v_iald C (S_x0.ext E.1).k23 o1 (by rw [(S_x0.ext E.1).l23]; exact o2) rfl dX1_ownerAt_5 ?_
  refine v_iconst C dX1_ownerAt_6 ?_
  refine v_isub C dX1_ownerAt_7 ?_
  obtain ⟨o3, F⟩ := F
  obtain ⟨y4, ey4⟩ : ∃ z : Int, z = h (x0 + 11) x1 - 1 := ⟨_, rfl⟩
  have F := F y4 ey4
  have Ry4 : R32 y4 := by rw [ey4]; exact o3
  refine v_istore C (by decide) dX1_ownerAt_8 (lv2 := [(4, iv y4), (0, rf x0), (1, iv x1), (2, iv x2), (3, iv x3)]) (by rw [ey4]; rfl) ?_
  refine v_sub (lv2 := [(0, rf x0), (1, iv x1), (2, iv x2), (3, iv x3), (4, iv y4)]) [1, 2, 3, 4, 0] rfl ?_
  exact F ⟨B, R1, R2, R3, Ry4⟩
set_option maxHeartbeats 4000000 in
theorem wX1_ownerAt_L10 {G : GT} {X : MX} {h0 h : Mem} {P : Int → Mem → Prop} {x0 x1 x2 x3 x4 : Int} (C : Cx G X cX1_ownerAt 6 RX1 0 0 0 (some .int) "ownerAt") (B0 : EX h0 h ∧ R32 x1 ∧ R32 x2 ∧ R32 x3 ∧ R32 x4)
    (F : TownS h x0 ∧ ((x4 < 0 → P (-1) h) ∧ (x4 ≥ 0 → R32 (5 * x1 + x4) ∧ ∀ y3 : Int, y3 = 5 * x1 + x4 → 0 ≤ y3 ∧ y3 < 80 ∧ ((h (x0 + 13) y3 < x3 → R32 (h (x0 + 13) y3 + h x0 0) ∧ ((x2 < h (x0 + 13) y3 + h x0 0 → ((h x0 7 ≠ 1 → R32 (x4 + (-1)) ∧ (EX h0 h ∧ R32 x1 ∧ R32 x2 ∧ R32 x3 ∧ R32 (x4 + (-1)) → V G X 6 0 0 (QF G X 0 0 0 (PI h0 P)) 10 [(0, rf x0), (1, iv x1), (2, iv x2), (3, iv x3), (4, iv (x4 + (-1)))] [] h)) ∧ (h x0 7 = 1 → P (-1) h))) ∧ (x2 ≥ h (x0 + 13) y3 + h x0 0 → P (h (x0 + 12) y3) h))) ∧ (h (x0 + 13) y3 ≥ x3 → R32 (x4 + (-1)) ∧ (EX h0 h ∧ R32 x1 ∧ R32 x2 ∧ R32 x3 ∧ R32 (x4 + (-1)) → V G X 6 0 0 (QF G X 0 0 0 (PI h0 P)) 10 [(0, rf x0), (1, iv x1), (2, iv x2), (3, iv x3), (4, iv (x4 + (-1)))] [] h)))))) :
    V G X 6 0 0 (QF G X 0 0 0 (PI h0 P)) 10 [(0, rf x0), (1, iv x1), (2, iv x2), (3, iv x3), (4, iv x4)] [] h := by
  obtain ⟨B, R1, R2, R3, R4⟩ := B0
  have E : EX h h := EX.rf B.2
  obtain ⟨S_x0, F⟩ := F
  refine v_iload C 4 rfl dX1_ownerAt_10 ?_
  refine v_if_lt C 77 R4 dX1_ownerAt_12 (by decide) (fun c1 => ?_) (fun c1 => ?_)
  · have F := F.1 (c1)
    refine v_iconst C dX1_ownerAt_77 ?_
    exact v_iret C (Nat.le_refl _) (Nat.le_refl _) dX1_ownerAt_78 ⟨B, ⟨by decide, by decide⟩, F⟩
  · have F := F.2 (c1)
    refine v_iconst C dX1_ownerAt_15 ?_
    refine v_iload_n C 1 rfl rfl dX1_ownerAt_16 ?_
    refine v_imul C dX1_ownerAt_17 ?_
    refine v_iload C 4 rfl dX1_ownerAt_18 ?_
    refine v_iadd C dX1_ownerAt_20 ?_
    obtain ⟨o2, F⟩ := F
    obtain ⟨y3, ey3⟩ : ∃ z : Int, z = 5 * x1 + x4 := ⟨_, rfl⟩
    have F := F y3 ey3
    have Ry3 : R32 y3 := by rw [ey3]; exact o2
    refine v_istore C (by decide) dX1_ownerAt_21 (lv2 := [(5, iv y3), (0, rf x0), (1, iv x1), (2, iv x2), (3, iv x3), (4, iv x4)]) (by rw [ey3]; rfl) ?_
    refine v_aload_n C 1 rfl rfl dX1_ownerAt_23 ?_
    refine gX1_48 C (S_x0.ext E.1).k (S_x0.ext E.1).f25 dX1_ownerAt_24 ?_
    refine v_iload C 0 rfl dX1_ownerAt_27 ?_
    obtain ⟨o4, F⟩ := F
    obtain ⟨o5, F⟩ := F
    refine v_iald C (S_x0.ext E.1).k25 o4 (by rw [(S_x0.ext E.1).l25]; exact o5) rfl dX1_ownerAt_29 ?_
    refine v_iload_n C 4 rfl rfl dX1_ownerAt_30 ?_
    refine v_icmp_lt C 37 (EX.rI B (j := y3) (S_x0.ext E.1).k25 rfl) R3 dX1_ownerAt_31 (by decide) (fun c6 => ?_) (fun c6 => ?_)
    · have F := F.1 (c6)
      refine v_iload_n C 3 rfl rfl dX1_ownerAt_37 ?_
      refine v_aload_n C 1 rfl rfl dX1_ownerAt_38 ?_
      refine gX1_48 C (S_x0.ext E.1).k (S_x0.ext E.1).f25 dX1_ownerAt_39 ?_
      refine v_iload C 0 rfl dX1_ownerAt_42 ?_
      refine v_iald C (S_x0.ext E.1).k25 o4 (by rw [(S_x0.ext E.1).l25]; exact o5) rfl dX1_ownerAt_44 ?_
      refine v_aload_n C 1 rfl rfl dX1_ownerAt_45 ?_
      refine gX1_64 C (S_x0.ext E.1).k rfl dX1_ownerAt_46 ?_
      refine v_iadd C dX1_ownerAt_49 ?_
      obtain ⟨o7, F⟩ := F
      refine v_icmp_lt C 61 R2 o7 dX1_ownerAt_50 (by decide) (fun c8 => ?_) (fun c8 => ?_)
      · have F := F.1 (c8)
        refine v_aload_n C 1 rfl rfl dX1_ownerAt_61 ?_
        refine gX1_86 C (S_x0.ext E.1).k rfl dX1_ownerAt_62 ?_
        refine v_iconst C dX1_ownerAt_65 ?_
        refine v_icmp_ne C 71 (EX.rI B (j := 7) (S_x0.ext E.1).k rfl) ⟨by decide, by decide⟩ dX1_ownerAt_66 (by decide) (fun c9 => ?_) (fun c9 => ?_)
        · have F := F.1 (c9)
          obtain ⟨o10, F⟩ := F
          refine v_iinc C 5 rfl (by decide) dX1_ownerAt_71 (lv2 := [(4, iv (x4 + (-1))), (5, iv y3), (0, rf x0), (1, iv x1), (2, iv x2), (3, iv x3)]) rfl ?_
          refine v_goto C 10 dX1_ownerAt_74 (by decide) ?_
          refine v_sub (lv2 := [(0, rf x0), (1, iv x1), (2, iv x2), (3, iv x3), (4, iv (x4 + (-1)))]) [2, 3, 4, 5, 0] rfl ?_
          exact F ⟨B, R1, R2, R3, o10⟩
        · have F := F.2 (c9)
          refine v_iconst C dX1_ownerAt_69 ?_
          exact v_iret C (Nat.le_refl _) (Nat.le_refl _) dX1_ownerAt_70 ⟨B, ⟨by decide, by decide⟩, F⟩
      · have F := F.2 (c8)
        refine v_aload_n C 1 rfl rfl dX1_ownerAt_53 ?_
        refine gX1_45 C (S_x0.ext E.1).k (S_x0.ext E.1).f24 dX1_ownerAt_54 ?_
        refine v_iload C 0 rfl dX1_ownerAt_57 ?_
        refine v_iald C (S_x0.ext E.1).k24 o4 (by rw [(S_x0.ext E.1).l24]; exact o5) rfl dX1_ownerAt_59 ?_
        exact v_iret C (Nat.le_refl _) (Nat.le_refl _) dX1_ownerAt_60 ⟨B, (EX.rI B (j := y3) (S_x0.ext E.1).k24 rfl), F⟩
    · have F := F.2 (c6)
      refine v_goto C 71 dX1_ownerAt_34 (by decide) ?_
      obtain ⟨o11, F⟩ := F
      refine v_iinc C 5 rfl (by decide) dX1_ownerAt_71 (lv2 := [(4, iv (x4 + (-1))), (5, iv y3), (0, rf x0), (1, iv x1), (2, iv x2), (3, iv x3)]) rfl ?_
      refine v_goto C 10 dX1_ownerAt_74 (by decide) ?_
      refine v_sub (lv2 := [(0, rf x0), (1, iv x1), (2, iv x2), (3, iv x3), (4, iv (x4 + (-1)))]) [2, 3, 4, 5, 0] rfl ?_
      exact F ⟨B, R1, R2, R3, o11⟩
set_option maxHeartbeats 1000000 in
theorem eX1_ownerAt {G : GT} {l : Launch} {x0 x1 x2 x3 : Int} {h : Mem} {P : Int → Mem → Prop} (F : ∀ X : MX, Cx G X cX1_ownerAt 6 RX1 0 0 0 (some .int) "ownerAt" → X.2.1 = l → (EX h h ∧ R32 x1 ∧ R32 x2 ∧ R32 x3) →
    TownS h x0 ∧ 0 ≤ x1 ∧ x1 < 16 ∧ R32 (h (x0 + 11) x1 - 1) ∧ ∀ y4 : Int, y4 = h (x0 + 11) x1 - 1 → (EX h h ∧ R32 x1 ∧ R32 x2 ∧ R32 x3 ∧ R32 y4 → V G X 6 0 0 (QF G X 0 0 0 (PI h P)) 10 [(0, rf x0), (1, iv x1), (2, iv x2), (3, iv x3), (4, iv y4)] [] h)) :
    kX1_ownerAt G l x0 x1 x2 x3 h P := by
  intro R1 R2 R3
  refine ct_of (by decide +kernel) (Nat.le_of_ble_eq_true rfl) fun X C e => ?_
  refine v_okz fun O => ?_
  exact wX1_ownerAt_0 C ⟨EX.rf O, R1, R2, R3⟩ (F X C e ⟨EX.rf O, R1, R2, R3⟩)
def kX1_putsCoat (G : GT) (l : Launch) (x0 x1 x2 x3 : Int) (h : Mem) (P : Int → Mem → Prop) : Prop := R32 x1 → R32 x2 → R32 x3 → Ct G l yX1_putsCoat cX1_putsCoat 6 none 3 0 0 0 [rf x0, iv x1, iv x2, iv x3] h (PR h P)
set_option maxHeartbeats 4000000 in
theorem wX1_putsCoat_0 {G : GT} {X : MX} {h0 h : Mem} {P : Int → Mem → Prop} {x0 x1 x2 x3 : Int} (C : Cx G X cX1_putsCoat 6 RX1 0 0 0 none "putsCoat") (B0 : EX h0 h ∧ R32 x1 ∧ R32 x2 ∧ R32 x3)
    (F : TownS h x0 ∧ R32 (5 * x1) ∧ ∀ y2 : Int, y2 = 5 * x1 → 0 ≤ x1 ∧ x1 < 16 ∧ ((h (x0 + 11) x1 ≠ 5 → 0 ≤ y2 + h (x0 + 11) x1 ∧ y2 + h (x0 + 11) x1 < 80 ∧ ∀ h8 : Mem, h8 = up h (x0 + 12) (y2 + h (x0 + 11) x1) x2 → ∀ h11 : Mem, h11 = up h8 (x0 + 13) (y2 + h (x0 + 11) x1) x3 → R32 (h (x0 + 11) x1 + 1) ∧ ∀ h15 : Mem, h15 = up h11 (x0 + 11) x1 (h (x0 + 11) x1 + 1) → P 0 h15) ∧ (h (x0 + 11) x1 = 5 → (EX h0 h ∧ R32 x1 ∧ R32 x2 ∧ R32 x3 ∧ R32 y2 ∧ R32 1 → V G X 6 0 0 (QF G X 3 0 0 (PR h0 P)) 18 [(0, rf x0), (1, iv x1), (2, iv x2), (3, iv x3), (4, iv y2), (5, iv 1)] [] h)))) :
    V G X 6 0 0 (QF G X 3 0 0 (PR h0 P)) 0 [(0, rf x0), (1, iv x1), (2, iv x2), (3, iv x3)] [] h := by
  obtain ⟨B, R1, R2, R3⟩ := B0
  have E : EX h h := EX.rf B.2
  obtain ⟨S_x0, F⟩ := F
  refine v_iconst C dX1_putsCoat_0 ?_
  refine v_iload_n C 1 rfl rfl dX1_putsCoat_1 ?_
  refine v_imul C dX1_putsCoat_2 ?_
  obtain ⟨o1, F⟩ := F
  obtain ⟨y2, ey2⟩ : ∃ z : Int, z = 5 * x1 := ⟨_, rfl⟩
  have F := F y2 ey2
  have Ry2 : R32 y2 := by rw [ey2]; exact o1
  refine v_istore C (by decide) dX1_putsCoat_3 (lv2 := [(4, iv y2), (0, rf x0), (1, iv x1), (2, iv x2), (3, iv x3)]) (by rw [ey2]; rfl) ?_
  refine v_aload_n C 1 rfl rfl dX1_putsCoat_5 ?_
  refine gX1_42 C (S_x0.ext E.1).k (S_x0.ext E.1).f23 dX1_putsCoat_6 ?_
  refine v_iload_n C 2 rfl rfl dX1_putsCoat_9 ?_
  obtain ⟨o3, F⟩ := F
  obtain ⟨o4, F⟩ := F
  refine v_iald C (S_x0.ext E.1).k23 o3 (by rw [(S_x0.ext E.1).l23]; exact o4) rfl dX1_putsCoat_10 ?_
  refine v_iconst C dX1_putsCoat_11 ?_
  refine v_icmp_ne C 84 (EX.rI B (j := x1) (S_x0.ext E.1).k23 rfl) ⟨by decide, by decide⟩ dX1_putsCoat_12 (by decide) (fun c5 => ?_) (fun c5 => ?_)
  · have F := F.1 (c5)
    refine v_aload_n C 1 rfl rfl dX1_putsCoat_84 ?_
    refine gX1_45 C (S_x0.ext E.1).k (S_x0.ext E.1).f24 dX1_putsCoat_85 ?_
    refine v_iload C 0 rfl dX1_putsCoat_88 ?_
    refine v_aload_n C 1 rfl rfl dX1_putsCoat_90 ?_
    refine gX1_42 C (S_x0.ext E.1).k (S_x0.ext E.1).f23 dX1_putsCoat_91 ?_
    refine v_iload_n C 2 rfl rfl dX1_putsCoat_94 ?_
    refine v_iald C (S_x0.ext E.1).k23 o3 (by rw [(S_x0.ext E.1).l23]; exact o4) rfl dX1_putsCoat_95 ?_
    refine v_iadd C dX1_putsCoat_96 ?_
    refine v_iload_n C 3 rfl rfl dX1_putsCoat_97 ?_
    obtain ⟨o6, F⟩ := F
    obtain ⟨o7, F⟩ := F
    refine v_iast C (S_x0.ext E.1).k24 o6 (by rw [(S_x0.ext E.1).l24]; exact o7) R2 dX1_putsCoat_98 ?_
    obtain ⟨h8, eh8⟩ : ∃ m : Mem, m = up h (x0 + 12) (y2 + h (x0 + 11) x1) x2 := ⟨_, rfl⟩
    have B9 : EX h0 h8 := by rw [eh8]; exact EX_up B (S_x0.ext E.1).k24 (by decide) rfl o6 (okI_a (Or.inl rfl) R2)
    have E10 : EX h h8 := by rw [eh8]; exact EX_up E (S_x0.ext E.1).k24 (by decide) rfl o6 (okI_a (Or.inl rfl) R2)
    refine v_mem eh8 ?_
    have F := F h8 eh8
    refine v_aload_n C 1 rfl rfl dX1_putsCoat_99 ?_
    refine gX1_48 C (S_x0.ext E10.1).k (S_x0.ext E10.1).f25 dX1_putsCoat_100 ?_
    refine v_iload C 0 rfl dX1_putsCoat_103 ?_
    refine v_aload_n C 1 rfl rfl dX1_putsCoat_105 ?_
    refine gX1_42 C (S_x0.ext E10.1).k (S_x0.ext E10.1).f23 dX1_putsCoat_106 ?_
    refine v_iload_n C 2 rfl rfl dX1_putsCoat_109 ?_
    refine v_iald C (S_x0.ext E10.1).k23 o3 (by rw [(S_x0.ext E10.1).l23]; exact o4) (show h8 (x0 + 11) x1 = h (x0 + 11) x1 by rw [eh8, up_a (by omega)]) dX1_putsCoat_110 ?_
    refine v_iadd C dX1_putsCoat_111 ?_
    refine v_iload_n C 4 rfl rfl dX1_putsCoat_112 ?_
    refine v_iast C (S_x0.ext E10.1).k25 o6 (by rw [(S_x0.ext E10.1).l25]; exact o7) R3 dX1_putsCoat_113 ?_
    obtain ⟨h11, eh11⟩ : ∃ m : Mem, m = up h8 (x0 + 13) (y2 + h (x0 + 11) x1) x3 := ⟨_, rfl⟩
    have B12 : EX h0 h11 := by rw [eh11]; exact EX_up B9 (S_x0.ext E10.1).k25 (by decide) rfl o6 (okI_a (Or.inl rfl) R3)
    have E13 : EX h h11 := by rw [eh11]; exact EX_up E10 (S_x0.ext E10.1).k25 (by decide) rfl o6 (okI_a (Or.inl rfl) R3)
    refine v_mem eh11 ?_
    have F := F h11 eh11
    refine v_aload_n C 1 rfl rfl dX1_putsCoat_114 ?_
    refine gX1_42 C (S_x0.ext E13.1).k (S_x0.ext E13.1).f23 dX1_putsCoat_115 ?_
    refine v_iload_n C 2 rfl rfl dX1_putsCoat_118 ?_
    refine v_dup2 C (iv_n1 _) (rf_n1 _) dX1_putsCoat_119 ?_
    refine v_iald C (S_x0.ext E13.1).k23 o3 (by rw [(S_x0.ext E13.1).l23]; exact o4) (show h11 (x0 + 11) x1 = h (x0 + 11) x1 by rw [eh11, up_a (by omega), eh8, up_a (by omega)]) dX1_putsCoat_120 ?_
    refine v_iconst C dX1_putsCoat_121 ?_
    refine v_iadd C dX1_putsCoat_122 ?_
    obtain ⟨o14, F⟩ := F
    refine v_iast C (S_x0.ext E13.1).k23 o3 (by rw [(S_x0.ext E13.1).l23]; exact o4) o14 dX1_putsCoat_123 ?_
    obtain ⟨h15, eh15⟩ : ∃ m : Mem, m = up h11 (x0 + 11) x1 (h (x0 + 11) x1 + 1) := ⟨_, rfl⟩
    have B16 : EX h0 h15 := by rw [eh15]; exact EX_up B12 (S_x0.ext E13.1).k23 (by decide) rfl o3 (okI_a (Or.inl rfl) o14)
    have E17 : EX h h15 := by rw [eh15]; exact EX_up E13 (S_x0.ext E13.1).k23 (by decide) rfl o3 (okI_a (Or.inl rfl) o14)
    refine v_mem eh15 ?_
    have F := F h15 eh15
    exact v_vret C (Nat.le_refl _) (Nat.le_refl _) dX1_putsCoat_124 ⟨B16, F⟩
  · have F := F.2 (c5)
    refine v_iconst C dX1_putsCoat_15 ?_
    refine v_istore C (by decide) dX1_putsCoat_16 (lv2 := [(5, iv 1), (4, iv y2), (0, rf x0), (1, iv x1), (2, iv x2), (3, iv x3)]) rfl ?_
    refine v_sub (lv2 := [(0, rf x0), (1, iv x1), (2, iv x2), (3, iv x3), (4, iv y2), (5, iv 1)]) [2, 3, 4, 5, 1, 0] rfl ?_
    exact F ⟨B, R1, R2, R3, Ry2, ⟨by decide, by decide⟩⟩
set_option maxHeartbeats 4000000 in
theorem wX1_putsCoat_L18 {G : GT} {X : MX} {h0 h : Mem} {P : Int → Mem → Prop} {x0 x1 x2 x3 x4 x5 : Int} (C : Cx G X cX1_putsCoat 6 RX1 0 0 0 none "putsCoat") (B0 : EX h0 h ∧ R32 x1 ∧ R32 x2 ∧ R32 x3 ∧ R32 x4 ∧ R32 x5)
    (F : TownS h x0 ∧ ((x5 ≥ 5 → 0 ≤ x1 ∧ x1 < 16 ∧ R32 (h (x0 + 11) x1 - 1) ∧ ∀ h5 : Mem, h5 = up h (x0 + 11) x1 (h (x0 + 11) x1 - 1) → 0 ≤ x4 + (h (x0 + 11) x1 - 1) ∧ x4 + (h (x0 + 11) x1 - 1) < 80 ∧ ∀ h10 : Mem, h10 = up h5 (x0 + 12) (x4 + (h (x0 + 11) x1 - 1)) x2 → ∀ h13 : Mem, h13 = up h10 (x0 + 13) (x4 + (h (x0 + 11) x1 - 1)) x3 → R32 (h (x0 + 11) x1 - 1 + 1) ∧ ∀ h17 : Mem, h17 = up h13 (x0 + 11) x1 (h (x0 + 11) x1 - 1 + 1) → P 0 h17) ∧ (x5 < 5 → 0 ≤ x4 + x5 ∧ x4 + x5 < 80 ∧ 0 ≤ x4 + x5 - 1 ∧ x4 + x5 - 1 < 80 ∧ ∀ h24 : Mem, h24 = up h (x0 + 12) (x4 + x5 - 1) (h (x0 + 12) (x4 + x5)) → ∀ h27 : Mem, h27 = up h24 (x0 + 13) (x4 + x5 - 1) (h (x0 + 13) (x4 + x5)) → R32 (x5 + 1) ∧ (EX h0 h27 ∧ R32 x1 ∧ R32 x2 ∧ R32 x3 ∧ R32 x4 ∧ R32 (x5 + 1) → V G X 6 0 0 (QF G X 3 0 0 (PR h0 P)) 18 [(0, rf x0), (1, iv x1), (2, iv x2), (3, iv x3), (4, iv x4), (5, iv (x5 + 1))] [] h27)))) :
    V G X 6 0 0 (QF G X 3 0 0 (PR h0 P)) 18 [(0, rf x0), (1, iv x1), (2, iv x2), (3, iv x3), (4, iv x4), (5, iv x5)] [] h := by
  obtain ⟨B, R1, R2, R3, R4, R5⟩ := B0
  have E : EX h h := EX.rf B.2
  obtain ⟨S_x0, F⟩ := F
  refine v_iload C 5 rfl dX1_putsCoat_18 ?_
  refine v_iconst C dX1_putsCoat_20 ?_
  refine v_icmp_ge C 74 R5 ⟨by decide, by decide⟩ dX1_putsCoat_21 (by decide) (fun c1 => ?_) (fun c1 => ?_)
  · have F := F.1 (c1)
    refine v_aload_n C 0 rfl rfl dX1_putsCoat_74 ?_
    refine gX1_42 C (S_x0.ext E.1).k (S_x0.ext E.1).f23 dX1_putsCoat_75 ?_
    refine v_iload_n C 1 rfl rfl dX1_putsCoat_78 ?_
    refine v_dup2 C (iv_n1 _) (rf_n1 _) dX1_putsCoat_79 ?_
    obtain ⟨o2, F⟩ := F
    obtain ⟨o3, F⟩ := F
    refine v_iald C (S_x0.ext E.1).k23 o2 (by rw [(S_x0.ext E.1).l23]; exact o3) rfl dX1_putsCoat_80 ?_
    refine v_iconst C dX1_putsCoat_81 ?_
    refine v_isub C dX1_putsCoat_82 ?_
    obtain ⟨o4, F⟩ := F
    refine v_iast C (S_x0.ext E.1).k23 o2 (by rw [(S_x0.ext E.1).l23]; exact o3) o4 dX1_putsCoat_83 ?_
    obtain ⟨h5, eh5⟩ : ∃ m : Mem, m = up h (x0 + 11) x1 (h (x0 + 11) x1 - 1) := ⟨_, rfl⟩
    have B6 : EX h0 h5 := by rw [eh5]; exact EX_up B (S_x0.ext E.1).k23 (by decide) rfl o2 (okI_a (Or.inl rfl) o4)
    have E7 : EX h h5 := by rw [eh5]; exact EX_up E (S_x0.ext E.1).k23 (by decide) rfl o2 (okI_a (Or.inl rfl) o4)
    refine v_mem eh5 ?_
    have F := F h5 eh5
    refine v_aload_n C 0 rfl rfl dX1_putsCoat_84 ?_
    refine gX1_45 C (S_x0.ext E7.1).k (S_x0.ext E7.1).f24 dX1_putsCoat_85 ?_
    refine v_iload C 4 rfl dX1_putsCoat_88 ?_
    refine v_aload_n C 0 rfl rfl dX1_putsCoat_90 ?_
    refine gX1_42 C (S_x0.ext E7.1).k (S_x0.ext E7.1).f23 dX1_putsCoat_91 ?_
    refine v_iload_n C 1 rfl rfl dX1_putsCoat_94 ?_
    refine v_iald C (S_x0.ext E7.1).k23 o2 (by rw [(S_x0.ext E7.1).l23]; exact o3) (show h5 (x0 + 11) x1 = (h (x0 + 11) x1 - 1) by rw [eh5, up_s]) dX1_putsCoat_95 ?_
    refine v_iadd C dX1_putsCoat_96 ?_
    refine v_iload_n C 2 rfl rfl dX1_putsCoat_97 ?_
    obtain ⟨o8, F⟩ := F
    obtain ⟨o9, F⟩ := F
    refine v_iast C (S_x0.ext E7.1).k24 o8 (by rw [(S_x0.ext E7.1).l24]; exact o9) R2 dX1_putsCoat_98 ?_
    obtain ⟨h10, eh10⟩ : ∃ m : Mem, m = up h5 (x0 + 12) (x4 + (h (x0 + 11) x1 - 1)) x2 := ⟨_, rfl⟩
    have B11 : EX h0 h10 := by rw [eh10]; exact EX_up B6 (S_x0.ext E7.1).k24 (by decide) rfl o8 (okI_a (Or.inl rfl) R2)
    have E12 : EX h h10 := by rw [eh10]; exact EX_up E7 (S_x0.ext E7.1).k24 (by decide) rfl o8 (okI_a (Or.inl rfl) R2)
    refine v_mem eh10 ?_
    have F := F h10 eh10
    refine v_aload_n C 0 rfl rfl dX1_putsCoat_99 ?_
    refine gX1_48 C (S_x0.ext E12.1).k (S_x0.ext E12.1).f25 dX1_putsCoat_100 ?_
    refine v_iload C 4 rfl dX1_putsCoat_103 ?_
    refine v_aload_n C 0 rfl rfl dX1_putsCoat_105 ?_
    refine gX1_42 C (S_x0.ext E12.1).k (S_x0.ext E12.1).f23 dX1_putsCoat_106 ?_
    refine v_iload_n C 1 rfl rfl dX1_putsCoat_109 ?_
    refine v_iald C (S_x0.ext E12.1).k23 o2 (by rw [(S_x0.ext E12.1).l23]; exact o3) (show h10 (x0 + 11) x1 = (h (x0 + 11) x1 - 1) by rw [eh10, up_a (by omega), eh5, up_s]) dX1_putsCoat_110 ?_
    refine v_iadd C dX1_putsCoat_111 ?_
    refine v_iload_n C 3 rfl rfl dX1_putsCoat_112 ?_
    refine v_iast C (S_x0.ext E12.1).k25 o8 (by rw [(S_x0.ext E12.1).l25]; exact o9) R3 dX1_putsCoat_113 ?_
    obtain ⟨h13, eh13⟩ : ∃ m : Mem, m = up h10 (x0 + 13) (x4 + (h (x0 + 11) x1 - 1)) x3 := ⟨_, rfl⟩
    have B14 : EX h0 h13 := by rw [eh13]; exact EX_up B11 (S_x0.ext E12.1).k25 (by decide) rfl o8 (okI_a (Or.inl rfl) R3)
    have E15 : EX h h13 := by rw [eh13]; exact EX_up E12 (S_x0.ext E12.1).k25 (by decide) rfl o8 (okI_a (Or.inl rfl) R3)
    refine v_mem eh13 ?_
    have F := F h13 eh13
    refine v_aload_n C 0 rfl rfl dX1_putsCoat_114 ?_
    refine gX1_42 C (S_x0.ext E15.1).k (S_x0.ext E15.1).f23 dX1_putsCoat_115 ?_
    refine v_iload_n C 1 rfl rfl dX1_putsCoat_118 ?_
    refine v_dup2 C (iv_n1 _) (rf_n1 _) dX1_putsCoat_119 ?_
    refine v_iald C (S_x0.ext E15.1).k23 o2 (by rw [(S_x0.ext E15.1).l23]; exact o3) (show h13 (x0 + 11) x1 = (h (x0 + 11) x1 - 1) by rw [eh13, up_a (by omega), eh10, up_a (by omega), eh5, up_s]) dX1_putsCoat_120 ?_
    refine v_iconst C dX1_putsCoat_121 ?_
    refine v_iadd C dX1_putsCoat_122 ?_
    obtain ⟨o16, F⟩ := F
    refine v_iast C (S_x0.ext E15.1).k23 o2 (by rw [(S_x0.ext E15.1).l23]; exact o3) o16 dX1_putsCoat_123 ?_
    obtain ⟨h17, eh17⟩ : ∃ m : Mem, m = up h13 (x0 + 11) x1 (h (x0 + 11) x1 - 1 + 1) := ⟨_, rfl⟩
    have B18 : EX h0 h17 := by rw [eh17]; exact EX_up B14 (S_x0.ext E15.1).k23 (by decide) rfl o2 (okI_a (Or.inl rfl) o16)
    have E19 : EX h h17 := by rw [eh17]; exact EX_up E15 (S_x0.ext E15.1).k23 (by decide) rfl o2 (okI_a (Or.inl rfl) o16)
    refine v_mem eh17 ?_
    have F := F h17 eh17
    exact v_vret C (Nat.le_refl _) (Nat.le_refl _) dX1_putsCoat_124 ⟨B18, F⟩
  · have F := F.2 (c1)
    refine v_aload_n C 0 rfl rfl dX1_putsCoat_24 ?_
    refine gX1_45 C (S_x0.ext E.1).k (S_x0.ext E.1).f24 dX1_putsCoat_25 ?_
    refine v_iload C 4 rfl dX1_putsCoat_28 ?_
    refine v_iload C 5 rfl dX1_putsCoat_30 ?_
    refine v_iadd C dX1_putsCoat_32 ?_
    refine v_iconst C dX1_putsCoat_33 ?_
    refine v_isub C dX1_putsCoat_34 ?_
    refine v_aload_n C 0 rfl rfl dX1_putsCoat_35 ?_
    refine gX1_45 C (S_x0.ext E.1).k (S_x0.ext E.1).f24 dX1_putsCoat_36 ?_
    refine v_iload C 4 rfl dX1_putsCoat_39 ?_
    refine v_iload C 5 rfl dX1_putsCoat_41 ?_
    refine v_iadd C dX1_putsCoat_43 ?_
    obtain ⟨o20, F⟩ := F
    obtain ⟨o21, F⟩ := F
    refine v_iald C (S_x0.ext E.1).k24 o20 (by rw [(S_x0.ext E.1).l24]; exact o21) rfl dX1_putsCoat_44 ?_
    obtain ⟨o22, F⟩ := F
    obtain ⟨o23, F⟩ := F
    refine v_iast C (S_x0.ext E.1).k24 o22 (by rw [(S_x0.ext E.1).l24]; exact o23) (EX.rI B (j := x4 + x5) (S_x0.ext E.1).k24 rfl) dX1_putsCoat_45 ?_
    obtain ⟨h24, eh24⟩ : ∃ m : Mem, m = up h (x0 + 12) (x4 + x5 - 1) (h (x0 + 12) (x4 + x5)) := ⟨_, rfl⟩
    have B25 : EX h0 h24 := by rw [eh24]; exact EX_up B (S_x0.ext E.1).k24 (by decide) rfl o22 (okI_a (Or.inl rfl) (EX.rI B (j := x4 + x5) (S_x0.ext E.1).k24 rfl))
    have E26 : EX h h24 := by rw [eh24]; exact EX_up E (S_x0.ext E.1).k24 (by decide) rfl o22 (okI_a (Or.inl rfl) (EX.rI B (j := x4 + x5) (S_x0.ext E.1).k24 rfl))
    refine v_mem eh24 ?_
    have F := F h24 eh24
    refine v_aload_n C 0 rfl rfl dX1_putsCoat_46 ?_
    refine gX1_48 C (S_x0.ext E26.1).k (S_x0.ext E26.1).f25 dX1_putsCoat_47 ?_
    refine v_iload C 4 rfl dX1_putsCoat_50 ?_
    refine v_iload C 5 rfl dX1_putsCoat_52 ?_
    refine v_iadd C dX1_putsCoat_54 ?_
    refine v_iconst C dX1_putsCoat_55 ?_
    refine v_isub C dX1_putsCoat_56 ?_
    refine v_aload_n C 0 rfl rfl dX1_putsCoat_57 ?_
    refine gX1_48 C (S_x0.ext E26.1).k (S_x0.ext E26.1).f25 dX1_putsCoat_58 ?_
    refine v_iload C 4 rfl dX1_putsCoat_61 ?_
    refine v_iload C 5 rfl dX1_putsCoat_63 ?_
    refine v_iadd C dX1_putsCoat_65 ?_
    refine v_iald C (S_x0.ext E26.1).k25 o20 (by rw [(S_x0.ext E26.1).l25]; exact o21) (show h24 (x0 + 13) (x4 + x5) = h (x0 + 13) (x4 + x5) by rw [eh24, up_a (by omega)]) dX1_putsCoat_66 ?_
    refine v_iast C (S_x0.ext E26.1).k25 o22 (by rw [(S_x0.ext E26.1).l25]; exact o23) (R32.of (show h24 (x0 + 13) (x4 + x5) = h (x0 + 13) (x4 + x5) by rw [eh24, up_a (by omega)]) (EX.rI B25 (j := x4 + x5) (S_x0.ext E26.1).k25 rfl)) dX1_putsCoat_67 ?_
    obtain ⟨h27, eh27⟩ : ∃ m : Mem, m = up h24 (x0 + 13) (x4 + x5 - 1) (h (x0 + 13) (x4 + x5)) := ⟨_, rfl⟩
    have B28 : EX h0 h27 := by rw [eh27]; exact EX_up B25 (S_x0.ext E26.1).k25 (by decide) rfl o22 (okI_a (Or.inl rfl) (R32.of (show h24 (x0 + 13) (x4 + x5) = h (x0 + 13) (x4 + x5) by rw [eh24, up_a (by omega)]) (EX.rI B25 (j := x4 + x5) (S_x0.ext E26.1).k25 rfl)))
    have E29 : EX h h27 := by rw [eh27]; exact EX_up E26 (S_x0.ext E26.1).k25 (by decide) rfl o22 (okI_a (Or.inl rfl) (R32.of (show h24 (x0 + 13) (x4 + x5) = h (x0 + 13) (x4 + x5) by rw [eh24, up_a (by omega)]) (EX.rI B25 (j := x4 + x5) (S_x0.ext E26.1).k25 rfl)))
    refine v_mem eh27 ?_
    have F := F h27 eh27
    obtain ⟨o30, F⟩ := F
    refine v_iinc C 5 rfl (by decide) dX1_putsCoat_68 (lv2 := [(5, iv (x5 + 1)), (0, rf x0), (1, iv x1), (2, iv x2), (3, iv x3), (4, iv x4)]) rfl ?_
    refine v_goto C 18 dX1_putsCoat_71 (by decide) ?_
    refine v_sub (lv2 := [(0, rf x0), (1, iv x1), (2, iv x2), (3, iv x3), (4, iv x4), (5, iv (x5 + 1))]) [1, 2, 3, 4, 5, 0] rfl ?_
    exact F ⟨B28, R1, R2, R3, R4, o30⟩
set_option maxHeartbeats 1000000 in
theorem eX1_putsCoat {G : GT} {l : Launch} {x0 x1 x2 x3 : Int} {h : Mem} {P : Int → Mem → Prop} (F : ∀ X : MX, Cx G X cX1_putsCoat 6 RX1 0 0 0 none "putsCoat" → X.2.1 = l → (EX h h ∧ R32 x1 ∧ R32 x2 ∧ R32 x3) →
    TownS h x0 ∧ R32 (5 * x1) ∧ ∀ y2 : Int, y2 = 5 * x1 → 0 ≤ x1 ∧ x1 < 16 ∧ ((h (x0 + 11) x1 ≠ 5 → 0 ≤ y2 + h (x0 + 11) x1 ∧ y2 + h (x0 + 11) x1 < 80 ∧ ∀ h8 : Mem, h8 = up h (x0 + 12) (y2 + h (x0 + 11) x1) x2 → ∀ h11 : Mem, h11 = up h8 (x0 + 13) (y2 + h (x0 + 11) x1) x3 → R32 (h (x0 + 11) x1 + 1) ∧ ∀ h15 : Mem, h15 = up h11 (x0 + 11) x1 (h (x0 + 11) x1 + 1) → P 0 h15) ∧ (h (x0 + 11) x1 = 5 → (EX h h ∧ R32 x1 ∧ R32 x2 ∧ R32 x3 ∧ R32 y2 ∧ R32 1 → V G X 6 0 0 (QF G X 3 0 0 (PR h P)) 18 [(0, rf x0), (1, iv x1), (2, iv x2), (3, iv x3), (4, iv y2), (5, iv 1)] [] h)))) :
    kX1_putsCoat G l x0 x1 x2 x3 h P := by
  intro R1 R2 R3
  refine ct_of (by decide +kernel) (Nat.le_of_ble_eq_true rfl) fun X C e => ?_
  refine v_okz fun O => ?_
  exact wX1_putsCoat_0 C ⟨EX.rf O, R1, R2, R3⟩ (F X C e ⟨EX.rf O, R1, R2, R3⟩)
def kX1_top (G : GT) (l : Launch) (x0 x1 : Int) (h : Mem) (P : Int → Mem → Prop) : Prop := R32 x1 → Ct G l yX1_top cX1_top 2 (some .int) 0 0 0 0 [rf x0, iv x1] h (PI h P)
set_option maxHeartbeats 4000000 in
theorem wX1_top_0 {G : GT} {X : MX} {h0 h : Mem} {P : Int → Mem → Prop} {x0 x1 : Int} (C : Cx G X cX1_top 2 RX1 0 0 0 (some .int) "top") (B0 : EX h0 h ∧ R32 x1)
    (F : TownS h x0 ∧ 0 ≤ x1 ∧ x1 < 16 ∧ ((h (x0 + 11) x1 ≠ 0 → 0 ≤ 5 * x1 + h (x0 + 11) x1 - 1 ∧ 5 * x1 + h (x0 + 11) x1 - 1 < 80 ∧ P (h (x0 + 12) (5 * x1 + h (x0 + 11) x1 - 1)) h) ∧ (h (x0 + 11) x1 = 0 → P (-1) h))) :
    V G X 2 0 0 (QF G X 0 0 0 (PI h0 P)) 0 [(0, rf x0), (1, iv x1)] [] h := by
  obtain ⟨B, R1⟩ := B0
  have E : EX h h := EX.rf B.2
  obtain ⟨S_x0, F⟩ := F
  refine v_aload_n C 0 rfl rfl dX1_top_0 ?_
  refine gX1_42 C (S_x0.ext E.1).k (S_x0.ext E.1).f23 dX1_top_1 ?_
  refine v_iload_n C 1 rfl rfl dX1_top_4 ?_
  obtain ⟨o1, F⟩ := F
  obtain ⟨o2, F⟩ := F
  refine v_iald C (S_x0.ext E.1).k23 o1 (by rw [(S_x0.ext E.1).l23]; exact o2) rfl dX1_top_5 ?_
  refine v_if_ne C 13 (EX.rI B (j := x1) (S_x0.ext E.1).k23 rfl) dX1_top_6 (by decide) (fun c3 => ?_) (fun c3 => ?_)
  · have F := F.1 (c3)
    refine v_aload_n C 0 rfl rfl dX1_top_13 ?_
    refine gX1_45 C (S_x0.ext E.1).k (S_x0.ext E.1).f24 dX1_top_14 ?_
    refine v_iconst C dX1_top_17 ?_
    refine v_iload_n C 1 rfl rfl dX1_top_18 ?_
    refine v_imul C dX1_top_19 ?_
    refine v_aload_n C 0 rfl rfl dX1_top_20 ?_
    refine gX1_42 C (S_x0.ext E.1).k (S_x0.ext E.1).f23 dX1_top_21 ?_
    refine v_iload_n C 1 rfl rfl dX1_top_24 ?_
    refine v_iald C (S_x0.ext E.1).k23 o1 (by rw [(S_x0.ext E.1).l23]; exact o2) rfl dX1_top_25 ?_
    refine v_iadd C dX1_top_26 ?_
    refine v_iconst C dX1_top_27 ?_
    refine v_isub C dX1_top_28 ?_
    obtain ⟨o4, F⟩ := F
    obtain ⟨o5, F⟩ := F
    refine v_iald C (S_x0.ext E.1).k24 o4 (by rw [(S_x0.ext E.1).l24]; exact o5) rfl dX1_top_29 ?_
    exact v_iret C (Nat.le_refl _) (Nat.le_refl _) dX1_top_30 ⟨B, (EX.rI B (j := 5 * x1 + h (x0 + 11) x1 - 1) (S_x0.ext E.1).k24 rfl), F⟩
  · have F := F.2 (c3)
    refine v_iconst C dX1_top_9 ?_
    refine v_goto C 30 dX1_top_10 (by decide) ?_
    exact v_iret C (Nat.le_refl _) (Nat.le_refl _) dX1_top_30 ⟨B, ⟨by decide, by decide⟩, F⟩
set_option maxHeartbeats 1000000 in
theorem eX1_top {G : GT} {l : Launch} {x0 x1 : Int} {h : Mem} {P : Int → Mem → Prop} (F : ∀ X : MX, Cx G X cX1_top 2 RX1 0 0 0 (some .int) "top" → X.2.1 = l → (EX h h ∧ R32 x1) →
    TownS h x0 ∧ 0 ≤ x1 ∧ x1 < 16 ∧ ((h (x0 + 11) x1 ≠ 0 → 0 ≤ 5 * x1 + h (x0 + 11) x1 - 1 ∧ 5 * x1 + h (x0 + 11) x1 - 1 < 80 ∧ P (h (x0 + 12) (5 * x1 + h (x0 + 11) x1 - 1)) h) ∧ (h (x0 + 11) x1 = 0 → P (-1) h))) :
    kX1_top G l x0 x1 h P := by
  intro R1
  refine ct_of (by decide +kernel) (Nat.le_of_ble_eq_true rfl) fun X C e => ?_
  refine v_okz fun O => ?_
  exact wX1_top_0 C ⟨EX.rf O, R1⟩ (F X C e ⟨EX.rf O, R1⟩)
def kX1_begins (G : GT) (l : Launch) (x0 : Int) (h : Mem) (P : Int → Mem → Prop) : Prop := Ct G l yX1_begins cX1_begins 3 none 3 1 0 0 [rf x0] h (PR h P)
set_option maxHeartbeats 4000000 in
theorem wX1_begins_0 {G : GT} {X : MX} {h0 h : Mem} {P : Int → Mem → Prop} {x0 : Int} (C : Cx G X cX1_begins 3 RX1 1 0 0 none "begins") (B0 : EX h0 h)
    (F : TownS h x0 ∧ ∀ h1 : Mem, h1 = up h x0 11 0 → ∀ h4 : Mem, h4 = up h1 x0 12 (h x0 10) → ∀ h7 : Mem, h7 = cpy h4 (x0 + 6) 0 (x0 + 14) 0 4 → (EX h0 h7 ∧ R32 0 → V G X 3 0 0 (QF G X 3 0 0 (PR h0 P)) 29 [(0, rf x0), (1, iv 0)] [] h7)) :
    V G X 3 0 0 (QF G X 3 0 0 (PR h0 P)) 0 [(0, rf x0)] [] h := by
  have B := B0
  have E : EX h h := EX.rf B.2
  obtain ⟨S_x0, F⟩ := F
  refine v_aload_n C 0 rfl rfl dX1_begins_0 ?_
  refine v_iconst C dX1_begins_1 ?_
  refine pX1_108 C (S_x0.ext E.1).k (okI_i rfl ⟨by decide, by decide⟩) dX1_begins_2 ?_
  obtain ⟨h1, eh1⟩ : ∃ m : Mem, m = up h x0 11 0 := ⟨_, rfl⟩
  have B2 : EX h0 h1 := by rw [eh1]; exact EX_up B (S_x0.ext E.1).k (by decide) rfl (by decide) (okI_i rfl ⟨by decide, by decide⟩)
  have E3 : EX h h1 := by rw [eh1]; exact EX_up E (S_x0.ext E.1).k (by decide) rfl (by decide) (okI_i rfl ⟨by decide, by decide⟩)
  refine v_mem eh1 ?_
  have F := F h1 eh1
  refine v_aload_n C 0 rfl rfl dX1_begins_5 ?_
  refine v_aload_n C 0 rfl rfl dX1_begins_6 ?_
  refine gX1_95 C (S_x0.ext E3.1).k (show h1 x0 10 = h x0 10 by rw [eh1, up_i (by decide)]) dX1_begins_7 ?_
  refine pX1_111 C (S_x0.ext E3.1).k (okI_i rfl (R32.of (show h1 x0 10 = h x0 10 by rw [eh1, up_i (by decide)]) (EX.rI B2 (j := 10) (S_x0.ext E3.1).k rfl))) dX1_begins_10 ?_
  obtain ⟨h4, eh4⟩ : ∃ m : Mem, m = up h1 x0 12 (h x0 10) := ⟨_, rfl⟩
  have B5 : EX h0 h4 := by rw [eh4]; exact EX_up B2 (S_x0.ext E3.1).k (by decide) rfl (by decide) (okI_i rfl (R32.of (show h1 x0 10 = h x0 10 by rw [eh1, up_i (by decide)]) (EX.rI B2 (j := 10) (S_x0.ext E3.1).k rfl)))
  have E6 : EX h h4 := by rw [eh4]; exact EX_up E3 (S_x0.ext E3.1).k (by decide) rfl (by decide) (okI_i rfl (R32.of (show h1 x0 10 = h x0 10 by rw [eh1, up_i (by decide)]) (EX.rI B2 (j := 10) (S_x0.ext E3.1).k rfl)))
  refine v_mem eh4 ?_
  have F := F h4 eh4
  refine v_aload_n C 0 rfl rfl dX1_begins_13 ?_
  refine gX1_27 C (S_x0.ext E6.1).k (S_x0.ext E6.1).f18 dX1_begins_14 ?_
  refine v_iconst C dX1_begins_17 ?_
  refine v_aload_n C 0 rfl rfl dX1_begins_18 ?_
  refine gX1_51 C (S_x0.ext E6.1).k (S_x0.ext E6.1).f26 dX1_begins_19 ?_
  refine v_iconst C dX1_begins_22 ?_
  refine v_iconst C dX1_begins_23 ?_
  refine v_copy C q538 q540 q539 q137 (by decide) (Nat.le_of_ble_eq_true rfl) (S_x0.ext E6.1).k18 (S_x0.ext E6.1).k26 (by decide) (by decide) (by decide) (by rw [(S_x0.ext E6.1).l18]; decide) (by rw [(S_x0.ext E6.1).l26]; decide) dX1_begins_24 ?_
  obtain ⟨h7, eh7⟩ : ∃ m : Mem, m = cpy h4 (x0 + 6) 0 (x0 + 14) 0 4 := ⟨_, rfl⟩
  have B8 : EX h0 h7 := by rw [eh7]; exact EX_cpy B5 (S_x0.ext E6.1).k18 (S_x0.ext E6.1).k26 (by decide)
  have E9 : EX h h7 := by rw [eh7]; exact EX_cpy E6 (S_x0.ext E6.1).k18 (S_x0.ext E6.1).k26 (by decide)
  refine v_mem eh7 ?_
  have F := F h7 eh7
  refine v_iconst C dX1_begins_27 ?_
  refine v_istore_n C rfl (by decide) dX1_begins_28 (lv2 := [(1, iv 0), (0, rf x0)]) rfl ?_
  refine v_sub (lv2 := [(0, rf x0), (1, iv 0)]) [1, 0] rfl ?_
  exact F ⟨B8, ⟨by decide, by decide⟩⟩
set_option maxHeartbeats 4000000 in
theorem wX1_begins_L29 {G : GT} {X : MX} {h0 h : Mem} {P : Int → Mem → Prop} {x0 x1 : Int} (C : Cx G X cX1_begins 3 RX1 1 0 0 none "begins") (B0 : EX h0 h ∧ R32 x1)
    (F : TownS h x0 ∧ ((x1 ≥ h x0 4 → P 0 h) ∧ (x1 < h x0 4 → 0 ≤ x1 ∧ x1 < 16 ∧ kX0_has G X.2.1 (h x0 12) (h (x0 + 4) x1) h (fun r4 h5 => EX h h5 → ((r4 = 0 → ∀ h11 : Mem, h11 = up h5 (x0 + 11) x1 (h5 (x0 + 7) x1) → (EX h0 h11 ∧ R32 x1 ∧ R32 0 → V G X 3 0 0 (QF G X 3 0 0 (PR h0 P)) 71 [(0, rf x0), (1, iv x1), (2, iv 0)] [] h11)) ∧ (r4 ≠ 0 → ∀ h14 : Mem, h14 = up h5 (x0 + 11) x1 0 → (EX h0 h14 ∧ R32 x1 ∧ R32 0 → V G X 3 0 0 (QF G X 3 0 0 (PR h0 P)) 71 [(0, rf x0), (1, iv x1), (2, iv 0)] [] h14))))))) :
    V G X 3 0 0 (QF G X 3 0 0 (PR h0 P)) 29 [(0, rf x0), (1, iv x1)] [] h := by
  obtain ⟨B, R1⟩ := B0
  have E : EX h h := EX.rf B.2
  obtain ⟨S_x0, F⟩ := F
  refine v_iload_n C 1 rfl rfl dX1_begins_29 ?_
  refine v_aload_n C 0 rfl rfl dX1_begins_30 ?_
  refine gX1_77 C (S_x0.ext E.1).k rfl dX1_begins_31 ?_
  refine v_icmp_ge C 121 R1 (EX.rI B (j := 4) (S_x0.ext E.1).k rfl) dX1_begins_34 (by decide) (fun c1 => ?_) (fun c1 => ?_)
  · have F := F.1 (c1)
    exact v_vret C (Nat.le_refl _) (Nat.le_refl _) dX1_begins_121 ⟨B, F⟩
  · have F := F.2 (c1)
    refine v_aload_n C 0 rfl rfl dX1_begins_37 ?_
    refine gX1_42 C (S_x0.ext E.1).k (S_x0.ext E.1).f23 dX1_begins_38 ?_
    refine v_iload_n C 1 rfl rfl dX1_begins_41 ?_
    refine v_aload_n C 0 rfl rfl dX1_begins_42 ?_
    refine gX1_111 C (S_x0.ext E.1).k rfl dX1_begins_43 ?_
    refine v_aload_n C 0 rfl rfl dX1_begins_46 ?_
    refine gX1_21 C (S_x0.ext E.1).k (S_x0.ext E.1).f16 dX1_begins_47 ?_
    refine v_iload_n C 1 rfl rfl dX1_begins_50 ?_
    obtain ⟨o2, F⟩ := F
    obtain ⟨o3, F⟩ := F
    refine v_iald C (S_x0.ext E.1).k16 o2 (by rw [(S_x0.ext E.1).l16]; exact o3) rfl dX1_begins_51 ?_
    refine mX1_114 C (d2 := 0) (kc2 := 0) (ks2 := 0) (by decide) (Nat.le_refl _) (Nat.le_refl _) (Nat.le_of_ble_eq_true rfl) dX1_begins_52 (Ct.mono (F (EX.rI B (j := 12) (S_x0.ext E.1).k rfl) (EX.rI B (j := x1) (S_x0.ext E.1).k16 rfl)) ?_)
    rintro r4 h5 ⟨e6, g7, F⟩
    have F := F e6
    have B8 := B.tr e6
    have E9 := E.tr e6
    refine v_if_eq C 62 (bR g7) dX1_begins_55 (by decide) (fun c10 => ?_) (fun c10 => ?_)
    · have F := F.1 (c10)
      refine v_aload_n C 0 rfl rfl dX1_begins_62 ?_
      refine gX1_30 C (S_x0.ext E9.1).k (S_x0.ext E9.1).f19 dX1_begins_63 ?_
      refine v_iload_n C 1 rfl rfl dX1_begins_66 ?_
      refine v_iald C (S_x0.ext E9.1).k19 o2 (by rw [(S_x0.ext E9.1).l19]; exact o3) rfl dX1_begins_67 ?_
      refine v_iast C (S_x0.ext E9.1).k23 o2 (by rw [(S_x0.ext E9.1).l23]; exact o3) (EX.rI B8 (j := x1) (S_x0.ext E9.1).k19 rfl) dX1_begins_68 ?_
      obtain ⟨h11, eh11⟩ : ∃ m : Mem, m = up h5 (x0 + 11) x1 (h5 (x0 + 7) x1) := ⟨_, rfl⟩
      have B12 : EX h0 h11 := by rw [eh11]; exact EX_up B8 (S_x0.ext E9.1).k23 (by decide) rfl o2 (okI_a (Or.inl rfl) (EX.rI B8 (j := x1) (S_x0.ext E9.1).k19 rfl))
      have E13 : EX h h11 := by rw [eh11]; exact EX_up E9 (S_x0.ext E9.1).k23 (by decide) rfl o2 (okI_a (Or.inl rfl) (EX.rI B8 (j := x1) (S_x0.ext E9.1).k19 rfl))
      refine v_mem eh11 ?_
      have F := F h11 eh11
      refine v_iconst C dX1_begins_69 ?_
      refine v_istore_n C rfl (by decide) dX1_begins_70 (lv2 := [(2, iv 0), (0, rf x0), (1, iv x1)]) rfl ?_
      refine v_sub (lv2 := [(0, rf x0), (1, iv x1), (2, iv 0)]) [1, 2, 0] rfl ?_
      exact F ⟨B12, R1, ⟨by decide, by decide⟩⟩
    · have F := F.2 (c10)
      refine v_iconst C dX1_begins_58 ?_
      refine v_goto C 68 dX1_begins_59 (by decide) ?_
      refine v_iast C (S_x0.ext E9.1).k23 o2 (by rw [(S_x0.ext E9.1).l23]; exact o3) ⟨by decide, by decide⟩ dX1_begins_68 ?_
      obtain ⟨h14, eh14⟩ : ∃ m : Mem, m = up h5 (x0 + 11) x1 0 := ⟨_, rfl⟩
      have B15 : EX h0 h14 := by rw [eh14]; exact EX_up B8 (S_x0.ext E9.1).k23 (by decide) rfl o2 (okI_a (Or.inl rfl) ⟨by decide, by decide⟩)
      have E16 : EX h h14 := by rw [eh14]; exact EX_up E9 (S_x0.ext E9.1).k23 (by decide) rfl o2 (okI_a (Or.inl rfl) ⟨by decide, by decide⟩)
      refine v_mem eh14 ?_
      have F := F h14 eh14
      refine v_iconst C dX1_begins_69 ?_
      refine v_istore_n C rfl (by decide) dX1_begins_70 (lv2 := [(2, iv 0), (0, rf x0), (1, iv x1)]) rfl ?_
      refine v_sub (lv2 := [(0, rf x0), (1, iv x1), (2, iv 0)]) [1, 2, 0] rfl ?_
      exact F ⟨B15, R1, ⟨by decide, by decide⟩⟩
set_option maxHeartbeats 4000000 in
theorem wX1_begins_L71 {G : GT} {X : MX} {h0 h : Mem} {P : Int → Mem → Prop} {x0 x1 x2 : Int} (C : Cx G X cX1_begins 3 RX1 1 0 0 none "begins") (B0 : EX h0 h ∧ R32 x1 ∧ R32 x2)
    (F : TownS h x0 ∧ ((x2 ≥ 5 → R32 (x1 + 1) ∧ (EX h0 h ∧ R32 (x1 + 1) → V G X 3 0 0 (QF G X 3 0 0 (PR h0 P)) 29 [(0, rf x0), (1, iv (x1 + 1))] [] h)) ∧ (x2 < 5 → 0 ≤ 5 * x1 + x2 ∧ 5 * x1 + x2 < 80 ∧ ∀ h5 : Mem, h5 = up h (x0 + 12) (5 * x1 + x2) (h (x0 + 8) (5 * x1 + x2)) → ∀ h8 : Mem, h8 = up h5 (x0 + 13) (5 * x1 + x2) (-1000) → R32 (x2 + 1) ∧ (EX h0 h8 ∧ R32 x1 ∧ R32 (x2 + 1) → V G X 3 0 0 (QF G X 3 0 0 (PR h0 P)) 71 [(0, rf x0), (1, iv x1), (2, iv (x2 + 1))] [] h8)))) :
    V G X 3 0 0 (QF G X 3 0 0 (PR h0 P)) 71 [(0, rf x0), (1, iv x1), (2, iv x2)] [] h := by
  obtain ⟨B, R1, R2⟩ := B0
  have E : EX h h := EX.rf B.2
  obtain ⟨S_x0, F⟩ := F
  refine v_iload_n C 2 rfl rfl dX1_begins_71 ?_
  refine v_iconst C dX1_begins_72 ?_
  refine v_icmp_ge C 115 R2 ⟨by decide, by decide⟩ dX1_begins_73 (by decide) (fun c1 => ?_) (fun c1 => ?_)
  · have F := F.1 (c1)
    obtain ⟨o2, F⟩ := F
    refine v_iinc C 1 rfl (by decide) dX1_begins_115 (lv2 := [(1, iv (x1 + 1)), (0, rf x0), (2, iv x2)]) rfl ?_
    refine v_goto C 29 dX1_begins_118 (by decide) ?_
    refine v_sub (lv2 := [(0, rf x0), (1, iv (x1 + 1))]) [1, 0] rfl ?_
    exact F ⟨B, o2⟩
  · have F := F.2 (c1)
    refine v_aload_n C 0 rfl rfl dX1_begins_76 ?_
    refine gX1_45 C (S_x0.ext E.1).k (S_x0.ext E.1).f24 dX1_begins_77 ?_
    refine v_iconst C dX1_begins_80 ?_
    refine v_iload_n C 1 rfl rfl dX1_begins_81 ?_
    refine v_imul C dX1_begins_82 ?_
    refine v_iload_n C 2 rfl rfl dX1_begins_83 ?_
    refine v_iadd C dX1_begins_84 ?_
    refine v_aload_n C 0 rfl rfl dX1_begins_85 ?_
    refine gX1_33 C (S_x0.ext E.1).k (S_x0.ext E.1).f20 dX1_begins_86 ?_
    refine v_iconst C dX1_begins_89 ?_
    refine v_iload_n C 1 rfl rfl dX1_begins_90 ?_
    refine v_imul C dX1_begins_91 ?_
    refine v_iload_n C 2 rfl rfl dX1_begins_92 ?_
    refine v_iadd C dX1_begins_93 ?_
    obtain ⟨o3, F⟩ := F
    obtain ⟨o4, F⟩ := F
    refine v_iald C (S_x0.ext E.1).k20 o3 (by rw [(S_x0.ext E.1).l20]; exact o4) rfl dX1_begins_94 ?_
    refine v_iast C (S_x0.ext E.1).k24 o3 (by rw [(S_x0.ext E.1).l24]; exact o4) (EX.rI B (j := 5 * x1 + x2) (S_x0.ext E.1).k20 rfl) dX1_begins_95 ?_
    obtain ⟨h5, eh5⟩ : ∃ m : Mem, m = up h (x0 + 12) (5 * x1 + x2) (h (x0 + 8) (5 * x1 + x2)) := ⟨_, rfl⟩
    have B6 : EX h0 h5 := by rw [eh5]; exact EX_up B (S_x0.ext E.1).k24 (by decide) rfl o3 (okI_a (Or.inl rfl) (EX.rI B (j := 5 * x1 + x2) (S_x0.ext E.1).k20 rfl))
    have E7 : EX h h5 := by rw [eh5]; exact EX_up E (S_x0.ext E.1).k24 (by decide) rfl o3 (okI_a (Or.inl rfl) (EX.rI B (j := 5 * x1 + x2) (S_x0.ext E.1).k20 rfl))
    refine v_mem eh5 ?_
    have F := F h5 eh5
    refine v_aload_n C 0 rfl rfl dX1_begins_96 ?_
    refine gX1_48 C (S_x0.ext E7.1).k (S_x0.ext E7.1).f25 dX1_begins_97 ?_
    refine v_iconst C dX1_begins_100 ?_
    refine v_iload_n C 1 rfl rfl dX1_begins_101 ?_
    refine v_imul C dX1_begins_102 ?_
    refine v_iload_n C 2 rfl rfl dX1_begins_103 ?_
    refine v_iadd C dX1_begins_104 ?_
    refine v_sipush C rfl dX1_begins_105 ?_
    refine v_iast C (S_x0.ext E7.1).k25 o3 (by rw [(S_x0.ext E7.1).l25]; exact o4) ⟨by decide, by decide⟩ dX1_begins_108 ?_
    obtain ⟨h8, eh8⟩ : ∃ m : Mem, m = up h5 (x0 + 13) (5 * x1 + x2) (-1000) := ⟨_, rfl⟩
    have B9 : EX h0 h8 := by rw [eh8]; exact EX_up B6 (S_x0.ext E7.1).k25 (by decide) rfl o3 (okI_a (Or.inl rfl) ⟨by decide, by decide⟩)
    have E10 : EX h h8 := by rw [eh8]; exact EX_up E7 (S_x0.ext E7.1).k25 (by decide) rfl o3 (okI_a (Or.inl rfl) ⟨by decide, by decide⟩)
    refine v_mem eh8 ?_
    have F := F h8 eh8
    obtain ⟨o11, F⟩ := F
    refine v_iinc C 2 rfl (by decide) dX1_begins_109 (lv2 := [(2, iv (x2 + 1)), (0, rf x0), (1, iv x1)]) rfl ?_
    refine v_goto C 71 dX1_begins_112 (by decide) ?_
    refine v_sub (lv2 := [(0, rf x0), (1, iv x1), (2, iv (x2 + 1))]) [1, 2, 0] rfl ?_
    exact F ⟨B9, R1, o11⟩
set_option maxHeartbeats 1000000 in
theorem eX1_begins {G : GT} {l : Launch} {x0 : Int} {h : Mem} {P : Int → Mem → Prop} (F : ∀ X : MX, Cx G X cX1_begins 3 RX1 1 0 0 none "begins" → X.2.1 = l → (EX h h) →
    TownS h x0 ∧ ∀ h1 : Mem, h1 = up h x0 11 0 → ∀ h4 : Mem, h4 = up h1 x0 12 (h x0 10) → ∀ h7 : Mem, h7 = cpy h4 (x0 + 6) 0 (x0 + 14) 0 4 → (EX h h7 ∧ R32 0 → V G X 3 0 0 (QF G X 3 0 0 (PR h P)) 29 [(0, rf x0), (1, iv 0)] [] h7)) :
    kX1_begins G l x0 h P := by
  refine ct_of (by decide +kernel) (Nat.le_of_ble_eq_true rfl) fun X C e => ?_
  refine v_okz fun O => ?_
  exact wX1_begins_0 C (EX.rf O) (F X C e (EX.rf O))
def kX1_isBareCell (G : GT) (l : Launch) (x0 x1 : Int) (h : Mem) (P : Int → Mem → Prop) : Prop := R32 x1 → Ct G l yX1_isBareCell cX1_isBareCell 2 (some .boolean) 0 1 0 0 [rf x0, iv x1] h (PZ h P)
set_option maxHeartbeats 4000000 in
theorem wX1_isBareCell_0 {G : GT} {X : MX} {h0 h : Mem} {P : Int → Mem → Prop} {x0 x1 : Int} (C : Cx G X cX1_isBareCell 2 RX1 1 0 0 (some .boolean) "isBareCell") (B0 : EX h0 h ∧ R32 x1)
    (F : TownS h x0 ∧ 0 ≤ x1 ∧ x1 < 16 ∧ kX0_has G X.2.1 (h x0 12) (h (x0 + 4) x1) h (fun r3 h4 => EX h h4 → P r3 h4)) :
    V G X 2 0 0 (QF G X 0 0 0 (PZ h0 P)) 0 [(0, rf x0), (1, iv x1)] [] h := by
  obtain ⟨B, R1⟩ := B0
  have E : EX h h := EX.rf B.2
  obtain ⟨S_x0, F⟩ := F
  refine v_aload_n C 0 rfl rfl dX1_isBareCell_0 ?_
  refine gX1_111 C (S_x0.ext E.1).k rfl dX1_isBareCell_1 ?_
  refine v_aload_n C 0 rfl rfl dX1_isBareCell_4 ?_
  refine gX1_21 C (S_x0.ext E.1).k (S_x0.ext E.1).f16 dX1_isBareCell_5 ?_
  refine v_iload_n C 1 rfl rfl dX1_isBareCell_8 ?_
  obtain ⟨o1, F⟩ := F
  obtain ⟨o2, F⟩ := F
  refine v_iald C (S_x0.ext E.1).k16 o1 (by rw [(S_x0.ext E.1).l16]; exact o2) rfl dX1_isBareCell_9 ?_
  refine mX1_114 C (d2 := 0) (kc2 := 0) (ks2 := 0) (by decide) (Nat.le_refl _) (Nat.le_refl _) (Nat.le_of_ble_eq_true rfl) dX1_isBareCell_10 (Ct.mono (F (EX.rI B (j := 12) (S_x0.ext E.1).k rfl) (EX.rI B (j := x1) (S_x0.ext E.1).k16 rfl)) ?_)
  rintro r3 h4 ⟨e5, g6, F⟩
  have F := F e5
  have B7 := B.tr e5
  have E8 := E.tr e5
  exact v_zret C g6 (Nat.le_refl _) (Nat.le_refl _) dX1_isBareCell_13 ⟨B7, g6, F⟩
set_option maxHeartbeats 1000000 in
theorem eX1_isBareCell {G : GT} {l : Launch} {x0 x1 : Int} {h : Mem} {P : Int → Mem → Prop} (F : ∀ X : MX, Cx G X cX1_isBareCell 2 RX1 1 0 0 (some .boolean) "isBareCell" → X.2.1 = l → (EX h h ∧ R32 x1) →
    TownS h x0 ∧ 0 ≤ x1 ∧ x1 < 16 ∧ kX0_has G X.2.1 (h x0 12) (h (x0 + 4) x1) h (fun r3 h4 => EX h h4 → P r3 h4)) :
    kX1_isBareCell G l x0 x1 h P := by
  intro R1
  refine ct_of (by decide +kernel) (Nat.le_of_ble_eq_true rfl) fun X C e => ?_
  refine v_okz fun O => ?_
  exact wX1_isBareCell_0 C ⟨EX.rf O, R1⟩ (F X C e ⟨EX.rf O, R1⟩)
def kX1_lays (G : GT) (l : Launch) (x0 x1 : Int) (h : Mem) (P : Int → Mem → Prop) : Prop := R32 x1 → Ct G l yX1_lays cX1_lays 3 none 3 1 0 0 [rf x0, iv x1] h (PR h P)
set_option maxHeartbeats 4000000 in
theorem wX1_lays_0 {G : GT} {X : MX} {h0 h : Mem} {P : Int → Mem → Prop} {x0 x1 : Int} (C : Cx G X cX1_lays 3 RX1 1 0 0 none "lays") (B0 : EX h0 h ∧ R32 x1)
    (F : TownS h x0 ∧ R32 (182 * x1) ∧ ∀ y2 : Int, y2 = 182 * x1 → 0 ≤ y2 ∧ y2 < 3640 ∧ ∀ h5 : Mem, h5 = up h (x0 + 15) y2 (h x0 11) → 0 ≤ y2 + 1 ∧ y2 + 1 < 3640 ∧ ∀ h10 : Mem, h10 = up h5 (x0 + 15) (y2 + 1) (h x0 12) → 0 ≤ y2 + 2 ∧ y2 + 2 + 16 ≤ 3640 ∧ ∀ h15 : Mem, h15 = cpy h10 (x0 + 11) 0 (x0 + 15) (y2 + 2) 16 → 0 ≤ y2 + 18 ∧ y2 + 18 + 80 ≤ 3640 ∧ ∀ h20 : Mem, h20 = cpy h15 (x0 + 12) 0 (x0 + 15) (y2 + 18) 80 → 0 ≤ y2 + 98 ∧ y2 + 98 + 80 ≤ 3640 ∧ ∀ h25 : Mem, h25 = cpy h20 (x0 + 13) 0 (x0 + 15) (y2 + 98) 80 → 0 ≤ y2 + 178 ∧ y2 + 178 + 4 ≤ 3640 ∧ ∀ h30 : Mem, h30 = cpy h25 (x0 + 14) 0 (x0 + 15) (y2 + 178) 4 → P 0 h30) :
    V G X 3 0 0 (QF G X 3 0 0 (PR h0 P)) 0 [(0, rf x0), (1, iv x1)] [] h := by
  obtain ⟨B, R1⟩ := B0
  have E : EX h h := EX.rf B.2
  obtain ⟨S_x0, F⟩ := F
  refine v_sipush C rfl dX1_lays_0 ?_
  refine v_iload_n C 1 rfl rfl dX1_lays_3 ?_
  refine v_imul C dX1_lays_4 ?_
  obtain ⟨o1, F⟩ := F
  obtain ⟨y2, ey2⟩ : ∃ z : Int, z = 182 * x1 := ⟨_, rfl⟩
  have F := F y2 ey2
  have Ry2 : R32 y2 := by rw [ey2]; exact o1
  refine v_istore_n C rfl (by decide) dX1_lays_5 (lv2 := [(2, iv y2), (0, rf x0), (1, iv x1)]) (by rw [ey2]; rfl) ?_
  refine v_aload_n C 1 rfl rfl dX1_lays_6 ?_
  refine gX1_54 C (S_x0.ext E.1).k (S_x0.ext E.1).f27 dX1_lays_7 ?_
  refine v_iload_n C 0 rfl rfl dX1_lays_10 ?_
  refine v_aload_n C 1 rfl rfl dX1_lays_11 ?_
  refine gX1_108 C (S_x0.ext E.1).k rfl dX1_lays_12 ?_
  obtain ⟨o3, F⟩ := F
  obtain ⟨o4, F⟩ := F
  refine v_iast C (S_x0.ext E.1).k27 o3 (by rw [(S_x0.ext E.1).l27]; exact o4) (EX.rI B (j := 11) (S_x0.ext E.1).k rfl) dX1_lays_15 ?_
  obtain ⟨h5, eh5⟩ : ∃ m : Mem, m = up h (x0 + 15) y2 (h x0 11) := ⟨_, rfl⟩
  have B6 : EX h0 h5 := by rw [eh5]; exact EX_up B (S_x0.ext E.1).k27 (by decide) rfl o3 (okI_a (Or.inl rfl) (EX.rI B (j := 11) (S_x0.ext E.1).k rfl))
  have E7 : EX h h5 := by rw [eh5]; exact EX_up E (S_x0.ext E.1).k27 (by decide) rfl o3 (okI_a (Or.inl rfl) (EX.rI B (j := 11) (S_x0.ext E.1).k rfl))
  refine v_mem eh5 ?_
  have F := F h5 eh5
  refine v_aload_n C 1 rfl rfl dX1_lays_16 ?_
  refine gX1_54 C (S_x0.ext E7.1).k (S_x0.ext E7.1).f27 dX1_lays_17 ?_
  refine v_iload_n C 0 rfl rfl dX1_lays_20 ?_
  refine v_iconst C dX1_lays_21 ?_
  refine v_iadd C dX1_lays_22 ?_
  refine v_aload_n C 1 rfl rfl dX1_lays_23 ?_
  refine gX1_111 C (S_x0.ext E7.1).k (show h5 x0 12 = h x0 12 by rw [eh5, up_a (by omega)]) dX1_lays_24 ?_
  obtain ⟨o8, F⟩ := F
  obtain ⟨o9, F⟩ := F
  refine v_iast C (S_x0.ext E7.1).k27 o8 (by rw [(S_x0.ext E7.1).l27]; exact o9) (R32.of (show h5 x0 12 = h x0 12 by rw [eh5, up_a (by omega)]) (EX.rI B6 (j := 12) (S_x0.ext E7.1).k rfl)) dX1_lays_27 ?_
  obtain ⟨h10, eh10⟩ : ∃ m : Mem, m = up h5 (x0 + 15) (y2 + 1) (h x0 12) := ⟨_, rfl⟩
  have B11 : EX h0 h10 := by rw [eh10]; exact EX_up B6 (S_x0.ext E7.1).k27 (by decide) rfl o8 (okI_a (Or.inl rfl) (R32.of (show h5 x0 12 = h x0 12 by rw [eh5, up_a (by omega)]) (EX.rI B6 (j := 12) (S_x0.ext E7.1).k rfl)))
  have E12 : EX h h10 := by rw [eh10]; exact EX_up E7 (S_x0.ext E7.1).k27 (by decide) rfl o8 (okI_a (Or.inl rfl) (R32.of (show h5 x0 12 = h x0 12 by rw [eh5, up_a (by omega)]) (EX.rI B6 (j := 12) (S_x0.ext E7.1).k rfl)))
  refine v_mem eh10 ?_
  have F := F h10 eh10
  refine v_aload_n C 1 rfl rfl dX1_lays_28 ?_
  refine gX1_42 C (S_x0.ext E12.1).k (S_x0.ext E12.1).f23 dX1_lays_29 ?_
  refine v_iconst C dX1_lays_32 ?_
  refine v_aload_n C 1 rfl rfl dX1_lays_33 ?_
  refine gX1_54 C (S_x0.ext E12.1).k (S_x0.ext E12.1).f27 dX1_lays_34 ?_
  refine v_iload_n C 0 rfl rfl dX1_lays_37 ?_
  refine v_iconst C dX1_lays_38 ?_
  refine v_iadd C dX1_lays_39 ?_
  refine v_bipush C rfl dX1_lays_40 ?_
  obtain ⟨o13, F⟩ := F
  obtain ⟨o14, F⟩ := F
  refine v_copy C q538 q540 q539 q137 (by decide) (Nat.le_of_ble_eq_true rfl) (S_x0.ext E12.1).k23 (S_x0.ext E12.1).k27 (by decide) o13 (by decide) (by rw [(S_x0.ext E12.1).l23]; decide) (by rw [(S_x0.ext E12.1).l27]; exact o14) dX1_lays_42 ?_
  obtain ⟨h15, eh15⟩ : ∃ m : Mem, m = cpy h10 (x0 + 11) 0 (x0 + 15) (y2 + 2) 16 := ⟨_, rfl⟩
  have B16 : EX h0 h15 := by rw [eh15]; exact EX_cpy B11 (S_x0.ext E12.1).k23 (S_x0.ext E12.1).k27 o13
  have E17 : EX h h15 := by rw [eh15]; exact EX_cpy E12 (S_x0.ext E12.1).k23 (S_x0.ext E12.1).k27 o13
  refine v_mem eh15 ?_
  have F := F h15 eh15
  refine v_aload_n C 1 rfl rfl dX1_lays_45 ?_
  refine gX1_45 C (S_x0.ext E17.1).k (S_x0.ext E17.1).f24 dX1_lays_46 ?_
  refine v_iconst C dX1_lays_49 ?_
  refine v_aload_n C 1 rfl rfl dX1_lays_50 ?_
  refine gX1_54 C (S_x0.ext E17.1).k (S_x0.ext E17.1).f27 dX1_lays_51 ?_
  refine v_iload_n C 0 rfl rfl dX1_lays_54 ?_
  refine v_bipush C rfl dX1_lays_55 ?_
  refine v_iadd C dX1_lays_57 ?_
  refine v_bipush C rfl dX1_lays_58 ?_
  obtain ⟨o18, F⟩ := F
  obtain ⟨o19, F⟩ := F
  refine v_copy C q538 q540 q539 q137 (by decide) (Nat.le_of_ble_eq_true rfl) (S_x0.ext E17.1).k24 (S_x0.ext E17.1).k27 (by decide) o18 (by decide) (by rw [(S_x0.ext E17.1).l24]; decide) (by rw [(S_x0.ext E17.1).l27]; exact o19) dX1_lays_60 ?_
  obtain ⟨h20, eh20⟩ : ∃ m : Mem, m = cpy h15 (x0 + 12) 0 (x0 + 15) (y2 + 18) 80 := ⟨_, rfl⟩
  have B21 : EX h0 h20 := by rw [eh20]; exact EX_cpy B16 (S_x0.ext E17.1).k24 (S_x0.ext E17.1).k27 o18
  have E22 : EX h h20 := by rw [eh20]; exact EX_cpy E17 (S_x0.ext E17.1).k24 (S_x0.ext E17.1).k27 o18
  refine v_mem eh20 ?_
  have F := F h20 eh20
  refine v_aload_n C 1 rfl rfl dX1_lays_63 ?_
  refine gX1_48 C (S_x0.ext E22.1).k (S_x0.ext E22.1).f25 dX1_lays_64 ?_
  refine v_iconst C dX1_lays_67 ?_
  refine v_aload_n C 1 rfl rfl dX1_lays_68 ?_
  refine gX1_54 C (S_x0.ext E22.1).k (S_x0.ext E22.1).f27 dX1_lays_69 ?_
  refine v_iload_n C 0 rfl rfl dX1_lays_72 ?_
  refine v_bipush C rfl dX1_lays_73 ?_
  refine v_iadd C dX1_lays_75 ?_
  refine v_bipush C rfl dX1_lays_76 ?_
  obtain ⟨o23, F⟩ := F
  obtain ⟨o24, F⟩ := F
  refine v_copy C q538 q540 q539 q137 (by decide) (Nat.le_of_ble_eq_true rfl) (S_x0.ext E22.1).k25 (S_x0.ext E22.1).k27 (by decide) o23 (by decide) (by rw [(S_x0.ext E22.1).l25]; decide) (by rw [(S_x0.ext E22.1).l27]; exact o24) dX1_lays_78 ?_
  obtain ⟨h25, eh25⟩ : ∃ m : Mem, m = cpy h20 (x0 + 13) 0 (x0 + 15) (y2 + 98) 80 := ⟨_, rfl⟩
  have B26 : EX h0 h25 := by rw [eh25]; exact EX_cpy B21 (S_x0.ext E22.1).k25 (S_x0.ext E22.1).k27 o23
  have E27 : EX h h25 := by rw [eh25]; exact EX_cpy E22 (S_x0.ext E22.1).k25 (S_x0.ext E22.1).k27 o23
  refine v_mem eh25 ?_
  have F := F h25 eh25
  refine v_aload_n C 1 rfl rfl dX1_lays_81 ?_
  refine gX1_51 C (S_x0.ext E27.1).k (S_x0.ext E27.1).f26 dX1_lays_82 ?_
  refine v_iconst C dX1_lays_85 ?_
  refine v_aload_n C 1 rfl rfl dX1_lays_86 ?_
  refine gX1_54 C (S_x0.ext E27.1).k (S_x0.ext E27.1).f27 dX1_lays_87 ?_
  refine v_iload_n C 0 rfl rfl dX1_lays_90 ?_
  refine v_sipush C rfl dX1_lays_91 ?_
  refine v_iadd C dX1_lays_94 ?_
  refine v_iconst C dX1_lays_95 ?_
  obtain ⟨o28, F⟩ := F
  obtain ⟨o29, F⟩ := F
  refine v_copy C q538 q540 q539 q137 (by decide) (Nat.le_of_ble_eq_true rfl) (S_x0.ext E27.1).k26 (S_x0.ext E27.1).k27 (by decide) o28 (by decide) (by rw [(S_x0.ext E27.1).l26]; decide) (by rw [(S_x0.ext E27.1).l27]; exact o29) dX1_lays_96 ?_
  obtain ⟨h30, eh30⟩ : ∃ m : Mem, m = cpy h25 (x0 + 14) 0 (x0 + 15) (y2 + 178) 4 := ⟨_, rfl⟩
  have B31 : EX h0 h30 := by rw [eh30]; exact EX_cpy B26 (S_x0.ext E27.1).k26 (S_x0.ext E27.1).k27 o28
  have E32 : EX h h30 := by rw [eh30]; exact EX_cpy E27 (S_x0.ext E27.1).k26 (S_x0.ext E27.1).k27 o28
  refine v_mem eh30 ?_
  have F := F h30 eh30
  exact v_vret C (Nat.le_refl _) (Nat.le_refl _) dX1_lays_99 ⟨B31, F⟩
set_option maxHeartbeats 1000000 in
theorem eX1_lays {G : GT} {l : Launch} {x0 x1 : Int} {h : Mem} {P : Int → Mem → Prop} (F : ∀ X : MX, Cx G X cX1_lays 3 RX1 1 0 0 none "lays" → X.2.1 = l → (EX h h ∧ R32 x1) →
    TownS h x0 ∧ R32 (182 * x1) ∧ ∀ y2 : Int, y2 = 182 * x1 → 0 ≤ y2 ∧ y2 < 3640 ∧ ∀ h5 : Mem, h5 = up h (x0 + 15) y2 (h x0 11) → 0 ≤ y2 + 1 ∧ y2 + 1 < 3640 ∧ ∀ h10 : Mem, h10 = up h5 (x0 + 15) (y2 + 1) (h x0 12) → 0 ≤ y2 + 2 ∧ y2 + 2 + 16 ≤ 3640 ∧ ∀ h15 : Mem, h15 = cpy h10 (x0 + 11) 0 (x0 + 15) (y2 + 2) 16 → 0 ≤ y2 + 18 ∧ y2 + 18 + 80 ≤ 3640 ∧ ∀ h20 : Mem, h20 = cpy h15 (x0 + 12) 0 (x0 + 15) (y2 + 18) 80 → 0 ≤ y2 + 98 ∧ y2 + 98 + 80 ≤ 3640 ∧ ∀ h25 : Mem, h25 = cpy h20 (x0 + 13) 0 (x0 + 15) (y2 + 98) 80 → 0 ≤ y2 + 178 ∧ y2 + 178 + 4 ≤ 3640 ∧ ∀ h30 : Mem, h30 = cpy h25 (x0 + 14) 0 (x0 + 15) (y2 + 178) 4 → P 0 h30) :
    kX1_lays G l x0 x1 h P := by
  intro R1
  refine ct_of (by decide +kernel) (Nat.le_of_ble_eq_true rfl) fun X C e => ?_
  refine v_okz fun O => ?_
  exact wX1_lays_0 C ⟨EX.rf O, R1⟩ (F X C e ⟨EX.rf O, R1⟩)
def kX1_ownerOf (G : GT) (l : Launch) (x0 x1 : Int) (h : Mem) (P : Int → Mem → Prop) : Prop := R32 x1 → Ct G l yX1_ownerOf cX1_ownerOf 2 (some .int) 0 1 0 0 [rf x0, iv x1] h (PI h P)
set_option maxHeartbeats 4000000 in
theorem wX1_ownerOf_0 {G : GT} {X : MX} {h0 h : Mem} {P : Int → Mem → Prop} {x0 x1 : Int} (C : Cx G X cX1_ownerOf 2 RX1 1 0 0 (some .int) "ownerOf") (B0 : EX h0 h ∧ R32 x1)
    (F : TownS h x0 ∧ kX1_ownerAt G X.2.1 x0 x1 (h x0 11) 2147483647 h (fun r1 h2 => EX h h2 → P r1 h2)) :
    V G X 2 0 0 (QF G X 0 0 0 (PI h0 P)) 0 [(0, rf x0), (1, iv x1)] [] h := by
  obtain ⟨B, R1⟩ := B0
  have E : EX h h := EX.rf B.2
  obtain ⟨S_x0, F⟩ := F
  refine v_aload_n C 0 rfl rfl dX1_ownerOf_0 ?_
  refine v_iload_n C 1 rfl rfl dX1_ownerOf_1 ?_
  refine v_aload_n C 0 rfl rfl dX1_ownerOf_2 ?_
  refine gX1_108 C (S_x0.ext E.1).k rfl dX1_ownerOf_3 ?_
  refine v_ldc C (x := 2147483647) q857 dX1_ownerOf_6 ?_
  refine mX1_119 C (S_x0.ext E.1).k (d2 := 0) (kc2 := 0) (ks2 := 0) (by decide) (Nat.le_refl _) (Nat.le_refl _) (Nat.le_of_ble_eq_true rfl) dX1_ownerOf_8 (Ct.mono (F R1 (EX.rI B (j := 11) (S_x0.ext E.1).k rfl) ⟨by decide, by decide⟩) ?_)
  rintro r1 h2 ⟨e3, g4, F⟩
  have F := F e3
  have B5 := B.tr e3
  have E6 := E.tr e3
  exact v_iret C (Nat.le_refl _) (Nat.le_refl _) dX1_ownerOf_11 ⟨B5, g4, F⟩
set_option maxHeartbeats 1000000 in
theorem eX1_ownerOf {G : GT} {l : Launch} {x0 x1 : Int} {h : Mem} {P : Int → Mem → Prop} (F : ∀ X : MX, Cx G X cX1_ownerOf 2 RX1 1 0 0 (some .int) "ownerOf" → X.2.1 = l → (EX h h ∧ R32 x1) →
    TownS h x0 ∧ kX1_ownerAt G X.2.1 x0 x1 (h x0 11) 2147483647 h (fun r1 h2 => EX h h2 → P r1 h2)) :
    kX1_ownerOf G l x0 x1 h P := by
  intro R1
  refine ct_of (by decide +kernel) (Nat.le_of_ble_eq_true rfl) fun X C e => ?_
  refine v_okz fun O => ?_
  exact wX1_ownerOf_0 C ⟨EX.rf O, R1⟩ (F X C e ⟨EX.rf O, R1⟩)
def kX1_paints (G : GT) (l : Launch) (x0 x1 x2 : Int) (h : Mem) (P : Int → Mem → Prop) : Prop := R32 x1 → R32 x2 → Ct G l yX1_paints cX1_paints 3 none 3 1 0 0 [rf x0, iv x1, iv x2] h (PR h P)
set_option maxHeartbeats 4000000 in
theorem wX1_paints_0 {G : GT} {X : MX} {h0 h : Mem} {P : Int → Mem → Prop} {x0 x1 x2 : Int} (C : Cx G X cX1_paints 3 RX1 1 0 0 none "paints") (B0 : EX h0 h ∧ R32 x1 ∧ R32 x2)
    (F : TownS h x0 ∧ 0 ≤ x2 ∧ x2 < 4 ∧ R32 (h (x0 + 14) x2 - h x0 2) ∧ ∀ h4 : Mem, h4 = up h (x0 + 14) x2 (h (x0 + 14) x2 - h x0 2) → kX1_putsCoat G X.2.1 x0 x1 x2 (h x0 11) h4 (fun _ h8 => EX h4 h8 → P 0 h8)) :
    V G X 3 0 0 (QF G X 3 0 0 (PR h0 P)) 0 [(0, rf x0), (1, iv x1), (2, iv x2)] [] h := by
  obtain ⟨B, R1, R2⟩ := B0
  have E : EX h h := EX.rf B.2
  obtain ⟨S_x0, F⟩ := F
  refine v_aload_n C 0 rfl rfl dX1_paints_0 ?_
  refine gX1_51 C (S_x0.ext E.1).k (S_x0.ext E.1).f26 dX1_paints_1 ?_
  refine v_iload_n C 2 rfl rfl dX1_paints_4 ?_
  refine v_dup2 C (iv_n1 _) (rf_n1 _) dX1_paints_5 ?_
  obtain ⟨o1, F⟩ := F
  obtain ⟨o2, F⟩ := F
  refine v_iald C (S_x0.ext E.1).k26 o1 (by rw [(S_x0.ext E.1).l26]; exact o2) rfl dX1_paints_6 ?_
  refine v_aload_n C 0 rfl rfl dX1_paints_7 ?_
  refine gX1_71 C (S_x0.ext E.1).k rfl dX1_paints_8 ?_
  refine v_isub C dX1_paints_11 ?_
  obtain ⟨o3, F⟩ := F
  refine v_iast C (S_x0.ext E.1).k26 o1 (by rw [(S_x0.ext E.1).l26]; exact o2) o3 dX1_paints_12 ?_
  obtain ⟨h4, eh4⟩ : ∃ m : Mem, m = up h (x0 + 14) x2 (h (x0 + 14) x2 - h x0 2) := ⟨_, rfl⟩
  have B5 : EX h0 h4 := by rw [eh4]; exact EX_up B (S_x0.ext E.1).k26 (by decide) rfl o1 (okI_a (Or.inl rfl) o3)
  have E6 : EX h h4 := by rw [eh4]; exact EX_up E (S_x0.ext E.1).k26 (by decide) rfl o1 (okI_a (Or.inl rfl) o3)
  refine v_mem eh4 ?_
  have F := F h4 eh4
  refine v_aload_n C 0 rfl rfl dX1_paints_13 ?_
  refine v_iload_n C 1 rfl rfl dX1_paints_14 ?_
  refine v_iload_n C 2 rfl rfl dX1_paints_15 ?_
  refine v_aload_n C 0 rfl rfl dX1_paints_16 ?_
  refine gX1_108 C (S_x0.ext E6.1).k (show h4 x0 11 = h x0 11 by rw [eh4, up_a (by omega)]) dX1_paints_17 ?_
  refine mX1_139 C (S_x0.ext E6.1).k (d2 := 0) (kc2 := 0) (ks2 := 0) (by decide) (Nat.le_refl _) (Nat.le_refl _) (Nat.le_of_ble_eq_true rfl) dX1_paints_20 (Ct.mono (F R1 R2 (R32.of (show h4 x0 11 = h x0 11 by rw [eh4, up_a (by omega)]) (EX.rI B5 (j := 11) (S_x0.ext E6.1).k rfl))) ?_)
  rintro r7 h8 ⟨e9, F⟩
  have F := F e9
  have B11 := B5.tr e9
  have E12 := E6.tr e9
  exact v_vret C (Nat.le_refl _) (Nat.le_refl _) dX1_paints_23 ⟨B11, F⟩
set_option maxHeartbeats 1000000 in
theorem eX1_paints {G : GT} {l : Launch} {x0 x1 x2 : Int} {h : Mem} {P : Int → Mem → Prop} (F : ∀ X : MX, Cx G X cX1_paints 3 RX1 1 0 0 none "paints" → X.2.1 = l → (EX h h ∧ R32 x1 ∧ R32 x2) →
    TownS h x0 ∧ 0 ≤ x2 ∧ x2 < 4 ∧ R32 (h (x0 + 14) x2 - h x0 2) ∧ ∀ h4 : Mem, h4 = up h (x0 + 14) x2 (h (x0 + 14) x2 - h x0 2) → kX1_putsCoat G X.2.1 x0 x1 x2 (h x0 11) h4 (fun _ h8 => EX h4 h8 → P 0 h8)) :
    kX1_paints G l x0 x1 x2 h P := by
  intro R1 R2
  refine ct_of (by decide +kernel) (Nat.le_of_ble_eq_true rfl) fun X C e => ?_
  refine v_okz fun O => ?_
  exact wX1_paints_0 C ⟨EX.rf O, R1, R2⟩ (F X C e ⟨EX.rf O, R1, R2⟩)
def kX1_standsAs (G : GT) (l : Launch) (x0 x1 : Int) (h : Mem) (P : Int → Mem → Prop) : Prop := Ct G l yX1_standsAs cX1_standsAs 2 (some (.object "LatestCoat$Town")) 2 1 0 0 [rf x0, rf x1] h (PR h P)
set_option maxHeartbeats 4000000 in
theorem wX1_standsAs_0 {G : GT} {X : MX} {h0 h : Mem} {P : Int → Mem → Prop} {x0 x1 : Int} (C : Cx G X cX1_standsAs 2 RX1 1 0 0 (some (.object "LatestCoat$Town")) "standsAs") (B0 : EX h0 h)
    (F : TownS h x1 ∧ TownS h x0 ∧ ∀ h1 : Mem, h1 = up h x0 11 (h x1 11) → ∀ h4 : Mem, h4 = up h1 x0 12 (h x1 12) → ∀ h7 : Mem, h7 = cpy h4 (x1 + 11) 0 (x0 + 11) 0 16 → ∀ h10 : Mem, h10 = cpy h7 (x1 + 12) 0 (x0 + 12) 0 80 → ∀ h13 : Mem, h13 = cpy h10 (x1 + 13) 0 (x0 + 13) 0 80 → ∀ h16 : Mem, h16 = cpy h13 (x1 + 14) 0 (x0 + 14) 0 4 → P x0 h16) :
    V G X 2 0 0 (QF G X 2 0 0 (PR h0 P)) 0 [(0, rf x0), (1, rf x1)] [] h := by
  have B := B0
  have E : EX h h := EX.rf B.2
  obtain ⟨S_x1, F⟩ := F
  obtain ⟨S_x0, F⟩ := F
  refine v_aload_n C 0 rfl rfl dX1_standsAs_0 ?_
  refine v_aload_n C 1 rfl rfl dX1_standsAs_1 ?_
  refine gX1_108 C (S_x1.ext E.1).k rfl dX1_standsAs_2 ?_
  refine pX1_108 C (S_x0.ext E.1).k (okI_i rfl (EX.rI B (j := 11) (S_x1.ext E.1).k rfl)) dX1_standsAs_5 ?_
  obtain ⟨h1, eh1⟩ : ∃ m : Mem, m = up h x0 11 (h x1 11) := ⟨_, rfl⟩
  have B2 : EX h0 h1 := by rw [eh1]; exact EX_up B (S_x0.ext E.1).k (by decide) rfl (by decide) (okI_i rfl (EX.rI B (j := 11) (S_x1.ext E.1).k rfl))
  have E3 : EX h h1 := by rw [eh1]; exact EX_up E (S_x0.ext E.1).k (by decide) rfl (by decide) (okI_i rfl (EX.rI B (j := 11) (S_x1.ext E.1).k rfl))
  refine v_mem eh1 ?_
  have F := F h1 eh1
  refine v_aload_n C 0 rfl rfl dX1_standsAs_8 ?_
  refine v_aload_n C 1 rfl rfl dX1_standsAs_9 ?_
  refine gX1_111 C (S_x1.ext E3.1).k (show h1 x1 12 = h x1 12 by rw [eh1, up_i (by decide)]) dX1_standsAs_10 ?_
  refine pX1_111 C (S_x0.ext E3.1).k (okI_i rfl (R32.of (show h1 x1 12 = h x1 12 by rw [eh1, up_i (by decide)]) (EX.rI B2 (j := 12) (S_x1.ext E3.1).k rfl))) dX1_standsAs_13 ?_
  obtain ⟨h4, eh4⟩ : ∃ m : Mem, m = up h1 x0 12 (h x1 12) := ⟨_, rfl⟩
  have B5 : EX h0 h4 := by rw [eh4]; exact EX_up B2 (S_x0.ext E3.1).k (by decide) rfl (by decide) (okI_i rfl (R32.of (show h1 x1 12 = h x1 12 by rw [eh1, up_i (by decide)]) (EX.rI B2 (j := 12) (S_x1.ext E3.1).k rfl)))
  have E6 : EX h h4 := by rw [eh4]; exact EX_up E3 (S_x0.ext E3.1).k (by decide) rfl (by decide) (okI_i rfl (R32.of (show h1 x1 12 = h x1 12 by rw [eh1, up_i (by decide)]) (EX.rI B2 (j := 12) (S_x1.ext E3.1).k rfl)))
  refine v_mem eh4 ?_
  have F := F h4 eh4
  refine v_aload_n C 1 rfl rfl dX1_standsAs_16 ?_
  refine gX1_42 C (S_x1.ext E6.1).k (S_x1.ext E6.1).f23 dX1_standsAs_17 ?_
  refine v_iconst C dX1_standsAs_20 ?_
  refine v_aload_n C 0 rfl rfl dX1_standsAs_21 ?_
  refine gX1_42 C (S_x0.ext E6.1).k (S_x0.ext E6.1).f23 dX1_standsAs_22 ?_
  refine v_iconst C dX1_standsAs_25 ?_
  refine v_bipush C rfl dX1_standsAs_26 ?_
  refine v_copy C q538 q540 q539 q137 (by decide) (Nat.le_of_ble_eq_true rfl) (S_x1.ext E6.1).k23 (S_x0.ext E6.1).k23 (by decide) (by decide) (by decide) (by rw [(S_x1.ext E6.1).l23]; decide) (by rw [(S_x0.ext E6.1).l23]; decide) dX1_standsAs_28 ?_
  obtain ⟨h7, eh7⟩ : ∃ m : Mem, m = cpy h4 (x1 + 11) 0 (x0 + 11) 0 16 := ⟨_, rfl⟩
  have B8 : EX h0 h7 := by rw [eh7]; exact EX_cpy B5 (S_x1.ext E6.1).k23 (S_x0.ext E6.1).k23 (by decide)
  have E9 : EX h h7 := by rw [eh7]; exact EX_cpy E6 (S_x1.ext E6.1).k23 (S_x0.ext E6.1).k23 (by decide)
  refine v_mem eh7 ?_
  have F := F h7 eh7
  refine v_aload_n C 1 rfl rfl dX1_standsAs_31 ?_
  refine gX1_45 C (S_x1.ext E9.1).k (S_x1.ext E9.1).f24 dX1_standsAs_32 ?_
  refine v_iconst C dX1_standsAs_35 ?_
  refine v_aload_n C 0 rfl rfl dX1_standsAs_36 ?_
  refine gX1_45 C (S_x0.ext E9.1).k (S_x0.ext E9.1).f24 dX1_standsAs_37 ?_
  refine v_iconst C dX1_standsAs_40 ?_
  refine v_bipush C rfl dX1_standsAs_41 ?_
  refine v_copy C q538 q540 q539 q137 (by decide) (Nat.le_of_ble_eq_true rfl) (S_x1.ext E9.1).k24 (S_x0.ext E9.1).k24 (by decide) (by decide) (by decide) (by rw [(S_x1.ext E9.1).l24]; decide) (by rw [(S_x0.ext E9.1).l24]; decide) dX1_standsAs_43 ?_
  obtain ⟨h10, eh10⟩ : ∃ m : Mem, m = cpy h7 (x1 + 12) 0 (x0 + 12) 0 80 := ⟨_, rfl⟩
  have B11 : EX h0 h10 := by rw [eh10]; exact EX_cpy B8 (S_x1.ext E9.1).k24 (S_x0.ext E9.1).k24 (by decide)
  have E12 : EX h h10 := by rw [eh10]; exact EX_cpy E9 (S_x1.ext E9.1).k24 (S_x0.ext E9.1).k24 (by decide)
  refine v_mem eh10 ?_
  have F := F h10 eh10
  refine v_aload_n C 1 rfl rfl dX1_standsAs_46 ?_
  refine gX1_48 C (S_x1.ext E12.1).k (S_x1.ext E12.1).f25 dX1_standsAs_47 ?_
  refine v_iconst C dX1_standsAs_50 ?_
  refine v_aload_n C 0 rfl rfl dX1_standsAs_51 ?_
  refine gX1_48 C (S_x0.ext E12.1).k (S_x0.ext E12.1).f25 dX1_standsAs_52 ?_
  refine v_iconst C dX1_standsAs_55 ?_
  refine v_bipush C rfl dX1_standsAs_56 ?_
  refine v_copy C q538 q540 q539 q137 (by decide) (Nat.le_of_ble_eq_true rfl) (S_x1.ext E12.1).k25 (S_x0.ext E12.1).k25 (by decide) (by decide) (by decide) (by rw [(S_x1.ext E12.1).l25]; decide) (by rw [(S_x0.ext E12.1).l25]; decide) dX1_standsAs_58 ?_
  obtain ⟨h13, eh13⟩ : ∃ m : Mem, m = cpy h10 (x1 + 13) 0 (x0 + 13) 0 80 := ⟨_, rfl⟩
  have B14 : EX h0 h13 := by rw [eh13]; exact EX_cpy B11 (S_x1.ext E12.1).k25 (S_x0.ext E12.1).k25 (by decide)
  have E15 : EX h h13 := by rw [eh13]; exact EX_cpy E12 (S_x1.ext E12.1).k25 (S_x0.ext E12.1).k25 (by decide)
  refine v_mem eh13 ?_
  have F := F h13 eh13
  refine v_aload_n C 1 rfl rfl dX1_standsAs_61 ?_
  refine gX1_51 C (S_x1.ext E15.1).k (S_x1.ext E15.1).f26 dX1_standsAs_62 ?_
  refine v_iconst C dX1_standsAs_65 ?_
  refine v_aload_n C 0 rfl rfl dX1_standsAs_66 ?_
  refine gX1_51 C (S_x0.ext E15.1).k (S_x0.ext E15.1).f26 dX1_standsAs_67 ?_
  refine v_iconst C dX1_standsAs_70 ?_
  refine v_iconst C dX1_standsAs_71 ?_
  refine v_copy C q538 q540 q539 q137 (by decide) (Nat.le_of_ble_eq_true rfl) (S_x1.ext E15.1).k26 (S_x0.ext E15.1).k26 (by decide) (by decide) (by decide) (by rw [(S_x1.ext E15.1).l26]; decide) (by rw [(S_x0.ext E15.1).l26]; decide) dX1_standsAs_72 ?_
  obtain ⟨h16, eh16⟩ : ∃ m : Mem, m = cpy h13 (x1 + 14) 0 (x0 + 14) 0 4 := ⟨_, rfl⟩
  have B17 : EX h0 h16 := by rw [eh16]; exact EX_cpy B14 (S_x1.ext E15.1).k26 (S_x0.ext E15.1).k26 (by decide)
  have E18 : EX h h16 := by rw [eh16]; exact EX_cpy E15 (S_x1.ext E15.1).k26 (S_x0.ext E15.1).k26 (by decide)
  refine v_mem eh16 ?_
  have F := F h16 eh16
  refine v_aload_n C 0 rfl rfl dX1_standsAs_75 ?_
  exact v_aret C (Nat.le_refl _) (Nat.le_refl _) dX1_standsAs_76 ⟨B17, F⟩
set_option maxHeartbeats 1000000 in
theorem eX1_standsAs {G : GT} {l : Launch} {x0 x1 : Int} {h : Mem} {P : Int → Mem → Prop} (F : ∀ X : MX, Cx G X cX1_standsAs 2 RX1 1 0 0 (some (.object "LatestCoat$Town")) "standsAs" → X.2.1 = l → (EX h h) →
    TownS h x1 ∧ TownS h x0 ∧ ∀ h1 : Mem, h1 = up h x0 11 (h x1 11) → ∀ h4 : Mem, h4 = up h1 x0 12 (h x1 12) → ∀ h7 : Mem, h7 = cpy h4 (x1 + 11) 0 (x0 + 11) 0 16 → ∀ h10 : Mem, h10 = cpy h7 (x1 + 12) 0 (x0 + 12) 0 80 → ∀ h13 : Mem, h13 = cpy h10 (x1 + 13) 0 (x0 + 13) 0 80 → ∀ h16 : Mem, h16 = cpy h13 (x1 + 14) 0 (x0 + 14) 0 4 → P x0 h16) :
    kX1_standsAs G l x0 x1 h P := by
  refine ct_of (by decide +kernel) (Nat.le_of_ble_eq_true rfl) fun X C e => ?_
  refine v_okz fun O => ?_
  exact wX1_standsAs_0 C (EX.rf O) (F X C e (EX.rf O))
def kX1_takes (G : GT) (l : Launch) (x0 x1 : Int) (h : Mem) (P : Int → Mem → Prop) : Prop := R32 x1 → Ct G l yX1_takes cX1_takes 3 none 3 1 0 0 [rf x0, iv x1] h (PR h P)
set_option maxHeartbeats 4000000 in
theorem wX1_takes_0 {G : GT} {X : MX} {h0 h : Mem} {P : Int → Mem → Prop} {x0 x1 : Int} (C : Cx G X cX1_takes 3 RX1 1 0 0 none "takes") (B0 : EX h0 h ∧ R32 x1)
    (F : TownS h x0 ∧ R32 (182 * x1) ∧ ∀ y2 : Int, y2 = 182 * x1 → 0 ≤ y2 ∧ y2 < 3640 ∧ ∀ h5 : Mem, h5 = up h x0 11 (h (x0 + 15) y2) → 0 ≤ y2 + 1 ∧ y2 + 1 < 3640 ∧ ∀ h10 : Mem, h10 = up h5 x0 12 (h (x0 + 15) (y2 + 1)) → 0 ≤ y2 + 2 ∧ y2 + 2 + 16 ≤ 3640 ∧ ∀ h15 : Mem, h15 = cpy h10 (x0 + 15) (y2 + 2) (x0 + 11) 0 16 → 0 ≤ y2 + 18 ∧ y2 + 18 + 80 ≤ 3640 ∧ ∀ h20 : Mem, h20 = cpy h15 (x0 + 15) (y2 + 18) (x0 + 12) 0 80 → 0 ≤ y2 + 98 ∧ y2 + 98 + 80 ≤ 3640 ∧ ∀ h25 : Mem, h25 = cpy h20 (x0 + 15) (y2 + 98) (x0 + 13) 0 80 → 0 ≤ y2 + 178 ∧ y2 + 178 + 4 ≤ 3640 ∧ ∀ h30 : Mem, h30 = cpy h25 (x0 + 15) (y2 + 178) (x0 + 14) 0 4 → P 0 h30) :
    V G X 3 0 0 (QF G X 3 0 0 (PR h0 P)) 0 [(0, rf x0), (1, iv x1)] [] h := by
  obtain ⟨B, R1⟩ := B0
  have E : EX h h := EX.rf B.2
  obtain ⟨S_x0, F⟩ := F
  refine v_sipush C rfl dX1_takes_0 ?_
  refine v_iload_n C 1 rfl rfl dX1_takes_3 ?_
  refine v_imul C dX1_takes_4 ?_
  obtain ⟨o1, F⟩ := F
  obtain ⟨y2, ey2⟩ : ∃ z : Int, z = 182 * x1 := ⟨_, rfl⟩
  have F := F y2 ey2
  have Ry2 : R32 y2 := by rw [ey2]; exact o1
  refine v_istore_n C rfl (by decide) dX1_takes_5 (lv2 := [(2, iv y2), (0, rf x0), (1, iv x1)]) (by rw [ey2]; rfl) ?_
  refine v_aload_n C 1 rfl rfl dX1_takes_6 ?_
  refine v_aload_n C 1 rfl rfl dX1_takes_7 ?_
  refine gX1_54 C (S_x0.ext E.1).k (S_x0.ext E.1).f27 dX1_takes_8 ?_
  refine v_iload_n C 0 rfl rfl dX1_takes_11 ?_
  obtain ⟨o3, F⟩ := F
  obtain ⟨o4, F⟩ := F
  refine v_iald C (S_x0.ext E.1).k27 o3 (by rw [(S_x0.ext E.1).l27]; exact o4) rfl dX1_takes_12 ?_
  refine pX1_108 C (S_x0.ext E.1).k (okI_i rfl (EX.rI B (j := y2) (S_x0.ext E.1).k27 rfl)) dX1_takes_13 ?_
  obtain ⟨h5, eh5⟩ : ∃ m : Mem, m = up h x0 11 (h (x0 + 15) y2) := ⟨_, rfl⟩
  have B6 : EX h0 h5 := by rw [eh5]; exact EX_up B (S_x0.ext E.1).k (by decide) rfl (by decide) (okI_i rfl (EX.rI B (j := y2) (S_x0.ext E.1).k27 rfl))
  have E7 : EX h h5 := by rw [eh5]; exact EX_up E (S_x0.ext E.1).k (by decide) rfl (by decide) (okI_i rfl (EX.rI B (j := y2) (S_x0.ext E.1).k27 rfl))
  refine v_mem eh5 ?_
  have F := F h5 eh5
  refine v_aload_n C 1 rfl rfl dX1_takes_16 ?_
  refine v_aload_n C 1 rfl rfl dX1_takes_17 ?_
  refine gX1_54 C (S_x0.ext E7.1).k (S_x0.ext E7.1).f27 dX1_takes_18 ?_
  refine v_iload_n C 0 rfl rfl dX1_takes_21 ?_
  refine v_iconst C dX1_takes_22 ?_
  refine v_iadd C dX1_takes_23 ?_
  obtain ⟨o8, F⟩ := F
  obtain ⟨o9, F⟩ := F
  refine v_iald C (S_x0.ext E7.1).k27 o8 (by rw [(S_x0.ext E7.1).l27]; exact o9) (show h5 (x0 + 15) (y2 + 1) = h (x0 + 15) (y2 + 1) by rw [eh5, up_a (by omega)]) dX1_takes_24 ?_
  refine pX1_111 C (S_x0.ext E7.1).k (okI_i rfl (R32.of (show h5 (x0 + 15) (y2 + 1) = h (x0 + 15) (y2 + 1) by rw [eh5, up_a (by omega)]) (EX.rI B6 (j := y2 + 1) (S_x0.ext E7.1).k27 rfl))) dX1_takes_25 ?_
  obtain ⟨h10, eh10⟩ : ∃ m : Mem, m = up h5 x0 12 (h (x0 + 15) (y2 + 1)) := ⟨_, rfl⟩
  have B11 : EX h0 h10 := by rw [eh10]; exact EX_up B6 (S_x0.ext E7.1).k (by decide) rfl (by decide) (okI_i rfl (R32.of (show h5 (x0 + 15) (y2 + 1) = h (x0 + 15) (y2 + 1) by rw [eh5, up_a (by omega)]) (EX.rI B6 (j := y2 + 1) (S_x0.ext E7.1).k27 rfl)))
  have E12 : EX h h10 := by rw [eh10]; exact EX_up E7 (S_x0.ext E7.1).k (by decide) rfl (by decide) (okI_i rfl (R32.of (show h5 (x0 + 15) (y2 + 1) = h (x0 + 15) (y2 + 1) by rw [eh5, up_a (by omega)]) (EX.rI B6 (j := y2 + 1) (S_x0.ext E7.1).k27 rfl)))
  refine v_mem eh10 ?_
  have F := F h10 eh10
  refine v_aload_n C 1 rfl rfl dX1_takes_28 ?_
  refine gX1_54 C (S_x0.ext E12.1).k (S_x0.ext E12.1).f27 dX1_takes_29 ?_
  refine v_iload_n C 0 rfl rfl dX1_takes_32 ?_
  refine v_iconst C dX1_takes_33 ?_
  refine v_iadd C dX1_takes_34 ?_
  refine v_aload_n C 1 rfl rfl dX1_takes_35 ?_
  refine gX1_42 C (S_x0.ext E12.1).k (S_x0.ext E12.1).f23 dX1_takes_36 ?_
  refine v_iconst C dX1_takes_39 ?_
  refine v_bipush C rfl dX1_takes_40 ?_
  obtain ⟨o13, F⟩ := F
  obtain ⟨o14, F⟩ := F
  refine v_copy C q538 q540 q539 q137 (by decide) (Nat.le_of_ble_eq_true rfl) (S_x0.ext E12.1).k27 (S_x0.ext E12.1).k23 o13 (by decide) (by decide) (by rw [(S_x0.ext E12.1).l27]; exact o14) (by rw [(S_x0.ext E12.1).l23]; decide) dX1_takes_42 ?_
  obtain ⟨h15, eh15⟩ : ∃ m : Mem, m = cpy h10 (x0 + 15) (y2 + 2) (x0 + 11) 0 16 := ⟨_, rfl⟩
  have B16 : EX h0 h15 := by rw [eh15]; exact EX_cpy B11 (S_x0.ext E12.1).k27 (S_x0.ext E12.1).k23 (by decide)
  have E17 : EX h h15 := by rw [eh15]; exact EX_cpy E12 (S_x0.ext E12.1).k27 (S_x0.ext E12.1).k23 (by decide)
  refine v_mem eh15 ?_
  have F := F h15 eh15
  refine v_aload_n C 1 rfl rfl dX1_takes_45 ?_
  refine gX1_54 C (S_x0.ext E17.1).k (S_x0.ext E17.1).f27 dX1_takes_46 ?_
  refine v_iload_n C 0 rfl rfl dX1_takes_49 ?_
  refine v_bipush C rfl dX1_takes_50 ?_
  refine v_iadd C dX1_takes_52 ?_
  refine v_aload_n C 1 rfl rfl dX1_takes_53 ?_
  refine gX1_45 C (S_x0.ext E17.1).k (S_x0.ext E17.1).f24 dX1_takes_54 ?_
  refine v_iconst C dX1_takes_57 ?_
  refine v_bipush C rfl dX1_takes_58 ?_
  obtain ⟨o18, F⟩ := F
  obtain ⟨o19, F⟩ := F
  refine v_copy C q538 q540 q539 q137 (by decide) (Nat.le_of_ble_eq_true rfl) (S_x0.ext E17.1).k27 (S_x0.ext E17.1).k24 o18 (by decide) (by decide) (by rw [(S_x0.ext E17.1).l27]; exact o19) (by rw [(S_x0.ext E17.1).l24]; decide) dX1_takes_60 ?_
  obtain ⟨h20, eh20⟩ : ∃ m : Mem, m = cpy h15 (x0 + 15) (y2 + 18) (x0 + 12) 0 80 := ⟨_, rfl⟩
  have B21 : EX h0 h20 := by rw [eh20]; exact EX_cpy B16 (S_x0.ext E17.1).k27 (S_x0.ext E17.1).k24 (by decide)
  have E22 : EX h h20 := by rw [eh20]; exact EX_cpy E17 (S_x0.ext E17.1).k27 (S_x0.ext E17.1).k24 (by decide)
  refine v_mem eh20 ?_
  have F := F h20 eh20
  refine v_aload_n C 1 rfl rfl dX1_takes_63 ?_
  refine gX1_54 C (S_x0.ext E22.1).k (S_x0.ext E22.1).f27 dX1_takes_64 ?_
  refine v_iload_n C 0 rfl rfl dX1_takes_67 ?_
  refine v_bipush C rfl dX1_takes_68 ?_
  refine v_iadd C dX1_takes_70 ?_
  refine v_aload_n C 1 rfl rfl dX1_takes_71 ?_
  refine gX1_48 C (S_x0.ext E22.1).k (S_x0.ext E22.1).f25 dX1_takes_72 ?_
  refine v_iconst C dX1_takes_75 ?_
  refine v_bipush C rfl dX1_takes_76 ?_
  obtain ⟨o23, F⟩ := F
  obtain ⟨o24, F⟩ := F
  refine v_copy C q538 q540 q539 q137 (by decide) (Nat.le_of_ble_eq_true rfl) (S_x0.ext E22.1).k27 (S_x0.ext E22.1).k25 o23 (by decide) (by decide) (by rw [(S_x0.ext E22.1).l27]; exact o24) (by rw [(S_x0.ext E22.1).l25]; decide) dX1_takes_78 ?_
  obtain ⟨h25, eh25⟩ : ∃ m : Mem, m = cpy h20 (x0 + 15) (y2 + 98) (x0 + 13) 0 80 := ⟨_, rfl⟩
  have B26 : EX h0 h25 := by rw [eh25]; exact EX_cpy B21 (S_x0.ext E22.1).k27 (S_x0.ext E22.1).k25 (by decide)
  have E27 : EX h h25 := by rw [eh25]; exact EX_cpy E22 (S_x0.ext E22.1).k27 (S_x0.ext E22.1).k25 (by decide)
  refine v_mem eh25 ?_
  have F := F h25 eh25
  refine v_aload_n C 1 rfl rfl dX1_takes_81 ?_
  refine gX1_54 C (S_x0.ext E27.1).k (S_x0.ext E27.1).f27 dX1_takes_82 ?_
  refine v_iload_n C 0 rfl rfl dX1_takes_85 ?_
  refine v_sipush C rfl dX1_takes_86 ?_
  refine v_iadd C dX1_takes_89 ?_
  refine v_aload_n C 1 rfl rfl dX1_takes_90 ?_
  refine gX1_51 C (S_x0.ext E27.1).k (S_x0.ext E27.1).f26 dX1_takes_91 ?_
  refine v_iconst C dX1_takes_94 ?_
  refine v_iconst C dX1_takes_95 ?_
  obtain ⟨o28, F⟩ := F
  obtain ⟨o29, F⟩ := F
  refine v_copy C q538 q540 q539 q137 (by decide) (Nat.le_of_ble_eq_true rfl) (S_x0.ext E27.1).k27 (S_x0.ext E27.1).k26 o28 (by decide) (by decide) (by rw [(S_x0.ext E27.1).l27]; exact o29) (by rw [(S_x0.ext E27.1).l26]; decide) dX1_takes_96 ?_
  obtain ⟨h30, eh30⟩ : ∃ m : Mem, m = cpy h25 (x0 + 15) (y2 + 178) (x0 + 14) 0 4 := ⟨_, rfl⟩
  have B31 : EX h0 h30 := by rw [eh30]; exact EX_cpy B26 (S_x0.ext E27.1).k27 (S_x0.ext E27.1).k26 (by decide)
  have E32 : EX h h30 := by rw [eh30]; exact EX_cpy E27 (S_x0.ext E27.1).k27 (S_x0.ext E27.1).k26 (by decide)
  refine v_mem eh30 ?_
  have F := F h30 eh30
  exact v_vret C (Nat.le_refl _) (Nat.le_refl _) dX1_takes_99 ⟨B31, F⟩
set_option maxHeartbeats 1000000 in
theorem eX1_takes {G : GT} {l : Launch} {x0 x1 : Int} {h : Mem} {P : Int → Mem → Prop} (F : ∀ X : MX, Cx G X cX1_takes 3 RX1 1 0 0 none "takes" → X.2.1 = l → (EX h h ∧ R32 x1) →
    TownS h x0 ∧ R32 (182 * x1) ∧ ∀ y2 : Int, y2 = 182 * x1 → 0 ≤ y2 ∧ y2 < 3640 ∧ ∀ h5 : Mem, h5 = up h x0 11 (h (x0 + 15) y2) → 0 ≤ y2 + 1 ∧ y2 + 1 < 3640 ∧ ∀ h10 : Mem, h10 = up h5 x0 12 (h (x0 + 15) (y2 + 1)) → 0 ≤ y2 + 2 ∧ y2 + 2 + 16 ≤ 3640 ∧ ∀ h15 : Mem, h15 = cpy h10 (x0 + 15) (y2 + 2) (x0 + 11) 0 16 → 0 ≤ y2 + 18 ∧ y2 + 18 + 80 ≤ 3640 ∧ ∀ h20 : Mem, h20 = cpy h15 (x0 + 15) (y2 + 18) (x0 + 12) 0 80 → 0 ≤ y2 + 98 ∧ y2 + 98 + 80 ≤ 3640 ∧ ∀ h25 : Mem, h25 = cpy h20 (x0 + 15) (y2 + 98) (x0 + 13) 0 80 → 0 ≤ y2 + 178 ∧ y2 + 178 + 4 ≤ 3640 ∧ ∀ h30 : Mem, h30 = cpy h25 (x0 + 15) (y2 + 178) (x0 + 14) 0 4 → P 0 h30) :
    kX1_takes G l x0 x1 h P := by
  intro R1
  refine ct_of (by decide +kernel) (Nat.le_of_ble_eq_true rfl) fun X C e => ?_
  refine v_okz fun O => ?_
  exact wX1_takes_0 C ⟨EX.rf O, R1⟩ (F X C e ⟨EX.rf O, R1⟩)
def kX1_thingAt (G : GT) (l : Launch) (x0 x1 x2 x3 x4 : Int) (h : Mem) (P : Int → Mem → Prop) : Prop := R32 x1 → R32 x2 → R32 x3 → R32 x4 → Ct G l yX1_thingAt cX1_thingAt 7 (some .int) 0 1 0 0 [rf x0, iv x1, iv x2, iv x3, iv x4] h (PI h P)
set_option maxHeartbeats 4000000 in
theorem wX1_thingAt_0 {G : GT} {X : MX} {h0 h : Mem} {P : Int → Mem → Prop} {x0 x1 x2 x3 x4 : Int} (C : Cx G X cX1_thingAt 7 RX1 1 0 0 (some .int) "thingAt") (B0 : EX h0 h ∧ R32 x1 ∧ R32 x2 ∧ R32 x3 ∧ R32 x4)
    (F : TownS h x0 ∧ kX0_has G X.2.1 (h x0 12) x1 h (fun r1 h2 => EX h h2 → ((r1 = 0 → (EX h0 h2 ∧ R32 x1 ∧ R32 x2 ∧ R32 x3 ∧ R32 x4 ∧ R32 0 → V G X 7 0 0 (QF G X 0 0 0 (PI h0 P)) 16 [(0, rf x0), (1, iv x1), (2, iv x2), (3, iv x3), (4, iv x4), (5, iv 0)] [] h2)) ∧ (r1 ≠ 0 → P (-1) h2)))) :
    V G X 7 0 0 (QF G X 0 0 0 (PI h0 P)) 0 [(0, rf x0), (1, iv x1), (2, iv x2), (3, iv x3), (4, iv x4)] [] h := by
  obtain ⟨B, R1, R2, R3, R4⟩ := B0
  have E : EX h h := EX.rf B.2
  obtain ⟨S_x0, F⟩ := F
  refine v_aload_n C 0 rfl rfl dX1_thingAt_0 ?_
  refine gX1_111 C (S_x0.ext E.1).k rfl dX1_thingAt_1 ?_
  refine v_iload_n C 1 rfl rfl dX1_thingAt_4 ?_
  refine mX1_114 C (d2 := 0) (kc2 := 0) (ks2 := 0) (by decide) (Nat.le_refl _) (Nat.le_refl _) (Nat.le_of_ble_eq_true rfl) dX1_thingAt_5 (Ct.mono (F (EX.rI B (j := 12) (S_x0.ext E.1).k rfl) R1) ?_)
  rintro r1 h2 ⟨e3, g4, F⟩
  have F := F e3
  have B5 := B.tr e3
  have E6 := E.tr e3
  refine v_if_eq C 13 (bR g4) dX1_thingAt_8 (by decide) (fun c7 => ?_) (fun c7 => ?_)
  · have F := F.1 (c7)
    refine v_iconst C dX1_thingAt_13 ?_
    refine v_istore C (by decide) dX1_thingAt_14 (lv2 := [(5, iv 0), (0, rf x0), (1, iv x1), (2, iv x2), (3, iv x3), (4, iv x4)]) rfl ?_
    refine v_sub (lv2 := [(0, rf x0), (1, iv x1), (2, iv x2), (3, iv x3), (4, iv x4), (5, iv 0)]) [1, 2, 3, 4, 5, 0] rfl ?_
    exact F ⟨B5, R1, R2, R3, R4, ⟨by decide, by decide⟩⟩
  · have F := F.2 (c7)
    refine v_iconst C dX1_thingAt_11 ?_
    exact v_iret C (Nat.le_refl _) (Nat.le_refl _) dX1_thingAt_12 ⟨B5, ⟨by decide, by decide⟩, F⟩
set_option maxHeartbeats 4000000 in
theorem wX1_thingAt_L16 {G : GT} {X : MX} {h0 h : Mem} {P : Int → Mem → Prop} {x0 x1 x2 x3 x4 x5 : Int} (C : Cx G X cX1_thingAt 7 RX1 1 0 0 (some .int) "thingAt") (B0 : EX h0 h ∧ R32 x1 ∧ R32 x2 ∧ R32 x3 ∧ R32 x4 ∧ R32 x5)
    (F : TownS h x0 ∧ ((x5 ≥ h x0 5 → 0 ≤ x1 ∧ x1 < 4 ∧ ∀ y4 : Int, y4 = h (x0 + 1) x1 → (EX h0 h ∧ R32 x1 ∧ R32 x2 ∧ R32 x3 ∧ R32 x4 ∧ R32 y4 → V G X 7 0 0 (QF G X 0 0 0 (PI h0 P)) 47 [(0, rf x0), (1, iv x1), (2, iv x2), (3, iv x3), (4, iv x4), (5, iv y4)] [] h)) ∧ (x5 < h x0 5 → 0 ≤ x5 ∧ x5 < 4 ∧ ∀ h7 : Mem, h7 = up h (x0 + 17) x5 0 → R32 (x5 + 1) ∧ (EX h0 h7 ∧ R32 x1 ∧ R32 x2 ∧ R32 x3 ∧ R32 x4 ∧ R32 (x5 + 1) → V G X 7 0 0 (QF G X 0 0 0 (PI h0 P)) 16 [(0, rf x0), (1, iv x1), (2, iv x2), (3, iv x3), (4, iv x4), (5, iv (x5 + 1))] [] h7)))) :
    V G X 7 0 0 (QF G X 0 0 0 (PI h0 P)) 16 [(0, rf x0), (1, iv x1), (2, iv x2), (3, iv x3), (4, iv x4), (5, iv x5)] [] h := by
  obtain ⟨B, R1, R2, R3, R4, R5⟩ := B0
  have E : EX h h := EX.rf B.2
  obtain ⟨S_x0, F⟩ := F
  refine v_iload C 5 rfl dX1_thingAt_16 ?_
  refine v_aload_n C 0 rfl rfl dX1_thingAt_18 ?_
  refine gX1_80 C (S_x0.ext E.1).k rfl dX1_thingAt_19 ?_
  refine v_icmp_ge C 39 R5 (EX.rI B (j := 5) (S_x0.ext E.1).k rfl) dX1_thingAt_22 (by decide) (fun c1 => ?_) (fun c1 => ?_)
  · have F := F.1 (c1)
    refine v_aload_n C 0 rfl rfl dX1_thingAt_39 ?_
    refine gX1_9 C (S_x0.ext E.1).k (S_x0.ext E.1).f13 dX1_thingAt_40 ?_
    refine v_iload_n C 1 rfl rfl dX1_thingAt_43 ?_
    obtain ⟨o2, F⟩ := F
    obtain ⟨o3, F⟩ := F
    refine v_iald C (S_x0.ext E.1).k13 o2 (by rw [(S_x0.ext E.1).l13]; exact o3) rfl dX1_thingAt_44 ?_
    obtain ⟨y4, ey4⟩ : ∃ z : Int, z = h (x0 + 1) x1 := ⟨_, rfl⟩
    have F := F y4 ey4
    have Ry4 : R32 y4 := by rw [ey4]; exact (EX.rI B (j := x1) (S_x0.ext E.1).k13 rfl)
    refine v_istore C (by decide) dX1_thingAt_45 (lv2 := [(5, iv y4), (0, rf x0), (1, iv x1), (2, iv x2), (3, iv x3), (4, iv x4)]) (by rw [ey4]; rfl) ?_
    refine v_sub (lv2 := [(0, rf x0), (1, iv x1), (2, iv x2), (3, iv x3), (4, iv x4), (5, iv y4)]) [1, 2, 3, 4, 5, 0] rfl ?_
    exact F ⟨B, R1, R2, R3, R4, Ry4⟩
  · have F := F.2 (c1)
    refine v_aload_n C 0 rfl rfl dX1_thingAt_25 ?_
    refine gX1_61 C (S_x0.ext E.1).k (S_x0.ext E.1).f29 dX1_thingAt_26 ?_
    refine v_iload C 5 rfl dX1_thingAt_29 ?_
    refine v_iconst C dX1_thingAt_31 ?_
    obtain ⟨o5, F⟩ := F
    obtain ⟨o6, F⟩ := F
    refine v_iast C (S_x0.ext E.1).k29 o5 (by rw [(S_x0.ext E.1).l29]; exact o6) ⟨by decide, by decide⟩ dX1_thingAt_32 ?_
    obtain ⟨h7, eh7⟩ : ∃ m : Mem, m = up h (x0 + 17) x5 0 := ⟨_, rfl⟩
    have B8 : EX h0 h7 := by rw [eh7]; exact EX_up B (S_x0.ext E.1).k29 (by decide) rfl o5 (okI_a (Or.inl rfl) ⟨by decide, by decide⟩)
    have E9 : EX h h7 := by rw [eh7]; exact EX_up E (S_x0.ext E.1).k29 (by decide) rfl o5 (okI_a (Or.inl rfl) ⟨by decide, by decide⟩)
    refine v_mem eh7 ?_
    have F := F h7 eh7
    obtain ⟨o10, F⟩ := F
    refine v_iinc C 5 rfl (by decide) dX1_thingAt_33 (lv2 := [(5, iv (x5 + 1)), (0, rf x0), (1, iv x1), (2, iv x2), (3, iv x3), (4, iv x4)]) rfl ?_
    refine v_goto C 16 dX1_thingAt_36 (by decide) ?_
    refine v_sub (lv2 := [(0, rf x0), (1, iv x1), (2, iv x2), (3, iv x3), (4, iv x4), (5, iv (x5 + 1))]) [1, 2, 3, 4, 5, 0] rfl ?_
    exact F ⟨B8, R1, R2, R3, R4, o10⟩
set_option maxHeartbeats 4000000 in
theorem wX1_thingAt_L47 {G : GT} {X : MX} {h0 h : Mem} {P : Int → Mem → Prop} {x0 x1 x2 x3 x4 x5 : Int} (C : Cx G X cX1_thingAt 7 RX1 1 0 0 (some .int) "thingAt") (B0 : EX h0 h ∧ R32 x1 ∧ R32 x2 ∧ R32 x3 ∧ R32 x4 ∧ R32 x5)
    (F : TownS h x0 ∧ 0 ≤ x1 ∧ x1 < 4 ∧ R32 (h (x0 + 1) x1 + h (x0 + 2) x1) ∧ ((x5 ≥ h (x0 + 1) x1 + h (x0 + 2) x1 → kX1_holder G X.2.1 x0 x1 x4 h (fun r5 h6 => EX h h6 → P r5 h6)) ∧ (x5 < h (x0 + 1) x1 + h (x0 + 2) x1 → kX1_ownerAt G X.2.1 x0 x5 x2 x3 h (fun r11 h12 => EX h h12 → ((r11 = (-1) → R32 (x5 + 1) ∧ (EX h0 h12 ∧ R32 x1 ∧ R32 x2 ∧ R32 x3 ∧ R32 x4 ∧ R32 (x5 + 1) → V G X 7 0 0 (QF G X 0 0 0 (PI h0 P)) 47 [(0, rf x0), (1, iv x1), (2, iv x2), (3, iv x3), (4, iv x4), (5, iv (x5 + 1))] [] h12)) ∧ (r11 ≠ (-1) → 0 ≤ r11 ∧ r11 < 4 ∧ R32 (h12 (x0 + 17) r11 + 1) ∧ ∀ h22 : Mem, h22 = up h12 (x0 + 17) r11 (h12 (x0 + 17) r11 + 1) → R32 (x5 + 1) ∧ (EX h0 h22 ∧ R32 x1 ∧ R32 x2 ∧ R32 x3 ∧ R32 x4 ∧ R32 (x5 + 1) → V G X 7 0 0 (QF G X 0 0 0 (PI h0 P)) 47 [(0, rf x0), (1, iv x1), (2, iv x2), (3, iv x3), (4, iv x4), (5, iv (x5 + 1))] [] h22))))))) :
    V G X 7 0 0 (QF G X 0 0 0 (PI h0 P)) 47 [(0, rf x0), (1, iv x1), (2, iv x2), (3, iv x3), (4, iv x4), (5, iv x5)] [] h := by
  obtain ⟨B, R1, R2, R3, R4, R5⟩ := B0
  have E : EX h h := EX.rf B.2
  obtain ⟨S_x0, F⟩ := F
  refine v_iload C 5 rfl dX1_thingAt_47 ?_
  refine v_aload_n C 0 rfl rfl dX1_thingAt_49 ?_
  refine gX1_9 C (S_x0.ext E.1).k (S_x0.ext E.1).f13 dX1_thingAt_50 ?_
  refine v_iload_n C 1 rfl rfl dX1_thingAt_53 ?_
  obtain ⟨o1, F⟩ := F
  obtain ⟨o2, F⟩ := F
  refine v_iald C (S_x0.ext E.1).k13 o1 (by rw [(S_x0.ext E.1).l13]; exact o2) rfl dX1_thingAt_54 ?_
  refine v_aload_n C 0 rfl rfl dX1_thingAt_55 ?_
  refine gX1_15 C (S_x0.ext E.1).k (S_x0.ext E.1).f14 dX1_thingAt_56 ?_
  refine v_iload_n C 1 rfl rfl dX1_thingAt_59 ?_
  refine v_iald C (S_x0.ext E.1).k14 o1 (by rw [(S_x0.ext E.1).l14]; exact o2) rfl dX1_thingAt_60 ?_
  refine v_iadd C dX1_thingAt_61 ?_
  obtain ⟨o3, F⟩ := F
  refine v_icmp_ge C 98 R5 o3 dX1_thingAt_62 (by decide) (fun c4 => ?_) (fun c4 => ?_)
  · have F := F.1 (c4)
    refine v_aload_n C 0 rfl rfl dX1_thingAt_98 ?_
    refine v_iload_n C 1 rfl rfl dX1_thingAt_99 ?_
    refine v_iload C 4 rfl dX1_thingAt_100 ?_
    refine mX1_123 C (S_x0.ext E.1).k (d2 := 0) (kc2 := 0) (ks2 := 0) (by decide) (Nat.le_refl _) (Nat.le_refl _) (Nat.le_of_ble_eq_true rfl) dX1_thingAt_102 (Ct.mono (F R1 R4) ?_)
    rintro r5 h6 ⟨e7, g8, F⟩
    have F := F e7
    have B9 := B.tr e7
    have E10 := E.tr e7
    exact v_iret C (Nat.le_refl _) (Nat.le_refl _) dX1_thingAt_105 ⟨B9, g8, F⟩
  · have F := F.2 (c4)
    refine v_aload_n C 0 rfl rfl dX1_thingAt_65 ?_
    refine v_iload C 5 rfl dX1_thingAt_66 ?_
    refine v_iload_n C 2 rfl rfl dX1_thingAt_68 ?_
    refine v_iload_n C 3 rfl rfl dX1_thingAt_69 ?_
    refine mX1_119 C (S_x0.ext E.1).k (d2 := 0) (kc2 := 0) (ks2 := 0) (by decide) (Nat.le_refl _) (Nat.le_refl _) (Nat.le_of_ble_eq_true rfl) dX1_thingAt_70 (Ct.mono (F R5 R2 R3) ?_)
    rintro r11 h12 ⟨e13, g14, F⟩
    have F := F e13
    have B15 := B.tr e13
    have E16 := E.tr e13
    refine v_istore C (by decide) dX1_thingAt_73 (lv2 := [(6, iv r11), (0, rf x0), (1, iv x1), (2, iv x2), (3, iv x3), (4, iv x4), (5, iv x5)]) rfl ?_
    refine v_iload C 0 rfl dX1_thingAt_75 ?_
    refine v_iconst C dX1_thingAt_77 ?_
    refine v_icmp_eq C 92 g14 ⟨by decide, by decide⟩ dX1_thingAt_78 (by decide) (fun c17 => ?_) (fun c17 => ?_)
    · have F := F.1 (c17)
      obtain ⟨o18, F⟩ := F
      refine v_iinc C 6 rfl (by decide) dX1_thingAt_92 (lv2 := [(5, iv (x5 + 1)), (6, iv r11), (0, rf x0), (1, iv x1), (2, iv x2), (3, iv x3), (4, iv x4)]) rfl ?_
      refine v_goto C 47 dX1_thingAt_95 (by decide) ?_
      refine v_sub (lv2 := [(0, rf x0), (1, iv x1), (2, iv x2), (3, iv x3), (4, iv x4), (5, iv (x5 + 1))]) [2, 3, 4, 5, 6, 0] rfl ?_
      exact F ⟨B15, R1, R2, R3, R4, o18⟩
    · have F := F.2 (c17)
      refine v_aload_n C 1 rfl rfl dX1_thingAt_81 ?_
      refine gX1_61 C (S_x0.ext E16.1).k (S_x0.ext E16.1).f29 dX1_thingAt_82 ?_
      refine v_iload C 0 rfl dX1_thingAt_85 ?_
      refine v_dup2 C (iv_n1 _) (rf_n1 _) dX1_thingAt_87 ?_
      obtain ⟨o19, F⟩ := F
      obtain ⟨o20, F⟩ := F
      refine v_iald C (S_x0.ext E16.1).k29 o19 (by rw [(S_x0.ext E16.1).l29]; exact o20) rfl dX1_thingAt_88 ?_
      refine v_iconst C dX1_thingAt_89 ?_
      refine v_iadd C dX1_thingAt_90 ?_
      obtain ⟨o21, F⟩ := F
      refine v_iast C (S_x0.ext E16.1).k29 o19 (by rw [(S_x0.ext E16.1).l29]; exact o20) o21 dX1_thingAt_91 ?_
      obtain ⟨h22, eh22⟩ : ∃ m : Mem, m = up h12 (x0 + 17) r11 (h12 (x0 + 17) r11 + 1) := ⟨_, rfl⟩
      have B23 : EX h0 h22 := by rw [eh22]; exact EX_up B15 (S_x0.ext E16.1).k29 (by decide) rfl o19 (okI_a (Or.inl rfl) o21)
      have E24 : EX h h22 := by rw [eh22]; exact EX_up E16 (S_x0.ext E16.1).k29 (by decide) rfl o19 (okI_a (Or.inl rfl) o21)
      refine v_mem eh22 ?_
      have F := F h22 eh22
      obtain ⟨o25, F⟩ := F
      refine v_iinc C 6 rfl (by decide) dX1_thingAt_92 (lv2 := [(5, iv (x5 + 1)), (6, iv r11), (0, rf x0), (1, iv x1), (2, iv x2), (3, iv x3), (4, iv x4)]) rfl ?_
      refine v_goto C 47 dX1_thingAt_95 (by decide) ?_
      refine v_sub (lv2 := [(0, rf x0), (1, iv x1), (2, iv x2), (3, iv x3), (4, iv x4), (5, iv (x5 + 1))]) [2, 3, 4, 5, 6, 0] rfl ?_
      exact F ⟨B23, R1, R2, R3, R4, o25⟩
set_option maxHeartbeats 1000000 in
theorem eX1_thingAt {G : GT} {l : Launch} {x0 x1 x2 x3 x4 : Int} {h : Mem} {P : Int → Mem → Prop} (F : ∀ X : MX, Cx G X cX1_thingAt 7 RX1 1 0 0 (some .int) "thingAt" → X.2.1 = l → (EX h h ∧ R32 x1 ∧ R32 x2 ∧ R32 x3 ∧ R32 x4) →
    TownS h x0 ∧ kX0_has G X.2.1 (h x0 12) x1 h (fun r1 h2 => EX h h2 → ((r1 = 0 → (EX h h2 ∧ R32 x1 ∧ R32 x2 ∧ R32 x3 ∧ R32 x4 ∧ R32 0 → V G X 7 0 0 (QF G X 0 0 0 (PI h P)) 16 [(0, rf x0), (1, iv x1), (2, iv x2), (3, iv x3), (4, iv x4), (5, iv 0)] [] h2)) ∧ (r1 ≠ 0 → P (-1) h2)))) :
    kX1_thingAt G l x0 x1 x2 x3 x4 h P := by
  intro R1 R2 R3 R4
  refine ct_of (by decide +kernel) (Nat.le_of_ble_eq_true rfl) fun X C e => ?_
  refine v_okz fun O => ?_
  exact wX1_thingAt_0 C ⟨EX.rf O, R1, R2, R3, R4⟩ (F X C e ⟨EX.rf O, R1, R2, R3, R4⟩)
def kX1_washes (G : GT) (l : Launch) (x0 : Int) (h : Mem) (P : Int → Mem → Prop) : Prop := Ct G l yX1_washes cX1_washes 2 none 3 1 0 0 [rf x0] h (PR h P)
set_option maxHeartbeats 4000000 in
theorem wX1_washes_0 {G : GT} {X : MX} {h0 h : Mem} {P : Int → Mem → Prop} {x0 : Int} (C : Cx G X cX1_washes 2 RX1 1 0 0 none "washes") (B0 : EX h0 h)
    (F : (EX h0 h ∧ R32 0 → V G X 2 0 0 (QF G X 3 0 0 (PR h0 P)) 2 [(0, rf x0), (1, iv 0)] [] h)) :
    V G X 2 0 0 (QF G X 3 0 0 (PR h0 P)) 0 [(0, rf x0)] [] h := by
  have B := B0
  have E : EX h h := EX.rf B.2
  refine v_iconst C dX1_washes_0 ?_
  refine v_istore_n C rfl (by decide) dX1_washes_1 (lv2 := [(1, iv 0), (0, rf x0)]) rfl ?_
  refine v_sub (lv2 := [(0, rf x0), (1, iv 0)]) [1, 0] rfl ?_
  exact F ⟨B, ⟨by decide, by decide⟩⟩
set_option maxHeartbeats 4000000 in
theorem wX1_washes_L2 {G : GT} {X : MX} {h0 h : Mem} {P : Int → Mem → Prop} {x0 x1 : Int} (C : Cx G X cX1_washes 2 RX1 1 0 0 none "washes") (B0 : EX h0 h ∧ R32 x1)
    (F : TownS h x0 ∧ ((x1 ≥ h x0 4 → P 0 h) ∧ (x1 < h x0 4 → (EX h0 h ∧ R32 x1 → V G X 2 0 0 (QF G X 3 0 0 (PR h0 P)) 10 [(0, rf x0), (1, iv x1)] [] h)))) :
    V G X 2 0 0 (QF G X 3 0 0 (PR h0 P)) 2 [(0, rf x0), (1, iv x1)] [] h := by
  obtain ⟨B, R1⟩ := B0
  have E : EX h h := EX.rf B.2
  obtain ⟨S_x0, F⟩ := F
  refine v_iload_n C 1 rfl rfl dX1_washes_2 ?_
  refine v_aload_n C 0 rfl rfl dX1_washes_3 ?_
  refine gX1_77 C (S_x0.ext E.1).k rfl dX1_washes_4 ?_
  refine v_icmp_ge C 37 R1 (EX.rI B (j := 4) (S_x0.ext E.1).k rfl) dX1_washes_7 (by decide) (fun c1 => ?_) (fun c1 => ?_)
  · have F := F.1 (c1)
    exact v_vret C (Nat.le_refl _) (Nat.le_refl _) dX1_washes_37 ⟨B, F⟩
  · have F := F.2 (c1)
    refine v_sub (lv2 := [(0, rf x0), (1, iv x1)]) [0, 1] rfl ?_
    exact F ⟨B, R1⟩
set_option maxHeartbeats 4000000 in
theorem wX1_washes_L10 {G : GT} {X : MX} {h0 h : Mem} {P : Int → Mem → Prop} {x0 x1 : Int} (C : Cx G X cX1_washes 2 RX1 1 0 0 none "washes") (B0 : EX h0 h ∧ R32 x1)
    (F : TownS h x0 ∧ kX1_isWet G X.2.1 x0 x1 h (fun r1 h2 => EX h h2 → ((r1 = 0 → R32 (x1 + 1) ∧ (EX h0 h2 ∧ R32 (x1 + 1) → V G X 2 0 0 (QF G X 3 0 0 (PR h0 P)) 2 [(0, rf x0), (1, iv (x1 + 1))] [] h2)) ∧ (r1 ≠ 0 → 0 ≤ x1 ∧ x1 < 16 ∧ R32 (h2 (x0 + 11) x1 - 1) ∧ ∀ h12 : Mem, h12 = up h2 (x0 + 11) x1 (h2 (x0 + 11) x1 - 1) → (EX h0 h12 ∧ R32 x1 → V G X 2 0 0 (QF G X 3 0 0 (PR h0 P)) 10 [(0, rf x0), (1, iv x1)] [] h12))))) :
    V G X 2 0 0 (QF G X 3 0 0 (PR h0 P)) 10 [(0, rf x0), (1, iv x1)] [] h := by
  obtain ⟨B, R1⟩ := B0
  have E : EX h h := EX.rf B.2
  obtain ⟨S_x0, F⟩ := F
  refine v_aload_n C 0 rfl rfl dX1_washes_10 ?_
  refine v_iload_n C 1 rfl rfl dX1_washes_11 ?_
  refine mX1_146 C (S_x0.ext E.1).k (d2 := 0) (kc2 := 0) (ks2 := 0) (by decide) (Nat.le_refl _) (Nat.le_refl _) (Nat.le_of_ble_eq_true rfl) dX1_washes_12 (Ct.mono (F R1) ?_)
  rintro r1 h2 ⟨e3, g4, F⟩
  have F := F e3
  have B5 := B.tr e3
  have E6 := E.tr e3
  refine v_if_eq C 31 (bR g4) dX1_washes_15 (by decide) (fun c7 => ?_) (fun c7 => ?_)
  · have F := F.1 (c7)
    obtain ⟨o8, F⟩ := F
    refine v_iinc C 1 rfl (by decide) dX1_washes_31 (lv2 := [(1, iv (x1 + 1)), (0, rf x0)]) rfl ?_
    refine v_goto C 2 dX1_washes_34 (by decide) ?_
    refine v_sub (lv2 := [(0, rf x0), (1, iv (x1 + 1))]) [1, 0] rfl ?_
    exact F ⟨B5, o8⟩
  · have F := F.2 (c7)
    refine v_aload_n C 0 rfl rfl dX1_washes_18 ?_
    refine gX1_42 C (S_x0.ext E6.1).k (S_x0.ext E6.1).f23 dX1_washes_19 ?_
    refine v_iload_n C 1 rfl rfl dX1_washes_22 ?_
    refine v_dup2 C (iv_n1 _) (rf_n1 _) dX1_washes_23 ?_
    obtain ⟨o9, F⟩ := F
    obtain ⟨o10, F⟩ := F
    refine v_iald C (S_x0.ext E6.1).k23 o9 (by rw [(S_x0.ext E6.1).l23]; exact o10) rfl dX1_washes_24 ?_
    refine v_iconst C dX1_washes_25 ?_
    refine v_isub C dX1_washes_26 ?_
    obtain ⟨o11, F⟩ := F
    refine v_iast C (S_x0.ext E6.1).k23 o9 (by rw [(S_x0.ext E6.1).l23]; exact o10) o11 dX1_washes_27 ?_
    obtain ⟨h12, eh12⟩ : ∃ m : Mem, m = up h2 (x0 + 11) x1 (h2 (x0 + 11) x1 - 1) := ⟨_, rfl⟩
    have B13 : EX h0 h12 := by rw [eh12]; exact EX_up B5 (S_x0.ext E6.1).k23 (by decide) rfl o9 (okI_a (Or.inl rfl) o11)
    have E14 : EX h h12 := by rw [eh12]; exact EX_up E6 (S_x0.ext E6.1).k23 (by decide) rfl o9 (okI_a (Or.inl rfl) o11)
    refine v_mem eh12 ?_
    have F := F h12 eh12
    refine v_goto C 10 dX1_washes_28 (by decide) ?_
    refine v_sub (lv2 := [(0, rf x0), (1, iv x1)]) [0, 1] rfl ?_
    exact F ⟨B13, R1⟩
set_option maxHeartbeats 1000000 in
theorem eX1_washes {G : GT} {l : Launch} {x0 : Int} {h : Mem} {P : Int → Mem → Prop} (F : ∀ X : MX, Cx G X cX1_washes 2 RX1 1 0 0 none "washes" → X.2.1 = l → (EX h h) →
    (EX h h ∧ R32 0 → V G X 2 0 0 (QF G X 3 0 0 (PR h P)) 2 [(0, rf x0), (1, iv 0)] [] h)) :
    kX1_washes G l x0 h P := by
  refine ct_of (by decide +kernel) (Nat.le_of_ble_eq_true rfl) fun X C e => ?_
  refine v_okz fun O => ?_
  exact wX1_washes_0 C (EX.rf O) (F X C e (EX.rf O))
def kX1_canPaint (G : GT) (l : Launch) (x0 x1 x2 : Int) (h : Mem) (P : Int → Mem → Prop) : Prop := R32 x1 → R32 x2 → Ct G l yX1_canPaint cX1_canPaint 3 (some .boolean) 0 2 0 0 [rf x0, iv x1, iv x2] h (PZ h P)
set_option maxHeartbeats 4000000 in
theorem wX1_canPaint_0 {G : GT} {X : MX} {h0 h : Mem} {P : Int → Mem → Prop} {x0 x1 x2 : Int} (C : Cx G X cX1_canPaint 3 RX1 2 0 0 (some .boolean) "canPaint") (B0 : EX h0 h ∧ R32 x1 ∧ R32 x2)
    (F : TownS h x0 ∧ kX1_isBareCell G X.2.1 x0 x1 h (fun r1 h2 => EX h h2 → ((r1 ≠ 0 → P 0 h2) ∧ (r1 = 0 → 0 ≤ x2 ∧ x2 < 4 ∧ ((h2 (x0 + 14) x2 < h2 x0 2 → P 0 h2) ∧ (h2 (x0 + 14) x2 ≥ h2 x0 2 → P 1 h2)))))) :
    V G X 3 0 0 (QF G X 0 0 0 (PZ h0 P)) 0 [(0, rf x0), (1, iv x1), (2, iv x2)] [] h := by
  obtain ⟨B, R1, R2⟩ := B0
  have E : EX h h := EX.rf B.2
  obtain ⟨S_x0, F⟩ := F
  refine v_aload_n C 0 rfl rfl dX1_canPaint_0 ?_
  refine v_iload_n C 1 rfl rfl dX1_canPaint_1 ?_
  refine mX1_135 C (S_x0.ext E.1).k (d2 := 1) (kc2 := 0) (ks2 := 0) (by decide) (Nat.le_refl _) (Nat.le_refl _) (Nat.le_of_ble_eq_true rfl) dX1_canPaint_2 (Ct.mono (F R1) ?_)
  rintro r1 h2 ⟨e3, g4, F⟩
  have F := F e3
  have B5 := B.tr e3
  have E6 := E.tr e3
  refine v_if_ne C 25 (bR g4) dX1_canPaint_5 (by decide) (fun c7 => ?_) (fun c7 => ?_)
  · have F := F.1 (c7)
    refine v_iconst C dX1_canPaint_25 ?_
    exact v_zret C (by decide) (Nat.le_refl _) (Nat.le_refl _) dX1_canPaint_26 ⟨B5, (by decide), F⟩
  · have F := F.2 (c7)
    refine v_aload_n C 0 rfl rfl dX1_canPaint_8 ?_
    refine gX1_51 C (S_x0.ext E6.1).k (S_x0.ext E6.1).f26 dX1_canPaint_9 ?_
    refine v_iload_n C 2 rfl rfl dX1_canPaint_12 ?_
    obtain ⟨o8, F⟩ := F
    obtain ⟨o9, F⟩ := F
    refine v_iald C (S_x0.ext E6.1).k26 o8 (by rw [(S_x0.ext E6.1).l26]; exact o9) rfl dX1_canPaint_13 ?_
    refine v_aload_n C 0 rfl rfl dX1_canPaint_14 ?_
    refine gX1_71 C (S_x0.ext E6.1).k rfl dX1_canPaint_15 ?_
    refine v_icmp_lt C 25 (EX.rI B5 (j := x2) (S_x0.ext E6.1).k26 rfl) (EX.rI B5 (j := 2) (S_x0.ext E6.1).k rfl) dX1_canPaint_18 (by decide) (fun c10 => ?_) (fun c10 => ?_)
    · have F := F.1 (c10)
      refine v_iconst C dX1_canPaint_25 ?_
      exact v_zret C (by decide) (Nat.le_refl _) (Nat.le_refl _) dX1_canPaint_26 ⟨B5, (by decide), F⟩
    · have F := F.2 (c10)
      refine v_iconst C dX1_canPaint_21 ?_
      refine v_goto C 26 dX1_canPaint_22 (by decide) ?_
      exact v_zret C (by decide) (Nat.le_refl _) (Nat.le_refl _) dX1_canPaint_26 ⟨B5, (by decide), F⟩
set_option maxHeartbeats 1000000 in
theorem eX1_canPaint {G : GT} {l : Launch} {x0 x1 x2 : Int} {h : Mem} {P : Int → Mem → Prop} (F : ∀ X : MX, Cx G X cX1_canPaint 3 RX1 2 0 0 (some .boolean) "canPaint" → X.2.1 = l → (EX h h ∧ R32 x1 ∧ R32 x2) →
    TownS h x0 ∧ kX1_isBareCell G X.2.1 x0 x1 h (fun r1 h2 => EX h h2 → ((r1 ≠ 0 → P 0 h2) ∧ (r1 = 0 → 0 ≤ x2 ∧ x2 < 4 ∧ ((h2 (x0 + 14) x2 < h2 x0 2 → P 0 h2) ∧ (h2 (x0 + 14) x2 ≥ h2 x0 2 → P 1 h2)))))) :
    kX1_canPaint G l x0 x1 x2 h P := by
  intro R1 R2
  refine ct_of (by decide +kernel) (Nat.le_of_ble_eq_true rfl) fun X C e => ?_
  refine v_okz fun O => ?_
  exact wX1_canPaint_0 C ⟨EX.rf O, R1, R2⟩ (F X C e ⟨EX.rf O, R1, R2⟩)
def kX1_cellsOf (G : GT) (l : Launch) (x0 x1 x2 : Int) (h : Mem) (P : Int → Mem → Prop) : Prop := R32 x1 → R32 x2 → Ct G l yX1_cellsOf cX1_cellsOf 5 (some .int) 0 2 0 0 [rf x0, iv x1, iv x2] h (PI h P)
set_option maxHeartbeats 4000000 in
theorem wX1_cellsOf_0 {G : GT} {X : MX} {h0 h : Mem} {P : Int → Mem → Prop} {x0 x1 x2 : Int} (C : Cx G X cX1_cellsOf 5 RX1 2 0 0 (some .int) "cellsOf") (B0 : EX h0 h ∧ R32 x1 ∧ R32 x2)
    (F : TownS h x0 ∧ 0 ≤ x2 ∧ x2 < 4 ∧ ∀ y3 : Int, y3 = h (x0 + 1) x2 → (EX h0 h ∧ R32 x1 ∧ R32 x2 ∧ R32 0 ∧ R32 y3 → V G X 5 0 0 (QF G X 0 0 0 (PI h0 P)) 10 [(0, rf x0), (1, iv x1), (2, iv x2), (3, iv 0), (4, iv y3)] [] h)) :
    V G X 5 0 0 (QF G X 0 0 0 (PI h0 P)) 0 [(0, rf x0), (1, iv x1), (2, iv x2)] [] h := by
  obtain ⟨B, R1, R2⟩ := B0
  have E : EX h h := EX.rf B.2
  obtain ⟨S_x0, F⟩ := F
  refine v_iconst C dX1_cellsOf_0 ?_
  refine v_istore_n C rfl (by decide) dX1_cellsOf_1 (lv2 := [(3, iv 0), (0, rf x0), (1, iv x1), (2, iv x2)]) rfl ?_
  refine v_aload_n C 1 rfl rfl dX1_cellsOf_2 ?_
  refine gX1_9 C (S_x0.ext E.1).k (S_x0.ext E.1).f13 dX1_cellsOf_3 ?_
  refine v_iload_n C 3 rfl rfl dX1_cellsOf_6 ?_
  obtain ⟨o1, F⟩ := F
  obtain ⟨o2, F⟩ := F
  refine v_iald C (S_x0.ext E.1).k13 o1 (by rw [(S_x0.ext E.1).l13]; exact o2) rfl dX1_cellsOf_7 ?_
  obtain ⟨y3, ey3⟩ : ∃ z : Int, z = h (x0 + 1) x2 := ⟨_, rfl⟩
  have F := F y3 ey3
  have Ry3 : R32 y3 := by rw [ey3]; exact (EX.rI B (j := x2) (S_x0.ext E.1).k13 rfl)
  refine v_istore C (by decide) dX1_cellsOf_8 (lv2 := [(4, iv y3), (3, iv 0), (0, rf x0), (1, iv x1), (2, iv x2)]) (by rw [ey3]; rfl) ?_
  refine v_sub (lv2 := [(0, rf x0), (1, iv x1), (2, iv x2), (3, iv 0), (4, iv y3)]) [2, 3, 4, 1, 0] rfl ?_
  exact F ⟨B, R1, R2, ⟨by decide, by decide⟩, Ry3⟩
set_option maxHeartbeats 4000000 in
theorem wX1_cellsOf_L10 {G : GT} {X : MX} {h0 h : Mem} {P : Int → Mem → Prop} {x0 x1 x2 x3 x4 : Int} (C : Cx G X cX1_cellsOf 5 RX1 2 0 0 (some .int) "cellsOf") (B0 : EX h0 h ∧ R32 x1 ∧ R32 x2 ∧ R32 x3 ∧ R32 x4)
    (F : TownS h x0 ∧ 0 ≤ x2 ∧ x2 < 4 ∧ R32 (h (x0 + 1) x2 + h (x0 + 2) x2) ∧ ((x4 ≥ h (x0 + 1) x2 + h (x0 + 2) x2 → P x3 h) ∧ (x4 < h (x0 + 1) x2 + h (x0 + 2) x2 → kX1_ownerOf G X.2.1 x0 x4 h (fun r5 h6 => EX h h6 → ((r5 ≠ x1 → R32 (x3 + 0) ∧ ∀ y13 : Int, y13 = x3 + 0 → R32 (x4 + 1) ∧ (EX h0 h6 ∧ R32 x1 ∧ R32 x2 ∧ R32 y13 ∧ R32 (x4 + 1) → V G X 5 0 0 (QF G X 0 0 0 (PI h0 P)) 10 [(0, rf x0), (1, iv x1), (2, iv x2), (3, iv y13), (4, iv (x4 + 1))] [] h6)) ∧ (r5 = x1 → R32 (x3 + 1) ∧ ∀ y16 : Int, y16 = x3 + 1 → R32 (x4 + 1) ∧ (EX h0 h6 ∧ R32 x1 ∧ R32 x2 ∧ R32 y16 ∧ R32 (x4 + 1) → V G X 5 0 0 (QF G X 0 0 0 (PI h0 P)) 10 [(0, rf x0), (1, iv x1), (2, iv x2), (3, iv y16), (4, iv (x4 + 1))] [] h6))))))) :
    V G X 5 0 0 (QF G X 0 0 0 (PI h0 P)) 10 [(0, rf x0), (1, iv x1), (2, iv x2), (3, iv x3), (4, iv x4)] [] h := by
  obtain ⟨B, R1, R2, R3, R4⟩ := B0
  have E : EX h h := EX.rf B.2
  obtain ⟨S_x0, F⟩ := F
  refine v_iload C 4 rfl dX1_cellsOf_10 ?_
  refine v_aload_n C 0 rfl rfl dX1_cellsOf_12 ?_
  refine gX1_9 C (S_x0.ext E.1).k (S_x0.ext E.1).f13 dX1_cellsOf_13 ?_
  refine v_iload_n C 2 rfl rfl dX1_cellsOf_16 ?_
  obtain ⟨o1, F⟩ := F
  obtain ⟨o2, F⟩ := F
  refine v_iald C (S_x0.ext E.1).k13 o1 (by rw [(S_x0.ext E.1).l13]; exact o2) rfl dX1_cellsOf_17 ?_
  refine v_aload_n C 0 rfl rfl dX1_cellsOf_18 ?_
  refine gX1_15 C (S_x0.ext E.1).k (S_x0.ext E.1).f14 dX1_cellsOf_19 ?_
  refine v_iload_n C 2 rfl rfl dX1_cellsOf_22 ?_
  refine v_iald C (S_x0.ext E.1).k14 o1 (by rw [(S_x0.ext E.1).l14]; exact o2) rfl dX1_cellsOf_23 ?_
  refine v_iadd C dX1_cellsOf_24 ?_
  obtain ⟨o3, F⟩ := F
  refine v_icmp_ge C 52 R4 o3 dX1_cellsOf_25 (by decide) (fun c4 => ?_) (fun c4 => ?_)
  · have F := F.1 (c4)
    refine v_iload_n C 3 rfl rfl dX1_cellsOf_52 ?_
    exact v_iret C (Nat.le_refl _) (Nat.le_refl _) dX1_cellsOf_53 ⟨B, R3, F⟩
  · have F := F.2 (c4)
    refine v_iload_n C 3 rfl rfl dX1_cellsOf_28 ?_
    refine v_aload_n C 0 rfl rfl dX1_cellsOf_29 ?_
    refine v_iload C 4 rfl dX1_cellsOf_30 ?_
    refine mX1_131 C (S_x0.ext E.1).k (d2 := 1) (kc2 := 0) (ks2 := 0) (by decide) (Nat.le_refl _) (Nat.le_refl _) (Nat.le_of_ble_eq_true rfl) dX1_cellsOf_32 (Ct.mono (F R4) ?_)
    rintro r5 h6 ⟨e7, g8, F⟩
    have F := F e7
    have B9 := B.tr e7
    have E10 := E.tr e7
    refine v_iload_n C 1 rfl rfl dX1_cellsOf_35 ?_
    refine v_icmp_ne C 43 g8 R1 dX1_cellsOf_36 (by decide) (fun c11 => ?_) (fun c11 => ?_)
    · have F := F.1 (c11)
      refine v_iconst C dX1_cellsOf_43 ?_
      refine v_iadd C dX1_cellsOf_44 ?_
      obtain ⟨o12, F⟩ := F
      obtain ⟨y13, ey13⟩ : ∃ z : Int, z = x3 + 0 := ⟨_, rfl⟩
      have F := F y13 ey13
      have Ry13 : R32 y13 := by rw [ey13]; exact o12
      refine v_istore_n C rfl (by decide) dX1_cellsOf_45 (lv2 := [(3, iv y13), (0, rf x0), (1, iv x1), (2, iv x2), (4, iv x4)]) (by rw [ey13]; rfl) ?_
      obtain ⟨o14, F⟩ := F
      refine v_iinc C 4 rfl (by decide) dX1_cellsOf_46 (lv2 := [(4, iv (x4 + 1)), (3, iv y13), (0, rf x0), (1, iv x1), (2, iv x2)]) rfl ?_
      refine v_goto C 10 dX1_cellsOf_49 (by decide) ?_
      refine v_sub (lv2 := [(0, rf x0), (1, iv x1), (2, iv x2), (3, iv y13), (4, iv (x4 + 1))]) [2, 3, 4, 1, 0] rfl ?_
      exact F ⟨B9, R1, R2, Ry13, o14⟩
    · have F := F.2 (c11)
      refine v_iconst C dX1_cellsOf_39 ?_
      refine v_goto C 44 dX1_cellsOf_40 (by decide) ?_
      refine v_iadd C dX1_cellsOf_44 ?_
      obtain ⟨o15, F⟩ := F
      obtain ⟨y16, ey16⟩ : ∃ z : Int, z = x3 + 1 := ⟨_, rfl⟩
      have F := F y16 ey16
      have Ry16 : R32 y16 := by rw [ey16]; exact o15
      refine v_istore_n C rfl (by decide) dX1_cellsOf_45 (lv2 := [(3, iv y16), (0, rf x0), (1, iv x1), (2, iv x2), (4, iv x4)]) (by rw [ey16]; rfl) ?_
      obtain ⟨o17, F⟩ := F
      refine v_iinc C 4 rfl (by decide) dX1_cellsOf_46 (lv2 := [(4, iv (x4 + 1)), (3, iv y16), (0, rf x0), (1, iv x1), (2, iv x2)]) rfl ?_
      refine v_goto C 10 dX1_cellsOf_49 (by decide) ?_
      refine v_sub (lv2 := [(0, rf x0), (1, iv x1), (2, iv x2), (3, iv y16), (4, iv (x4 + 1))]) [2, 3, 4, 1, 0] rfl ?_
      exact F ⟨B9, R1, R2, Ry16, o17⟩
set_option maxHeartbeats 1000000 in
theorem eX1_cellsOf {G : GT} {l : Launch} {x0 x1 x2 : Int} {h : Mem} {P : Int → Mem → Prop} (F : ∀ X : MX, Cx G X cX1_cellsOf 5 RX1 2 0 0 (some .int) "cellsOf" → X.2.1 = l → (EX h h ∧ R32 x1 ∧ R32 x2) →
    TownS h x0 ∧ 0 ≤ x2 ∧ x2 < 4 ∧ ∀ y3 : Int, y3 = h (x0 + 1) x2 → (EX h h ∧ R32 x1 ∧ R32 x2 ∧ R32 0 ∧ R32 y3 → V G X 5 0 0 (QF G X 0 0 0 (PI h P)) 10 [(0, rf x0), (1, iv x1), (2, iv x2), (3, iv 0), (4, iv y3)] [] h)) :
    kX1_cellsOf G l x0 x1 x2 h P := by
  intro R1 R2
  refine ct_of (by decide +kernel) (Nat.le_of_ble_eq_true rfl) fun X C e => ?_
  refine v_okz fun O => ?_
  exact wX1_cellsOf_0 C ⟨EX.rf O, R1, R2⟩ (F X C e ⟨EX.rf O, R1, R2⟩)
def kX1_copies (G : GT) (l : Launch) (x0 x1 : Int) (h : Mem) (P : Int → Mem → Prop) : Prop := Ct G l yX1_copies cX1_copies 2 (some (.object "LatestCoat$Town")) 2 2 0 0 [rf x0, rf x1] h (PR h P)
set_option maxHeartbeats 4000000 in
theorem wX1_copies_0 {G : GT} {X : MX} {h0 h : Mem} {P : Int → Mem → Prop} {x0 x1 : Int} (C : Cx G X cX1_copies 2 RX1 2 0 0 (some (.object "LatestCoat$Town")) "copies") (B0 : EX h0 h)
    (F : TownS h x1 ∧ TownS h x0 ∧ ∀ h1 : Mem, h1 = up h x0 0 (h x1 0) → ∀ h4 : Mem, h4 = up h1 x0 1 (h x1 1) → ∀ h7 : Mem, h7 = up h4 x0 2 (h x1 2) → ∀ h10 : Mem, h10 = up h7 x0 3 (h x1 3) → ∀ h13 : Mem, h13 = up h10 x0 4 (h x1 4) → ∀ h16 : Mem, h16 = up h13 x0 5 (h x1 5) → ∀ h19 : Mem, h19 = up h16 x0 6 (h x1 6) → ∀ h22 : Mem, h22 = up h19 x0 7 (h x1 7) → ∀ h25 : Mem, h25 = up h22 x0 8 (h x1 8) → ∀ h28 : Mem, h28 = up h25 x0 9 (h x1 9) → ∀ h31 : Mem, h31 = up h28 x0 10 (h x1 10) → ∀ h34 : Mem, h34 = cpy h31 (x1 + 1) 0 (x0 + 1) 0 4 → ∀ h37 : Mem, h37 = cpy h34 (x1 + 2) 0 (x0 + 2) 0 4 → ∀ h40 : Mem, h40 = cpy h37 (x1 + 3) 0 (x0 + 3) 0 4 → ∀ h43 : Mem, h43 = cpy h40 (x1 + 4) 0 (x0 + 4) 0 16 → ∀ h46 : Mem, h46 = cpy h43 (x1 + 5) 0 (x0 + 5) 0 4 → ∀ h49 : Mem, h49 = cpy h46 (x1 + 6) 0 (x0 + 6) 0 4 → ∀ h52 : Mem, h52 = cpy h49 (x1 + 7) 0 (x0 + 7) 0 16 → ∀ h55 : Mem, h55 = cpy h52 (x1 + 8) 0 (x0 + 8) 0 80 → ∀ h58 : Mem, h58 = cpy h55 (x1 + 9) 0 (x0 + 9) 0 10 → ∀ h61 : Mem, h61 = cpy h58 (x1 + 10) 0 (x0 + 10) 0 30 → ∀ h64 : Mem, h64 = cpy h61 (x1 + 15) 0 (x0 + 15) 0 3640 → kX1_standsAs G X.2.1 x0 x1 h64 (fun r67 h68 => EX h64 h68 → r67 = x0 ∧ P x0 h68)) :
    V G X 2 0 0 (QF G X 2 0 0 (PR h0 P)) 0 [(0, rf x0), (1, rf x1)] [] h := by
  have B := B0
  have E : EX h h := EX.rf B.2
  obtain ⟨S_x1, F⟩ := F
  obtain ⟨S_x0, F⟩ := F
  refine v_aload_n C 0 rfl rfl dX1_copies_0 ?_
  refine v_aload_n C 1 rfl rfl dX1_copies_1 ?_
  refine gX1_64 C (S_x1.ext E.1).k rfl dX1_copies_2 ?_
  refine pX1_64 C (S_x0.ext E.1).k (okI_i rfl (EX.rI B (j := 0) (S_x1.ext E.1).k rfl)) dX1_copies_5 ?_
  obtain ⟨h1, eh1⟩ : ∃ m : Mem, m = up h x0 0 (h x1 0) := ⟨_, rfl⟩
  have B2 : EX h0 h1 := by rw [eh1]; exact EX_up B (S_x0.ext E.1).k (by decide) rfl (by decide) (okI_i rfl (EX.rI B (j := 0) (S_x1.ext E.1).k rfl))
  have E3 : EX h h1 := by rw [eh1]; exact EX_up E (S_x0.ext E.1).k (by decide) rfl (by decide) (okI_i rfl (EX.rI B (j := 0) (S_x1.ext E.1).k rfl))
  refine v_mem eh1 ?_
  have F := F h1 eh1
  refine v_aload_n C 0 rfl rfl dX1_copies_8 ?_
  refine v_aload_n C 1 rfl rfl dX1_copies_9 ?_
  refine gX1_68 C (S_x1.ext E3.1).k (show h1 x1 1 = h x1 1 by rw [eh1, up_i (by decide)]) dX1_copies_10 ?_
  refine pX1_68 C (S_x0.ext E3.1).k (okI_i rfl (R32.of (show h1 x1 1 = h x1 1 by rw [eh1, up_i (by decide)]) (EX.rI B2 (j := 1) (S_x1.ext E3.1).k rfl))) dX1_copies_13 ?_
  obtain ⟨h4, eh4⟩ : ∃ m : Mem, m = up h1 x0 1 (h x1 1) := ⟨_, rfl⟩
  have B5 : EX h0 h4 := by rw [eh4]; exact EX_up B2 (S_x0.ext E3.1).k (by decide) rfl (by decide) (okI_i rfl (R32.of (show h1 x1 1 = h x1 1 by rw [eh1, up_i (by decide)]) (EX.rI B2 (j := 1) (S_x1.ext E3.1).k rfl)))
  have E6 : EX h h4 := by rw [eh4]; exact EX_up E3 (S_x0.ext E3.1).k (by decide) rfl (by decide) (okI_i rfl (R32.of (show h1 x1 1 = h x1 1 by rw [eh1, up_i (by decide)]) (EX.rI B2 (j := 1) (S_x1.ext E3.1).k rfl)))
  refine v_mem eh4 ?_
  have F := F h4 eh4
  refine v_aload_n C 0 rfl rfl dX1_copies_16 ?_
  refine v_aload_n C 1 rfl rfl dX1_copies_17 ?_
  refine gX1_71 C (S_x1.ext E6.1).k (show h4 x1 2 = h x1 2 by rw [eh4, up_i (by decide), eh1, up_i (by decide)]) dX1_copies_18 ?_
  refine pX1_71 C (S_x0.ext E6.1).k (okI_i rfl (R32.of (show h4 x1 2 = h x1 2 by rw [eh4, up_i (by decide), eh1, up_i (by decide)]) (EX.rI B5 (j := 2) (S_x1.ext E6.1).k rfl))) dX1_copies_21 ?_
  obtain ⟨h7, eh7⟩ : ∃ m : Mem, m = up h4 x0 2 (h x1 2) := ⟨_, rfl⟩
  have B8 : EX h0 h7 := by rw [eh7]; exact EX_up B5 (S_x0.ext E6.1).k (by decide) rfl (by decide) (okI_i rfl (R32.of (show h4 x1 2 = h x1 2 by rw [eh4, up_i (by decide), eh1, up_i (by decide)]) (EX.rI B5 (j := 2) (S_x1.ext E6.1).k rfl)))
  have E9 : EX h h7 := by rw [eh7]; exact EX_up E6 (S_x0.ext E6.1).k (by decide) rfl (by decide) (okI_i rfl (R32.of (show h4 x1 2 = h x1 2 by rw [eh4, up_i (by decide), eh1, up_i (by decide)]) (EX.rI B5 (j := 2) (S_x1.ext E6.1).k rfl)))
  refine v_mem eh7 ?_
  have F := F h7 eh7
  refine v_aload_n C 0 rfl rfl dX1_copies_24 ?_
  refine v_aload_n C 1 rfl rfl dX1_copies_25 ?_
  refine gX1_74 C (S_x1.ext E9.1).k (show h7 x1 3 = h x1 3 by rw [eh7, up_i (by decide), eh4, up_i (by decide), eh1, up_i (by decide)]) dX1_copies_26 ?_
  refine pX1_74 C (S_x0.ext E9.1).k (okI_i rfl (R32.of (show h7 x1 3 = h x1 3 by rw [eh7, up_i (by decide), eh4, up_i (by decide), eh1, up_i (by decide)]) (EX.rI B8 (j := 3) (S_x1.ext E9.1).k rfl))) dX1_copies_29 ?_
  obtain ⟨h10, eh10⟩ : ∃ m : Mem, m = up h7 x0 3 (h x1 3) := ⟨_, rfl⟩
  have B11 : EX h0 h10 := by rw [eh10]; exact EX_up B8 (S_x0.ext E9.1).k (by decide) rfl (by decide) (okI_i rfl (R32.of (show h7 x1 3 = h x1 3 by rw [eh7, up_i (by decide), eh4, up_i (by decide), eh1, up_i (by decide)]) (EX.rI B8 (j := 3) (S_x1.ext E9.1).k rfl)))
  have E12 : EX h h10 := by rw [eh10]; exact EX_up E9 (S_x0.ext E9.1).k (by decide) rfl (by decide) (okI_i rfl (R32.of (show h7 x1 3 = h x1 3 by rw [eh7, up_i (by decide), eh4, up_i (by decide), eh1, up_i (by decide)]) (EX.rI B8 (j := 3) (S_x1.ext E9.1).k rfl)))
  refine v_mem eh10 ?_
  have F := F h10 eh10
  refine v_aload_n C 0 rfl rfl dX1_copies_32 ?_
  refine v_aload_n C 1 rfl rfl dX1_copies_33 ?_
  refine gX1_77 C (S_x1.ext E12.1).k (show h10 x1 4 = h x1 4 by rw [eh10, up_i (by decide), eh7, up_i (by decide), eh4, up_i (by decide), eh1, up_i (by decide)]) dX1_copies_34 ?_
  refine pX1_77 C (S_x0.ext E12.1).k (okI_i rfl (R32.of (show h10 x1 4 = h x1 4 by rw [eh10, up_i (by decide), eh7, up_i (by decide), eh4, up_i (by decide), eh1, up_i (by decide)]) (EX.rI B11 (j := 4) (S_x1.ext E12.1).k rfl))) dX1_copies_37 ?_
  obtain ⟨h13, eh13⟩ : ∃ m : Mem, m = up h10 x0 4 (h x1 4) := ⟨_, rfl⟩
  have B14 : EX h0 h13 := by rw [eh13]; exact EX_up B11 (S_x0.ext E12.1).k (by decide) rfl (by decide) (okI_i rfl (R32.of (show h10 x1 4 = h x1 4 by rw [eh10, up_i (by decide), eh7, up_i (by decide), eh4, up_i (by decide), eh1, up_i (by decide)]) (EX.rI B11 (j := 4) (S_x1.ext E12.1).k rfl)))
  have E15 : EX h h13 := by rw [eh13]; exact EX_up E12 (S_x0.ext E12.1).k (by decide) rfl (by decide) (okI_i rfl (R32.of (show h10 x1 4 = h x1 4 by rw [eh10, up_i (by decide), eh7, up_i (by decide), eh4, up_i (by decide), eh1, up_i (by decide)]) (EX.rI B11 (j := 4) (S_x1.ext E12.1).k rfl)))
  refine v_mem eh13 ?_
  have F := F h13 eh13
  refine v_aload_n C 0 rfl rfl dX1_copies_40 ?_
  refine v_aload_n C 1 rfl rfl dX1_copies_41 ?_
  refine gX1_80 C (S_x1.ext E15.1).k (show h13 x1 5 = h x1 5 by rw [eh13, up_i (by decide), eh10, up_i (by decide), eh7, up_i (by decide), eh4, up_i (by decide), eh1, up_i (by decide)]) dX1_copies_42 ?_
  refine pX1_80 C (S_x0.ext E15.1).k (okI_i rfl (R32.of (show h13 x1 5 = h x1 5 by rw [eh13, up_i (by decide), eh10, up_i (by decide), eh7, up_i (by decide), eh4, up_i (by decide), eh1, up_i (by decide)]) (EX.rI B14 (j := 5) (S_x1.ext E15.1).k rfl))) dX1_copies_45 ?_
  obtain ⟨h16, eh16⟩ : ∃ m : Mem, m = up h13 x0 5 (h x1 5) := ⟨_, rfl⟩
  have B17 : EX h0 h16 := by rw [eh16]; exact EX_up B14 (S_x0.ext E15.1).k (by decide) rfl (by decide) (okI_i rfl (R32.of (show h13 x1 5 = h x1 5 by rw [eh13, up_i (by decide), eh10, up_i (by decide), eh7, up_i (by decide), eh4, up_i (by decide), eh1, up_i (by decide)]) (EX.rI B14 (j := 5) (S_x1.ext E15.1).k rfl)))
  have E18 : EX h h16 := by rw [eh16]; exact EX_up E15 (S_x0.ext E15.1).k (by decide) rfl (by decide) (okI_i rfl (R32.of (show h13 x1 5 = h x1 5 by rw [eh13, up_i (by decide), eh10, up_i (by decide), eh7, up_i (by decide), eh4, up_i (by decide), eh1, up_i (by decide)]) (EX.rI B14 (j := 5) (S_x1.ext E15.1).k rfl)))
  refine v_mem eh16 ?_
  have F := F h16 eh16
  refine v_aload_n C 0 rfl rfl dX1_copies_48 ?_
  refine v_aload_n C 1 rfl rfl dX1_copies_49 ?_
  refine gX1_83 C (S_x1.ext E18.1).k (show h16 x1 6 = h x1 6 by rw [eh16, up_i (by decide), eh13, up_i (by decide), eh10, up_i (by decide), eh7, up_i (by decide), eh4, up_i (by decide), eh1, up_i (by decide)]) dX1_copies_50 ?_
  refine pX1_83 C (S_x0.ext E18.1).k (okI_i rfl (R32.of (show h16 x1 6 = h x1 6 by rw [eh16, up_i (by decide), eh13, up_i (by decide), eh10, up_i (by decide), eh7, up_i (by decide), eh4, up_i (by decide), eh1, up_i (by decide)]) (EX.rI B17 (j := 6) (S_x1.ext E18.1).k rfl))) dX1_copies_53 ?_
  obtain ⟨h19, eh19⟩ : ∃ m : Mem, m = up h16 x0 6 (h x1 6) := ⟨_, rfl⟩
  have B20 : EX h0 h19 := by rw [eh19]; exact EX_up B17 (S_x0.ext E18.1).k (by decide) rfl (by decide) (okI_i rfl (R32.of (show h16 x1 6 = h x1 6 by rw [eh16, up_i (by decide), eh13, up_i (by decide), eh10, up_i (by decide), eh7, up_i (by decide), eh4, up_i (by decide), eh1, up_i (by decide)]) (EX.rI B17 (j := 6) (S_x1.ext E18.1).k rfl)))
  have E21 : EX h h19 := by rw [eh19]; exact EX_up E18 (S_x0.ext E18.1).k (by decide) rfl (by decide) (okI_i rfl (R32.of (show h16 x1 6 = h x1 6 by rw [eh16, up_i (by decide), eh13, up_i (by decide), eh10, up_i (by decide), eh7, up_i (by decide), eh4, up_i (by decide), eh1, up_i (by decide)]) (EX.rI B17 (j := 6) (S_x1.ext E18.1).k rfl)))
  refine v_mem eh19 ?_
  have F := F h19 eh19
  refine v_aload_n C 0 rfl rfl dX1_copies_56 ?_
  refine v_aload_n C 1 rfl rfl dX1_copies_57 ?_
  refine gX1_86 C (S_x1.ext E21.1).k (show h19 x1 7 = h x1 7 by rw [eh19, up_i (by decide), eh16, up_i (by decide), eh13, up_i (by decide), eh10, up_i (by decide), eh7, up_i (by decide), eh4, up_i (by decide), eh1, up_i (by decide)]) dX1_copies_58 ?_
  refine pX1_86 C (S_x0.ext E21.1).k (okI_i rfl (R32.of (show h19 x1 7 = h x1 7 by rw [eh19, up_i (by decide), eh16, up_i (by decide), eh13, up_i (by decide), eh10, up_i (by decide), eh7, up_i (by decide), eh4, up_i (by decide), eh1, up_i (by decide)]) (EX.rI B20 (j := 7) (S_x1.ext E21.1).k rfl))) dX1_copies_61 ?_
  obtain ⟨h22, eh22⟩ : ∃ m : Mem, m = up h19 x0 7 (h x1 7) := ⟨_, rfl⟩
  have B23 : EX h0 h22 := by rw [eh22]; exact EX_up B20 (S_x0.ext E21.1).k (by decide) rfl (by decide) (okI_i rfl (R32.of (show h19 x1 7 = h x1 7 by rw [eh19, up_i (by decide), eh16, up_i (by decide), eh13, up_i (by decide), eh10, up_i (by decide), eh7, up_i (by decide), eh4, up_i (by decide), eh1, up_i (by decide)]) (EX.rI B20 (j := 7) (S_x1.ext E21.1).k rfl)))
  have E24 : EX h h22 := by rw [eh22]; exact EX_up E21 (S_x0.ext E21.1).k (by decide) rfl (by decide) (okI_i rfl (R32.of (show h19 x1 7 = h x1 7 by rw [eh19, up_i (by decide), eh16, up_i (by decide), eh13, up_i (by decide), eh10, up_i (by decide), eh7, up_i (by decide), eh4, up_i (by decide), eh1, up_i (by decide)]) (EX.rI B20 (j := 7) (S_x1.ext E21.1).k rfl)))
  refine v_mem eh22 ?_
  have F := F h22 eh22
  refine v_aload_n C 0 rfl rfl dX1_copies_64 ?_
  refine v_aload_n C 1 rfl rfl dX1_copies_65 ?_
  refine gX1_89 C (S_x1.ext E24.1).k (show h22 x1 8 = h x1 8 by rw [eh22, up_i (by decide), eh19, up_i (by decide), eh16, up_i (by decide), eh13, up_i (by decide), eh10, up_i (by decide), eh7, up_i (by decide), eh4, up_i (by decide), eh1, up_i (by decide)]) dX1_copies_66 ?_
  refine pX1_89 C (S_x0.ext E24.1).k (okI_i rfl (R32.of (show h22 x1 8 = h x1 8 by rw [eh22, up_i (by decide), eh19, up_i (by decide), eh16, up_i (by decide), eh13, up_i (by decide), eh10, up_i (by decide), eh7, up_i (by decide), eh4, up_i (by decide), eh1, up_i (by decide)]) (EX.rI B23 (j := 8) (S_x1.ext E24.1).k rfl))) dX1_copies_69 ?_
  obtain ⟨h25, eh25⟩ : ∃ m : Mem, m = up h22 x0 8 (h x1 8) := ⟨_, rfl⟩
  have B26 : EX h0 h25 := by rw [eh25]; exact EX_up B23 (S_x0.ext E24.1).k (by decide) rfl (by decide) (okI_i rfl (R32.of (show h22 x1 8 = h x1 8 by rw [eh22, up_i (by decide), eh19, up_i (by decide), eh16, up_i (by decide), eh13, up_i (by decide), eh10, up_i (by decide), eh7, up_i (by decide), eh4, up_i (by decide), eh1, up_i (by decide)]) (EX.rI B23 (j := 8) (S_x1.ext E24.1).k rfl)))
  have E27 : EX h h25 := by rw [eh25]; exact EX_up E24 (S_x0.ext E24.1).k (by decide) rfl (by decide) (okI_i rfl (R32.of (show h22 x1 8 = h x1 8 by rw [eh22, up_i (by decide), eh19, up_i (by decide), eh16, up_i (by decide), eh13, up_i (by decide), eh10, up_i (by decide), eh7, up_i (by decide), eh4, up_i (by decide), eh1, up_i (by decide)]) (EX.rI B23 (j := 8) (S_x1.ext E24.1).k rfl)))
  refine v_mem eh25 ?_
  have F := F h25 eh25
  refine v_aload_n C 0 rfl rfl dX1_copies_72 ?_
  refine v_aload_n C 1 rfl rfl dX1_copies_73 ?_
  refine gX1_92 C (S_x1.ext E27.1).k (show h25 x1 9 = h x1 9 by rw [eh25, up_i (by decide), eh22, up_i (by decide), eh19, up_i (by decide), eh16, up_i (by decide), eh13, up_i (by decide), eh10, up_i (by decide), eh7, up_i (by decide), eh4, up_i (by decide), eh1, up_i (by decide)]) dX1_copies_74 ?_
  refine pX1_92 C (S_x0.ext E27.1).k (okI_i rfl (R32.of (show h25 x1 9 = h x1 9 by rw [eh25, up_i (by decide), eh22, up_i (by decide), eh19, up_i (by decide), eh16, up_i (by decide), eh13, up_i (by decide), eh10, up_i (by decide), eh7, up_i (by decide), eh4, up_i (by decide), eh1, up_i (by decide)]) (EX.rI B26 (j := 9) (S_x1.ext E27.1).k rfl))) dX1_copies_77 ?_
  obtain ⟨h28, eh28⟩ : ∃ m : Mem, m = up h25 x0 9 (h x1 9) := ⟨_, rfl⟩
  have B29 : EX h0 h28 := by rw [eh28]; exact EX_up B26 (S_x0.ext E27.1).k (by decide) rfl (by decide) (okI_i rfl (R32.of (show h25 x1 9 = h x1 9 by rw [eh25, up_i (by decide), eh22, up_i (by decide), eh19, up_i (by decide), eh16, up_i (by decide), eh13, up_i (by decide), eh10, up_i (by decide), eh7, up_i (by decide), eh4, up_i (by decide), eh1, up_i (by decide)]) (EX.rI B26 (j := 9) (S_x1.ext E27.1).k rfl)))
  have E30 : EX h h28 := by rw [eh28]; exact EX_up E27 (S_x0.ext E27.1).k (by decide) rfl (by decide) (okI_i rfl (R32.of (show h25 x1 9 = h x1 9 by rw [eh25, up_i (by decide), eh22, up_i (by decide), eh19, up_i (by decide), eh16, up_i (by decide), eh13, up_i (by decide), eh10, up_i (by decide), eh7, up_i (by decide), eh4, up_i (by decide), eh1, up_i (by decide)]) (EX.rI B26 (j := 9) (S_x1.ext E27.1).k rfl)))
  refine v_mem eh28 ?_
  have F := F h28 eh28
  refine v_aload_n C 0 rfl rfl dX1_copies_80 ?_
  refine v_aload_n C 1 rfl rfl dX1_copies_81 ?_
  refine gX1_95 C (S_x1.ext E30.1).k (show h28 x1 10 = h x1 10 by rw [eh28, up_i (by decide), eh25, up_i (by decide), eh22, up_i (by decide), eh19, up_i (by decide), eh16, up_i (by decide), eh13, up_i (by decide), eh10, up_i (by decide), eh7, up_i (by decide), eh4, up_i (by decide), eh1, up_i (by decide)]) dX1_copies_82 ?_
  refine pX1_95 C (S_x0.ext E30.1).k (okI_i rfl (R32.of (show h28 x1 10 = h x1 10 by rw [eh28, up_i (by decide), eh25, up_i (by decide), eh22, up_i (by decide), eh19, up_i (by decide), eh16, up_i (by decide), eh13, up_i (by decide), eh10, up_i (by decide), eh7, up_i (by decide), eh4, up_i (by decide), eh1, up_i (by decide)]) (EX.rI B29 (j := 10) (S_x1.ext E30.1).k rfl))) dX1_copies_85 ?_
  obtain ⟨h31, eh31⟩ : ∃ m : Mem, m = up h28 x0 10 (h x1 10) := ⟨_, rfl⟩
  have B32 : EX h0 h31 := by rw [eh31]; exact EX_up B29 (S_x0.ext E30.1).k (by decide) rfl (by decide) (okI_i rfl (R32.of (show h28 x1 10 = h x1 10 by rw [eh28, up_i (by decide), eh25, up_i (by decide), eh22, up_i (by decide), eh19, up_i (by decide), eh16, up_i (by decide), eh13, up_i (by decide), eh10, up_i (by decide), eh7, up_i (by decide), eh4, up_i (by decide), eh1, up_i (by decide)]) (EX.rI B29 (j := 10) (S_x1.ext E30.1).k rfl)))
  have E33 : EX h h31 := by rw [eh31]; exact EX_up E30 (S_x0.ext E30.1).k (by decide) rfl (by decide) (okI_i rfl (R32.of (show h28 x1 10 = h x1 10 by rw [eh28, up_i (by decide), eh25, up_i (by decide), eh22, up_i (by decide), eh19, up_i (by decide), eh16, up_i (by decide), eh13, up_i (by decide), eh10, up_i (by decide), eh7, up_i (by decide), eh4, up_i (by decide), eh1, up_i (by decide)]) (EX.rI B29 (j := 10) (S_x1.ext E30.1).k rfl)))
  refine v_mem eh31 ?_
  have F := F h31 eh31
  refine v_aload_n C 1 rfl rfl dX1_copies_88 ?_
  refine gX1_9 C (S_x1.ext E33.1).k (S_x1.ext E33.1).f13 dX1_copies_89 ?_
  refine v_iconst C dX1_copies_92 ?_
  refine v_aload_n C 0 rfl rfl dX1_copies_93 ?_
  refine gX1_9 C (S_x0.ext E33.1).k (S_x0.ext E33.1).f13 dX1_copies_94 ?_
  refine v_iconst C dX1_copies_97 ?_
  refine v_iconst C dX1_copies_98 ?_
  refine v_copy C q538 q540 q539 q137 (by decide) (Nat.le_of_ble_eq_true rfl) (S_x1.ext E33.1).k13 (S_x0.ext E33.1).k13 (by decide) (by decide) (by decide) (by rw [(S_x1.ext E33.1).l13]; decide) (by rw [(S_x0.ext E33.1).l13]; decide) dX1_copies_99 ?_
  obtain ⟨h34, eh34⟩ : ∃ m : Mem, m = cpy h31 (x1 + 1) 0 (x0 + 1) 0 4 := ⟨_, rfl⟩
  have B35 : EX h0 h34 := by rw [eh34]; exact EX_cpy B32 (S_x1.ext E33.1).k13 (S_x0.ext E33.1).k13 (by decide)
  have E36 : EX h h34 := by rw [eh34]; exact EX_cpy E33 (S_x1.ext E33.1).k13 (S_x0.ext E33.1).k13 (by decide)
  refine v_mem eh34 ?_
  have F := F h34 eh34
  refine v_aload_n C 1 rfl rfl dX1_copies_102 ?_
  refine gX1_15 C (S_x1.ext E36.1).k (S_x1.ext E36.1).f14 dX1_copies_103 ?_
  refine v_iconst C dX1_copies_106 ?_
  refine v_aload_n C 0 rfl rfl dX1_copies_107 ?_
  refine gX1_15 C (S_x0.ext E36.1).k (S_x0.ext E36.1).f14 dX1_copies_108 ?_
  refine v_iconst C dX1_copies_111 ?_
  refine v_iconst C dX1_copies_112 ?_
  refine v_copy C q538 q540 q539 q137 (by decide) (Nat.le_of_ble_eq_true rfl) (S_x1.ext E36.1).k14 (S_x0.ext E36.1).k14 (by decide) (by decide) (by decide) (by rw [(S_x1.ext E36.1).l14]; decide) (by rw [(S_x0.ext E36.1).l14]; decide) dX1_copies_113 ?_
  obtain ⟨h37, eh37⟩ : ∃ m : Mem, m = cpy h34 (x1 + 2) 0 (x0 + 2) 0 4 := ⟨_, rfl⟩
  have B38 : EX h0 h37 := by rw [eh37]; exact EX_cpy B35 (S_x1.ext E36.1).k14 (S_x0.ext E36.1).k14 (by decide)
  have E39 : EX h h37 := by rw [eh37]; exact EX_cpy E36 (S_x1.ext E36.1).k14 (S_x0.ext E36.1).k14 (by decide)
  refine v_mem eh37 ?_
  have F := F h37 eh37
  refine v_aload_n C 1 rfl rfl dX1_copies_116 ?_
  refine gX1_18 C (S_x1.ext E39.1).k (S_x1.ext E39.1).f15 dX1_copies_117 ?_
  refine v_iconst C dX1_copies_120 ?_
  refine v_aload_n C 0 rfl rfl dX1_copies_121 ?_
  refine gX1_18 C (S_x0.ext E39.1).k (S_x0.ext E39.1).f15 dX1_copies_122 ?_
  refine v_iconst C dX1_copies_125 ?_
  refine v_iconst C dX1_copies_126 ?_
  refine v_copy C q538 q540 q539 q137 (by decide) (Nat.le_of_ble_eq_true rfl) (S_x1.ext E39.1).k15 (S_x0.ext E39.1).k15 (by decide) (by decide) (by decide) (by rw [(S_x1.ext E39.1).l15]; decide) (by rw [(S_x0.ext E39.1).l15]; decide) dX1_copies_127 ?_
  obtain ⟨h40, eh40⟩ : ∃ m : Mem, m = cpy h37 (x1 + 3) 0 (x0 + 3) 0 4 := ⟨_, rfl⟩
  have B41 : EX h0 h40 := by rw [eh40]; exact EX_cpy B38 (S_x1.ext E39.1).k15 (S_x0.ext E39.1).k15 (by decide)
  have E42 : EX h h40 := by rw [eh40]; exact EX_cpy E39 (S_x1.ext E39.1).k15 (S_x0.ext E39.1).k15 (by decide)
  refine v_mem eh40 ?_
  have F := F h40 eh40
  refine v_aload_n C 1 rfl rfl dX1_copies_130 ?_
  refine gX1_21 C (S_x1.ext E42.1).k (S_x1.ext E42.1).f16 dX1_copies_131 ?_
  refine v_iconst C dX1_copies_134 ?_
  refine v_aload_n C 0 rfl rfl dX1_copies_135 ?_
  refine gX1_21 C (S_x0.ext E42.1).k (S_x0.ext E42.1).f16 dX1_copies_136 ?_
  refine v_iconst C dX1_copies_139 ?_
  refine v_bipush C rfl dX1_copies_140 ?_
  refine v_copy C q538 q540 q539 q137 (by decide) (Nat.le_of_ble_eq_true rfl) (S_x1.ext E42.1).k16 (S_x0.ext E42.1).k16 (by decide) (by decide) (by decide) (by rw [(S_x1.ext E42.1).l16]; decide) (by rw [(S_x0.ext E42.1).l16]; decide) dX1_copies_142 ?_
  obtain ⟨h43, eh43⟩ : ∃ m : Mem, m = cpy h40 (x1 + 4) 0 (x0 + 4) 0 16 := ⟨_, rfl⟩
  have B44 : EX h0 h43 := by rw [eh43]; exact EX_cpy B41 (S_x1.ext E42.1).k16 (S_x0.ext E42.1).k16 (by decide)
  have E45 : EX h h43 := by rw [eh43]; exact EX_cpy E42 (S_x1.ext E42.1).k16 (S_x0.ext E42.1).k16 (by decide)
  refine v_mem eh43 ?_
  have F := F h43 eh43
  refine v_aload_n C 1 rfl rfl dX1_copies_145 ?_
  refine gX1_24 C (S_x1.ext E45.1).k (S_x1.ext E45.1).f17 dX1_copies_146 ?_
  refine v_iconst C dX1_copies_149 ?_
  refine v_aload_n C 0 rfl rfl dX1_copies_150 ?_
  refine gX1_24 C (S_x0.ext E45.1).k (S_x0.ext E45.1).f17 dX1_copies_151 ?_
  refine v_iconst C dX1_copies_154 ?_
  refine v_iconst C dX1_copies_155 ?_
  refine v_copy C q538 q540 q539 q137 (by decide) (Nat.le_of_ble_eq_true rfl) (S_x1.ext E45.1).k17 (S_x0.ext E45.1).k17 (by decide) (by decide) (by decide) (by rw [(S_x1.ext E45.1).l17]; decide) (by rw [(S_x0.ext E45.1).l17]; decide) dX1_copies_156 ?_
  obtain ⟨h46, eh46⟩ : ∃ m : Mem, m = cpy h43 (x1 + 5) 0 (x0 + 5) 0 4 := ⟨_, rfl⟩
  have B47 : EX h0 h46 := by rw [eh46]; exact EX_cpy B44 (S_x1.ext E45.1).k17 (S_x0.ext E45.1).k17 (by decide)
  have E48 : EX h h46 := by rw [eh46]; exact EX_cpy E45 (S_x1.ext E45.1).k17 (S_x0.ext E45.1).k17 (by decide)
  refine v_mem eh46 ?_
  have F := F h46 eh46
  refine v_aload_n C 1 rfl rfl dX1_copies_159 ?_
  refine gX1_27 C (S_x1.ext E48.1).k (S_x1.ext E48.1).f18 dX1_copies_160 ?_
  refine v_iconst C dX1_copies_163 ?_
  refine v_aload_n C 0 rfl rfl dX1_copies_164 ?_
  refine gX1_27 C (S_x0.ext E48.1).k (S_x0.ext E48.1).f18 dX1_copies_165 ?_
  refine v_iconst C dX1_copies_168 ?_
  refine v_iconst C dX1_copies_169 ?_
  refine v_copy C q538 q540 q539 q137 (by decide) (Nat.le_of_ble_eq_true rfl) (S_x1.ext E48.1).k18 (S_x0.ext E48.1).k18 (by decide) (by decide) (by decide) (by rw [(S_x1.ext E48.1).l18]; decide) (by rw [(S_x0.ext E48.1).l18]; decide) dX1_copies_170 ?_
  obtain ⟨h49, eh49⟩ : ∃ m : Mem, m = cpy h46 (x1 + 6) 0 (x0 + 6) 0 4 := ⟨_, rfl⟩
  have B50 : EX h0 h49 := by rw [eh49]; exact EX_cpy B47 (S_x1.ext E48.1).k18 (S_x0.ext E48.1).k18 (by decide)
  have E51 : EX h h49 := by rw [eh49]; exact EX_cpy E48 (S_x1.ext E48.1).k18 (S_x0.ext E48.1).k18 (by decide)
  refine v_mem eh49 ?_
  have F := F h49 eh49
  refine v_aload_n C 1 rfl rfl dX1_copies_173 ?_
  refine gX1_30 C (S_x1.ext E51.1).k (S_x1.ext E51.1).f19 dX1_copies_174 ?_
  refine v_iconst C dX1_copies_177 ?_
  refine v_aload_n C 0 rfl rfl dX1_copies_178 ?_
  refine gX1_30 C (S_x0.ext E51.1).k (S_x0.ext E51.1).f19 dX1_copies_179 ?_
  refine v_iconst C dX1_copies_182 ?_
  refine v_bipush C rfl dX1_copies_183 ?_
  refine v_copy C q538 q540 q539 q137 (by decide) (Nat.le_of_ble_eq_true rfl) (S_x1.ext E51.1).k19 (S_x0.ext E51.1).k19 (by decide) (by decide) (by decide) (by rw [(S_x1.ext E51.1).l19]; decide) (by rw [(S_x0.ext E51.1).l19]; decide) dX1_copies_185 ?_
  obtain ⟨h52, eh52⟩ : ∃ m : Mem, m = cpy h49 (x1 + 7) 0 (x0 + 7) 0 16 := ⟨_, rfl⟩
  have B53 : EX h0 h52 := by rw [eh52]; exact EX_cpy B50 (S_x1.ext E51.1).k19 (S_x0.ext E51.1).k19 (by decide)
  have E54 : EX h h52 := by rw [eh52]; exact EX_cpy E51 (S_x1.ext E51.1).k19 (S_x0.ext E51.1).k19 (by decide)
  refine v_mem eh52 ?_
  have F := F h52 eh52
  refine v_aload_n C 1 rfl rfl dX1_copies_188 ?_
  refine gX1_33 C (S_x1.ext E54.1).k (S_x1.ext E54.1).f20 dX1_copies_189 ?_
  refine v_iconst C dX1_copies_192 ?_
  refine v_aload_n C 0 rfl rfl dX1_copies_193 ?_
  refine gX1_33 C (S_x0.ext E54.1).k (S_x0.ext E54.1).f20 dX1_copies_194 ?_
  refine v_iconst C dX1_copies_197 ?_
  refine v_bipush C rfl dX1_copies_198 ?_
  refine v_copy C q538 q540 q539 q137 (by decide) (Nat.le_of_ble_eq_true rfl) (S_x1.ext E54.1).k20 (S_x0.ext E54.1).k20 (by decide) (by decide) (by decide) (by rw [(S_x1.ext E54.1).l20]; decide) (by rw [(S_x0.ext E54.1).l20]; decide) dX1_copies_200 ?_
  obtain ⟨h55, eh55⟩ : ∃ m : Mem, m = cpy h52 (x1 + 8) 0 (x0 + 8) 0 80 := ⟨_, rfl⟩
  have B56 : EX h0 h55 := by rw [eh55]; exact EX_cpy B53 (S_x1.ext E54.1).k20 (S_x0.ext E54.1).k20 (by decide)
  have E57 : EX h h55 := by rw [eh55]; exact EX_cpy E54 (S_x1.ext E54.1).k20 (S_x0.ext E54.1).k20 (by decide)
  refine v_mem eh55 ?_
  have F := F h55 eh55
  refine v_aload_n C 1 rfl rfl dX1_copies_203 ?_
  refine gX1_36 C (S_x1.ext E57.1).k (S_x1.ext E57.1).f21 dX1_copies_204 ?_
  refine v_iconst C dX1_copies_207 ?_
  refine v_aload_n C 0 rfl rfl dX1_copies_208 ?_
  refine gX1_36 C (S_x0.ext E57.1).k (S_x0.ext E57.1).f21 dX1_copies_209 ?_
  refine v_iconst C dX1_copies_212 ?_
  refine v_bipush C rfl dX1_copies_213 ?_
  refine v_copy C q538 q540 q539 q137 (by decide) (Nat.le_of_ble_eq_true rfl) (S_x1.ext E57.1).k21 (S_x0.ext E57.1).k21 (by decide) (by decide) (by decide) (by rw [(S_x1.ext E57.1).l21]; decide) (by rw [(S_x0.ext E57.1).l21]; decide) dX1_copies_215 ?_
  obtain ⟨h58, eh58⟩ : ∃ m : Mem, m = cpy h55 (x1 + 9) 0 (x0 + 9) 0 10 := ⟨_, rfl⟩
  have B59 : EX h0 h58 := by rw [eh58]; exact EX_cpy B56 (S_x1.ext E57.1).k21 (S_x0.ext E57.1).k21 (by decide)
  have E60 : EX h h58 := by rw [eh58]; exact EX_cpy E57 (S_x1.ext E57.1).k21 (S_x0.ext E57.1).k21 (by decide)
  refine v_mem eh58 ?_
  have F := F h58 eh58
  refine v_aload_n C 1 rfl rfl dX1_copies_218 ?_
  refine gX1_39 C (S_x1.ext E60.1).k (S_x1.ext E60.1).f22 dX1_copies_219 ?_
  refine v_iconst C dX1_copies_222 ?_
  refine v_aload_n C 0 rfl rfl dX1_copies_223 ?_
  refine gX1_39 C (S_x0.ext E60.1).k (S_x0.ext E60.1).f22 dX1_copies_224 ?_
  refine v_iconst C dX1_copies_227 ?_
  refine v_bipush C rfl dX1_copies_228 ?_
  refine v_copy C q538 q540 q539 q137 (by decide) (Nat.le_of_ble_eq_true rfl) (S_x1.ext E60.1).k22 (S_x0.ext E60.1).k22 (by decide) (by decide) (by decide) (by rw [(S_x1.ext E60.1).l22]; decide) (by rw [(S_x0.ext E60.1).l22]; decide) dX1_copies_230 ?_
  obtain ⟨h61, eh61⟩ : ∃ m : Mem, m = cpy h58 (x1 + 10) 0 (x0 + 10) 0 30 := ⟨_, rfl⟩
  have B62 : EX h0 h61 := by rw [eh61]; exact EX_cpy B59 (S_x1.ext E60.1).k22 (S_x0.ext E60.1).k22 (by decide)
  have E63 : EX h h61 := by rw [eh61]; exact EX_cpy E60 (S_x1.ext E60.1).k22 (S_x0.ext E60.1).k22 (by decide)
  refine v_mem eh61 ?_
  have F := F h61 eh61
  refine v_aload_n C 1 rfl rfl dX1_copies_233 ?_
  refine gX1_54 C (S_x1.ext E63.1).k (S_x1.ext E63.1).f27 dX1_copies_234 ?_
  refine v_iconst C dX1_copies_237 ?_
  refine v_aload_n C 0 rfl rfl dX1_copies_238 ?_
  refine gX1_54 C (S_x0.ext E63.1).k (S_x0.ext E63.1).f27 dX1_copies_239 ?_
  refine v_iconst C dX1_copies_242 ?_
  refine v_sipush C rfl dX1_copies_243 ?_
  refine v_copy C q538 q540 q539 q137 (by decide) (Nat.le_of_ble_eq_true rfl) (S_x1.ext E63.1).k27 (S_x0.ext E63.1).k27 (by decide) (by decide) (by decide) (by rw [(S_x1.ext E63.1).l27]; decide) (by rw [(S_x0.ext E63.1).l27]; decide) dX1_copies_246 ?_
  obtain ⟨h64, eh64⟩ : ∃ m : Mem, m = cpy h61 (x1 + 15) 0 (x0 + 15) 0 3640 := ⟨_, rfl⟩
  have B65 : EX h0 h64 := by rw [eh64]; exact EX_cpy B62 (S_x1.ext E63.1).k27 (S_x0.ext E63.1).k27 (by decide)
  have E66 : EX h h64 := by rw [eh64]; exact EX_cpy E63 (S_x1.ext E63.1).k27 (S_x0.ext E63.1).k27 (by decide)
  refine v_mem eh64 ?_
  have F := F h64 eh64
  refine v_aload_n C 0 rfl rfl dX1_copies_249 ?_
  refine v_aload_n C 1 rfl rfl dX1_copies_250 ?_
  refine mX1_104 C (S_x0.ext E66.1).k (d2 := 1) (kc2 := 0) (ks2 := 0) (by decide) (Nat.le_refl _) (Nat.le_refl _) (Nat.le_of_ble_eq_true rfl) dX1_copies_251 (Ct.mono (F) ?_)
  rintro r67 h68 ⟨e69, F⟩
  replace F := F e69
  have B71 := B65.tr e69
  have E72 := E66.tr e69
  obtain ⟨r67q, F⟩ := F
  subst r67q
  exact v_aret C (Nat.le_refl _) (Nat.le_refl _) dX1_copies_254 ⟨B71, F⟩
set_option maxHeartbeats 1000000 in
theorem eX1_copies {G : GT} {l : Launch} {x0 x1 : Int} {h : Mem} {P : Int → Mem → Prop} (F : ∀ X : MX, Cx G X cX1_copies 2 RX1 2 0 0 (some (.object "LatestCoat$Town")) "copies" → X.2.1 = l → (EX h h) →
    TownS h x1 ∧ TownS h x0 ∧ ∀ h1 : Mem, h1 = up h x0 0 (h x1 0) → ∀ h4 : Mem, h4 = up h1 x0 1 (h x1 1) → ∀ h7 : Mem, h7 = up h4 x0 2 (h x1 2) → ∀ h10 : Mem, h10 = up h7 x0 3 (h x1 3) → ∀ h13 : Mem, h13 = up h10 x0 4 (h x1 4) → ∀ h16 : Mem, h16 = up h13 x0 5 (h x1 5) → ∀ h19 : Mem, h19 = up h16 x0 6 (h x1 6) → ∀ h22 : Mem, h22 = up h19 x0 7 (h x1 7) → ∀ h25 : Mem, h25 = up h22 x0 8 (h x1 8) → ∀ h28 : Mem, h28 = up h25 x0 9 (h x1 9) → ∀ h31 : Mem, h31 = up h28 x0 10 (h x1 10) → ∀ h34 : Mem, h34 = cpy h31 (x1 + 1) 0 (x0 + 1) 0 4 → ∀ h37 : Mem, h37 = cpy h34 (x1 + 2) 0 (x0 + 2) 0 4 → ∀ h40 : Mem, h40 = cpy h37 (x1 + 3) 0 (x0 + 3) 0 4 → ∀ h43 : Mem, h43 = cpy h40 (x1 + 4) 0 (x0 + 4) 0 16 → ∀ h46 : Mem, h46 = cpy h43 (x1 + 5) 0 (x0 + 5) 0 4 → ∀ h49 : Mem, h49 = cpy h46 (x1 + 6) 0 (x0 + 6) 0 4 → ∀ h52 : Mem, h52 = cpy h49 (x1 + 7) 0 (x0 + 7) 0 16 → ∀ h55 : Mem, h55 = cpy h52 (x1 + 8) 0 (x0 + 8) 0 80 → ∀ h58 : Mem, h58 = cpy h55 (x1 + 9) 0 (x0 + 9) 0 10 → ∀ h61 : Mem, h61 = cpy h58 (x1 + 10) 0 (x0 + 10) 0 30 → ∀ h64 : Mem, h64 = cpy h61 (x1 + 15) 0 (x0 + 15) 0 3640 → kX1_standsAs G X.2.1 x0 x1 h64 (fun r67 h68 => EX h64 h68 → r67 = x0 ∧ P x0 h68)) :
    kX1_copies G l x0 x1 h P := by
  refine ct_of (by decide +kernel) (Nat.le_of_ble_eq_true rfl) fun X C e => ?_
  refine v_okz fun O => ?_
  exact wX1_copies_0 C (EX.rf O) (F X C e (EX.rf O))
def kX1_isOneColour (G : GT) (l : Launch) (x0 : Int) (h : Mem) (P : Int → Mem → Prop) : Prop := Ct G l yX1_isOneColour cX1_isOneColour 3 (some .boolean) 0 2 0 0 [rf x0] h (PZ h P)
set_option maxHeartbeats 4000000 in
theorem wX1_isOneColour_0 {G : GT} {X : MX} {h0 h : Mem} {P : Int → Mem → Prop} {x0 : Int} (C : Cx G X cX1_isOneColour 3 RX1 2 0 0 (some .boolean) "isOneColour") (B0 : EX h0 h)
    (F : (EX h0 h ∧ R32 (-1) ∧ R32 0 → V G X 3 0 0 (QF G X 0 0 0 (PZ h0 P)) 4 [(0, rf x0), (1, iv (-1)), (2, iv 0)] [] h)) :
    V G X 3 0 0 (QF G X 0 0 0 (PZ h0 P)) 0 [(0, rf x0)] [] h := by
  have B := B0
  have E : EX h h := EX.rf B.2
  refine v_iconst C dX1_isOneColour_0 ?_
  refine v_istore_n C rfl (by decide) dX1_isOneColour_1 (lv2 := [(1, iv (-1)), (0, rf x0)]) rfl ?_
  refine v_iconst C dX1_isOneColour_2 ?_
  refine v_istore_n C rfl (by decide) dX1_isOneColour_3 (lv2 := [(2, iv 0), (1, iv (-1)), (0, rf x0)]) rfl ?_
  refine v_sub (lv2 := [(0, rf x0), (1, iv (-1)), (2, iv 0)]) [2, 1, 0] rfl ?_
  exact F ⟨B, ⟨by decide, by decide⟩, ⟨by decide, by decide⟩⟩
set_option maxHeartbeats 4000000 in
theorem wX1_isOneColour_L4 {G : GT} {X : MX} {h0 h : Mem} {P : Int → Mem → Prop} {x0 x1 x2 : Int} (C : Cx G X cX1_isOneColour 3 RX1 2 0 0 (some .boolean) "isOneColour") (B0 : EX h0 h ∧ R32 x1 ∧ R32 x2)
    (F : TownS h x0 ∧ ((x2 ≥ h x0 4 → P 1 h) ∧ (x2 < h x0 4 → kX1_isBareCell G X.2.1 x0 x2 h (fun r2 h3 => EX h h3 → ((r2 = 0 → 0 ≤ x2 ∧ x2 < 16 ∧ ((h3 (x0 + 11) x2 = 0 → P 0 h3) ∧ (h3 (x0 + 11) x2 ≠ 0 → ((x1 = (-1) → kX1_top G X.2.1 x0 x2 h3 (fun r13 h14 => EX h3 h14 → 0 ≤ r13 ∧ r13 < 4 ∧ ∀ y21 : Int, y21 = h14 (x0 + 5) r13 → R32 (x2 + 1) ∧ (EX h0 h14 ∧ R32 y21 ∧ R32 (x2 + 1) → V G X 3 0 0 (QF G X 0 0 0 (PZ h0 P)) 4 [(0, rf x0), (1, iv y21), (2, iv (x2 + 1))] [] h14))) ∧ (x1 ≠ (-1) → kX1_top G X.2.1 x0 x2 h3 (fun r23 h24 => EX h3 h24 → 0 ≤ r23 ∧ r23 < 4 ∧ ((h24 (x0 + 5) r23 = x1 → kX1_top G X.2.1 x0 x2 h24 (fun r32 h33 => EX h24 h33 → 0 ≤ r32 ∧ r32 < 4 ∧ ∀ y40 : Int, y40 = h33 (x0 + 5) r32 → R32 (x2 + 1) ∧ (EX h0 h33 ∧ R32 y40 ∧ R32 (x2 + 1) → V G X 3 0 0 (QF G X 0 0 0 (PZ h0 P)) 4 [(0, rf x0), (1, iv y40), (2, iv (x2 + 1))] [] h33))) ∧ (h24 (x0 + 5) r23 ≠ x1 → P 0 h24)))))))) ∧ (r2 ≠ 0 → R32 (x2 + 1) ∧ (EX h0 h3 ∧ R32 x1 ∧ R32 (x2 + 1) → V G X 3 0 0 (QF G X 0 0 0 (PZ h0 P)) 4 [(0, rf x0), (1, iv x1), (2, iv (x2 + 1))] [] h3))))))) :
    V G X 3 0 0 (QF G X 0 0 0 (PZ h0 P)) 4 [(0, rf x0), (1, iv x1), (2, iv x2)] [] h := by
  obtain ⟨B, R1, R2⟩ := B0
  have E : EX h h := EX.rf B.2
  obtain ⟨S_x0, F⟩ := F
  refine v_iload_n C 2 rfl rfl dX1_isOneColour_4 ?_
  refine v_aload_n C 0 rfl rfl dX1_isOneColour_5 ?_
  refine gX1_77 C (S_x0.ext E.1).k rfl dX1_isOneColour_6 ?_
  refine v_icmp_ge C 70 R2 (EX.rI B (j := 4) (S_x0.ext E.1).k rfl) dX1_isOneColour_9 (by decide) (fun c1 => ?_) (fun c1 => ?_)
  · have F := F.1 (c1)
    refine v_iconst C dX1_isOneColour_70 ?_
    exact v_zret C (by decide) (Nat.le_refl _) (Nat.le_refl _) dX1_isOneColour_71 ⟨B, (by decide), F⟩
  · have F := F.2 (c1)
    refine v_aload_n C 0 rfl rfl dX1_isOneColour_12 ?_
    refine v_iload_n C 2 rfl rfl dX1_isOneColour_13 ?_
    refine mX1_135 C (S_x0.ext E.1).k (d2 := 1) (kc2 := 0) (ks2 := 0) (by decide) (Nat.le_refl _) (Nat.le_refl _) (Nat.le_of_ble_eq_true rfl) dX1_isOneColour_14 (Ct.mono (F R2) ?_)
    rintro r2 h3 ⟨e4, g5, F⟩
    have F := F e4
    have B6 := B.tr e4
    have E7 := E.tr e4
    refine v_if_eq C 23 (bR g5) dX1_isOneColour_17 (by decide) (fun c8 => ?_) (fun c8 => ?_)
    · have F := F.1 (c8)
      refine v_aload_n C 0 rfl rfl dX1_isOneColour_23 ?_
      refine gX1_42 C (S_x0.ext E7.1).k (S_x0.ext E7.1).f23 dX1_isOneColour_24 ?_
      refine v_iload_n C 2 rfl rfl dX1_isOneColour_27 ?_
      obtain ⟨o9, F⟩ := F
      obtain ⟨o10, F⟩ := F
      refine v_iald C (S_x0.ext E7.1).k23 o9 (by rw [(S_x0.ext E7.1).l23]; exact o10) rfl dX1_isOneColour_28 ?_
      refine v_if_eq C 51 (EX.rI B6 (j := x2) (S_x0.ext E7.1).k23 rfl) dX1_isOneColour_29 (by decide) (fun c11 => ?_) (fun c11 => ?_)
      · have F := F.1 (c11)
        refine v_iconst C dX1_isOneColour_51 ?_
        exact v_zret C (by decide) (Nat.le_refl _) (Nat.le_refl _) dX1_isOneColour_52 ⟨B6, (by decide), F⟩
      · have F := F.2 (c11)
        refine v_iload_n C 1 rfl rfl dX1_isOneColour_32 ?_
        refine v_iconst C dX1_isOneColour_33 ?_
        refine v_icmp_eq C 53 R1 ⟨by decide, by decide⟩ dX1_isOneColour_34 (by decide) (fun c12 => ?_) (fun c12 => ?_)
        · have F := F.1 (c12)
          refine v_aload_n C 0 rfl rfl dX1_isOneColour_53 ?_
          refine gX1_24 C (S_x0.ext E7.1).k (S_x0.ext E7.1).f17 dX1_isOneColour_54 ?_
          refine v_aload_n C 0 rfl rfl dX1_isOneColour_57 ?_
          refine v_iload_n C 2 rfl rfl dX1_isOneColour_58 ?_
          refine mX1_143 C (S_x0.ext E7.1).k (d2 := 0) (kc2 := 0) (ks2 := 0) (by decide) (Nat.le_refl _) (Nat.le_refl _) (Nat.le_of_ble_eq_true rfl) dX1_isOneColour_59 (Ct.mono (F R2) ?_)
          rintro r13 h14 ⟨e15, g16, F⟩
          have F := F e15
          have B17 := B6.tr e15
          have E18 := E7.tr e15
          obtain ⟨o19, F⟩ := F
          obtain ⟨o20, F⟩ := F
          refine v_iald C (S_x0.ext E18.1).k17 o19 (by rw [(S_x0.ext E18.1).l17]; exact o20) rfl dX1_isOneColour_62 ?_
          obtain ⟨y21, ey21⟩ : ∃ z : Int, z = h14 (x0 + 5) r13 := ⟨_, rfl⟩
          have F := F y21 ey21
          have Ry21 : R32 y21 := by rw [ey21]; exact (EX.rI B17 (j := r13) (S_x0.ext E18.1).k17 rfl)
          refine v_istore_n C rfl (by decide) dX1_isOneColour_63 (lv2 := [(1, iv y21), (0, rf x0), (2, iv x2)]) (by rw [ey21]; rfl) ?_
          obtain ⟨o22, F⟩ := F
          refine v_iinc C 2 rfl (by decide) dX1_isOneColour_64 (lv2 := [(2, iv (x2 + 1)), (1, iv y21), (0, rf x0)]) rfl ?_
          refine v_goto C 4 dX1_isOneColour_67 (by decide) ?_
          refine v_sub (lv2 := [(0, rf x0), (1, iv y21), (2, iv (x2 + 1))]) [2, 1, 0] rfl ?_
          exact F ⟨B17, Ry21, o22⟩
        · have F := F.2 (c12)
          refine v_aload_n C 0 rfl rfl dX1_isOneColour_37 ?_
          refine gX1_24 C (S_x0.ext E7.1).k (S_x0.ext E7.1).f17 dX1_isOneColour_38 ?_
          refine v_aload_n C 0 rfl rfl dX1_isOneColour_41 ?_
          refine v_iload_n C 2 rfl rfl dX1_isOneColour_42 ?_
          refine mX1_143 C (S_x0.ext E7.1).k (d2 := 0) (kc2 := 0) (ks2 := 0) (by decide) (Nat.le_refl _) (Nat.le_refl _) (Nat.le_of_ble_eq_true rfl) dX1_isOneColour_43 (Ct.mono (F R2) ?_)
          rintro r23 h24 ⟨e25, g26, F⟩
          have F := F e25
          have B27 := B6.tr e25
          have E28 := E7.tr e25
          obtain ⟨o29, F⟩ := F
          obtain ⟨o30, F⟩ := F
          refine v_iald C (S_x0.ext E28.1).k17 o29 (by rw [(S_x0.ext E28.1).l17]; exact o30) rfl dX1_isOneColour_46 ?_
          refine v_iload_n C 1 rfl rfl dX1_isOneColour_47 ?_
          refine v_icmp_eq C 53 (EX.rI B27 (j := r23) (S_x0.ext E28.1).k17 rfl) R1 dX1_isOneColour_48 (by decide) (fun c31 => ?_) (fun c31 => ?_)
          · have F := F.1 (c31)
            refine v_aload_n C 0 rfl rfl dX1_isOneColour_53 ?_
            refine gX1_24 C (S_x0.ext E28.1).k (S_x0.ext E28.1).f17 dX1_isOneColour_54 ?_
            refine v_aload_n C 0 rfl rfl dX1_isOneColour_57 ?_
            refine v_iload_n C 2 rfl rfl dX1_isOneColour_58 ?_
            refine mX1_143 C (S_x0.ext E28.1).k (d2 := 0) (kc2 := 0) (ks2 := 0) (by decide) (Nat.le_refl _) (Nat.le_refl _) (Nat.le_of_ble_eq_true rfl) dX1_isOneColour_59 (Ct.mono (F R2) ?_)
            rintro r32 h33 ⟨e34, g35, F⟩
            have F := F e34
            have B36 := B27.tr e34
            have E37 := E28.tr e34
            obtain ⟨o38, F⟩ := F
            obtain ⟨o39, F⟩ := F
            refine v_iald C (S_x0.ext E37.1).k17 o38 (by rw [(S_x0.ext E37.1).l17]; exact o39) rfl dX1_isOneColour_62 ?_
            obtain ⟨y40, ey40⟩ : ∃ z : Int, z = h33 (x0 + 5) r32 := ⟨_, rfl⟩
            have F := F y40 ey40
            have Ry40 : R32 y40 := by rw [ey40]; exact (EX.rI B36 (j := r32) (S_x0.ext E37.1).k17 rfl)
            refine v_istore_n C rfl (by decide) dX1_isOneColour_63 (lv2 := [(1, iv y40), (0, rf x0), (2, iv x2)]) (by rw [ey40]; rfl) ?_
            obtain ⟨o41, F⟩ := F
            refine v_iinc C 2 rfl (by decide) dX1_isOneColour_64 (lv2 := [(2, iv (x2 + 1)), (1, iv y40), (0, rf x0)]) rfl ?_
            refine v_goto C 4 dX1_isOneColour_67 (by decide) ?_
            refine v_sub (lv2 := [(0, rf x0), (1, iv y40), (2, iv (x2 + 1))]) [2, 1, 0] rfl ?_
            exact F ⟨B36, Ry40, o41⟩
          · have F := F.2 (c31)
            refine v_iconst C dX1_isOneColour_51 ?_
            exact v_zret C (by decide) (Nat.le_refl _) (Nat.le_refl _) dX1_isOneColour_52 ⟨B27, (by decide), F⟩
    · have F := F.2 (c8)
      refine v_goto C 64 dX1_isOneColour_20 (by decide) ?_
      obtain ⟨o42, F⟩ := F
      refine v_iinc C 2 rfl (by decide) dX1_isOneColour_64 (lv2 := [(2, iv (x2 + 1)), (0, rf x0), (1, iv x1)]) rfl ?_
      refine v_goto C 4 dX1_isOneColour_67 (by decide) ?_
      refine v_sub (lv2 := [(0, rf x0), (1, iv x1), (2, iv (x2 + 1))]) [1, 2, 0] rfl ?_
      exact F ⟨B6, R1, o42⟩
set_option maxHeartbeats 1000000 in
theorem eX1_isOneColour {G : GT} {l : Launch} {x0 : Int} {h : Mem} {P : Int → Mem → Prop} (F : ∀ X : MX, Cx G X cX1_isOneColour 3 RX1 2 0 0 (some .boolean) "isOneColour" → X.2.1 = l → (EX h h) →
    (EX h h ∧ R32 (-1) ∧ R32 0 → V G X 3 0 0 (QF G X 0 0 0 (PZ h P)) 4 [(0, rf x0), (1, iv (-1)), (2, iv 0)] [] h)) :
    kX1_isOneColour G l x0 h P := by
  refine ct_of (by decide +kernel) (Nat.le_of_ble_eq_true rfl) fun X C e => ?_
  refine v_okz fun O => ?_
  exact wX1_isOneColour_0 C (EX.rf O) (F X C e (EX.rf O))
def kX1_whose (G : GT) (l : Launch) (x0 x1 : Int) (h : Mem) (P : Int → Mem → Prop) : Prop := R32 x1 → Ct G l yX1_whose cX1_whose 2 (some .int) 0 2 0 0 [rf x0, iv x1] h (PI h P)
set_option maxHeartbeats 4000000 in
theorem wX1_whose_0 {G : GT} {X : MX} {h0 h : Mem} {P : Int → Mem → Prop} {x0 x1 : Int} (C : Cx G X cX1_whose 2 RX1 2 0 0 (some .int) "whose") (B0 : EX h0 h ∧ R32 x1)
    (F : TownS h x0 ∧ kX1_thingAt G X.2.1 x0 x1 (h x0 11) 2147483647 (h x0 1) h (fun r1 h2 => EX h h2 → P r1 h2)) :
    V G X 2 0 0 (QF G X 0 0 0 (PI h0 P)) 0 [(0, rf x0), (1, iv x1)] [] h := by
  obtain ⟨B, R1⟩ := B0
  have E : EX h h := EX.rf B.2
  obtain ⟨S_x0, F⟩ := F
  refine v_aload_n C 0 rfl rfl dX1_whose_0 ?_
  refine v_iload_n C 1 rfl rfl dX1_whose_1 ?_
  refine v_aload_n C 0 rfl rfl dX1_whose_2 ?_
  refine gX1_108 C (S_x0.ext E.1).k rfl dX1_whose_3 ?_
  refine v_ldc C (x := 2147483647) q857 dX1_whose_6 ?_
  refine v_aload_n C 0 rfl rfl dX1_whose_8 ?_
  refine gX1_68 C (S_x0.ext E.1).k rfl dX1_whose_9 ?_
  refine mX1_127 C (S_x0.ext E.1).k (d2 := 1) (kc2 := 0) (ks2 := 0) (by decide) (Nat.le_refl _) (Nat.le_refl _) (Nat.le_of_ble_eq_true rfl) dX1_whose_12 (Ct.mono (F R1 (EX.rI B (j := 11) (S_x0.ext E.1).k rfl) ⟨by decide, by decide⟩ (EX.rI B (j := 1) (S_x0.ext E.1).k rfl)) ?_)
  rintro r1 h2 ⟨e3, g4, F⟩
  have F := F e3
  have B5 := B.tr e3
  have E6 := E.tr e3
  exact v_iret C (Nat.le_refl _) (Nat.le_refl _) dX1_whose_15 ⟨B5, g4, F⟩
set_option maxHeartbeats 1000000 in
theorem eX1_whose {G : GT} {l : Launch} {x0 x1 : Int} {h : Mem} {P : Int → Mem → Prop} (F : ∀ X : MX, Cx G X cX1_whose 2 RX1 2 0 0 (some .int) "whose" → X.2.1 = l → (EX h h ∧ R32 x1) →
    TownS h x0 ∧ kX1_thingAt G X.2.1 x0 x1 (h x0 11) 2147483647 (h x0 1) h (fun r1 h2 => EX h h2 → P r1 h2)) :
    kX1_whose G l x0 x1 h P := by
  intro R1
  refine ct_of (by decide +kernel) (Nat.le_of_ble_eq_true rfl) fun X C e => ?_
  refine v_okz fun O => ?_
  exact wX1_whose_0 C ⟨EX.rf O, R1⟩ (F X C e ⟨EX.rf O, R1⟩)
def kX1_fillsWords (G : GT) (l : Launch) (x0 x1 x2 : Int) (h : Mem) (P : Int → Mem → Prop) : Prop := R32 x1 → R32 x2 → Ct G l yX1_fillsWords cX1_fillsWords 4 none 3 3 0 0 [rf x0, iv x1, iv x2] h (PR h P)
set_option maxHeartbeats 4000000 in
theorem wX1_fillsWords_0 {G : GT} {X : MX} {h0 h : Mem} {P : Int → Mem → Prop} {x0 x1 x2 : Int} (C : Cx G X cX1_fillsWords 4 RX1 3 0 0 none "fillsWords") (B0 : EX h0 h ∧ R32 x1 ∧ R32 x2)
    (F : TownS h x0 ∧ 0 ≤ x2 ∧ x2 < 16 ∧ ∀ y3 : Int, y3 = h (x0 + 4) x2 → ∀ h4 : Mem, h4 = up h (x0 + 16) 0 x1 → ∀ h7 : Mem, h7 = up h4 (x0 + 16) 1 x2 → ∀ h10 : Mem, h10 = up h7 (x0 + 16) 2 y3 → 0 ≤ y3 ∧ y3 < 4 ∧ ∀ h15 : Mem, h15 = up h10 (x0 + 16) 3 (h (x0 + 3) y3) → kX1_top G X.2.1 x0 x2 h15 (fun r18 h19 => EX h15 h19 → ∀ h24 : Mem, h24 = up h19 (x0 + 16) 4 r18 → kX1_isWet G X.2.1 x0 x2 h24 (fun r27 h28 => EX h24 h28 → ((r27 = 0 → (EX h0 h28 ∧ R32 x1 ∧ R32 x2 ∧ R32 y3 ∧ R64 0 → V G X 4 0 0 (QF G X 3 0 0 (PR h0 P)) 74 [(0, rf x0), (1, iv x1), (2, iv x2), (3, iv y3)] [jv 0, iv 5, rf (x0 + 16)] h28)) ∧ (r27 ≠ 0 → (EX h0 h28 ∧ R32 x1 ∧ R32 x2 ∧ R32 y3 ∧ R64 1 → V G X 4 0 0 (QF G X 3 0 0 (PR h0 P)) 74 [(0, rf x0), (1, iv x1), (2, iv x2), (3, iv y3)] [jv 1, iv 5, rf (x0 + 16)] h28)))))) :
    V G X 4 0 0 (QF G X 3 0 0 (PR h0 P)) 0 [(0, rf x0), (1, iv x1), (2, iv x2)] [] h := by
  obtain ⟨B, R1, R2⟩ := B0
  have E : EX h h := EX.rf B.2
  obtain ⟨S_x0, F⟩ := F
  refine v_aload_n C 0 rfl rfl dX1_fillsWords_0 ?_
  refine gX1_21 C (S_x0.ext E.1).k (S_x0.ext E.1).f16 dX1_fillsWords_1 ?_
  refine v_iload_n C 2 rfl rfl dX1_fillsWords_4 ?_
  obtain ⟨o1, F⟩ := F
  obtain ⟨o2, F⟩ := F
  refine v_iald C (S_x0.ext E.1).k16 o1 (by rw [(S_x0.ext E.1).l16]; exact o2) rfl dX1_fillsWords_5 ?_
  obtain ⟨y3, ey3⟩ : ∃ z : Int, z = h (x0 + 4) x2 := ⟨_, rfl⟩
  have F := F y3 ey3
  have Ry3 : R32 y3 := by rw [ey3]; exact (EX.rI B (j := x2) (S_x0.ext E.1).k16 rfl)
  refine v_istore_n C rfl (by decide) dX1_fillsWords_6 (lv2 := [(3, iv y3), (0, rf x0), (1, iv x1), (2, iv x2)]) (by rw [ey3]; rfl) ?_
  refine v_aload_n C 1 rfl rfl dX1_fillsWords_7 ?_
  refine gX1_57 C (S_x0.ext E.1).k (S_x0.ext E.1).f28 dX1_fillsWords_8 ?_
  refine v_iconst C dX1_fillsWords_11 ?_
  refine v_iload_n C 2 rfl rfl dX1_fillsWords_12 ?_
  refine v_i2l C R1 dX1_fillsWords_13 ?_
  refine v_last C (S_x0.ext E.1).k28 (by decide) (by rw [(S_x0.ext E.1).l28]; decide) (R32.l R1) dX1_fillsWords_14 ?_
  obtain ⟨h4, eh4⟩ : ∃ m : Mem, m = up h (x0 + 16) 0 x1 := ⟨_, rfl⟩
  have B5 : EX h0 h4 := by rw [eh4]; exact EX_up B (S_x0.ext E.1).k28 (by decide) rfl (by decide) (okI_l (R32.l R1))
  have E6 : EX h h4 := by rw [eh4]; exact EX_up E (S_x0.ext E.1).k28 (by decide) rfl (by decide) (okI_l (R32.l R1))
  refine v_mem eh4 ?_
  have F := F h4 eh4
  refine v_aload_n C 1 rfl rfl dX1_fillsWords_15 ?_
  refine gX1_57 C (S_x0.ext E6.1).k (S_x0.ext E6.1).f28 dX1_fillsWords_16 ?_
  refine v_iconst C dX1_fillsWords_19 ?_
  refine v_iload_n C 3 rfl rfl dX1_fillsWords_20 ?_
  refine v_i2l C R2 dX1_fillsWords_21 ?_
  refine v_last C (S_x0.ext E6.1).k28 (by decide) (by rw [(S_x0.ext E6.1).l28]; decide) (R32.l R2) dX1_fillsWords_22 ?_
  obtain ⟨h7, eh7⟩ : ∃ m : Mem, m = up h4 (x0 + 16) 1 x2 := ⟨_, rfl⟩
  have B8 : EX h0 h7 := by rw [eh7]; exact EX_up B5 (S_x0.ext E6.1).k28 (by decide) rfl (by decide) (okI_l (R32.l R2))
  have E9 : EX h h7 := by rw [eh7]; exact EX_up E6 (S_x0.ext E6.1).k28 (by decide) rfl (by decide) (okI_l (R32.l R2))
  refine v_mem eh7 ?_
  have F := F h7 eh7
  refine v_aload_n C 1 rfl rfl dX1_fillsWords_23 ?_
  refine gX1_57 C (S_x0.ext E9.1).k (S_x0.ext E9.1).f28 dX1_fillsWords_24 ?_
  refine v_iconst C dX1_fillsWords_27 ?_
  refine v_iload_n C 0 rfl rfl dX1_fillsWords_28 ?_
  refine v_i2l C Ry3 dX1_fillsWords_29 ?_
  refine v_last C (S_x0.ext E9.1).k28 (by decide) (by rw [(S_x0.ext E9.1).l28]; decide) (R32.l Ry3) dX1_fillsWords_30 ?_
  obtain ⟨h10, eh10⟩ : ∃ m : Mem, m = up h7 (x0 + 16) 2 y3 := ⟨_, rfl⟩
  have B11 : EX h0 h10 := by rw [eh10]; exact EX_up B8 (S_x0.ext E9.1).k28 (by decide) rfl (by decide) (okI_l (R32.l Ry3))
  have E12 : EX h h10 := by rw [eh10]; exact EX_up E9 (S_x0.ext E9.1).k28 (by decide) rfl (by decide) (okI_l (R32.l Ry3))
  refine v_mem eh10 ?_
  have F := F h10 eh10
  refine v_aload_n C 1 rfl rfl dX1_fillsWords_31 ?_
  refine gX1_57 C (S_x0.ext E12.1).k (S_x0.ext E12.1).f28 dX1_fillsWords_32 ?_
  refine v_iconst C dX1_fillsWords_35 ?_
  refine v_aload_n C 1 rfl rfl dX1_fillsWords_36 ?_
  refine gX1_18 C (S_x0.ext E12.1).k (S_x0.ext E12.1).f15 dX1_fillsWords_37 ?_
  refine v_iload_n C 0 rfl rfl dX1_fillsWords_40 ?_
  obtain ⟨o13, F⟩ := F
  obtain ⟨o14, F⟩ := F
  refine v_iald C (S_x0.ext E12.1).k15 o13 (by rw [(S_x0.ext E12.1).l15]; exact o14) (show h10 (x0 + 3) y3 = h (x0 + 3) y3 by rw [eh10, up_a (by omega), eh7, up_a (by omega), eh4, up_a (by omega)]) dX1_fillsWords_41 ?_
  refine v_i2l C (R32.of (show h10 (x0 + 3) y3 = h (x0 + 3) y3 by rw [eh10, up_a (by omega), eh7, up_a (by omega), eh4, up_a (by omega)]) (EX.rI B11 (j := y3) (S_x0.ext E12.1).k15 rfl)) dX1_fillsWords_42 ?_
  refine v_last C (S_x0.ext E12.1).k28 (by decide) (by rw [(S_x0.ext E12.1).l28]; decide) (R32.l (R32.of (show h10 (x0 + 3) y3 = h (x0 + 3) y3 by rw [eh10, up_a (by omega), eh7, up_a (by omega), eh4, up_a (by omega)]) (EX.rI B11 (j := y3) (S_x0.ext E12.1).k15 rfl))) dX1_fillsWords_43 ?_
  obtain ⟨h15, eh15⟩ : ∃ m : Mem, m = up h10 (x0 + 16) 3 (h (x0 + 3) y3) := ⟨_, rfl⟩
  have B16 : EX h0 h15 := by rw [eh15]; exact EX_up B11 (S_x0.ext E12.1).k28 (by decide) rfl (by decide) (okI_l (R32.l (R32.of (show h10 (x0 + 3) y3 = h (x0 + 3) y3 by rw [eh10, up_a (by omega), eh7, up_a (by omega), eh4, up_a (by omega)]) (EX.rI B11 (j := y3) (S_x0.ext E12.1).k15 rfl))))
  have E17 : EX h h15 := by rw [eh15]; exact EX_up E12 (S_x0.ext E12.1).k28 (by decide) rfl (by decide) (okI_l (R32.l (R32.of (show h10 (x0 + 3) y3 = h (x0 + 3) y3 by rw [eh10, up_a (by omega), eh7, up_a (by omega), eh4, up_a (by omega)]) (EX.rI B11 (j := y3) (S_x0.ext E12.1).k15 rfl))))
  refine v_mem eh15 ?_
  have F := F h15 eh15
  refine v_aload_n C 1 rfl rfl dX1_fillsWords_44 ?_
  refine gX1_57 C (S_x0.ext E17.1).k (S_x0.ext E17.1).f28 dX1_fillsWords_45 ?_
  refine v_iconst C dX1_fillsWords_48 ?_
  refine v_aload_n C 1 rfl rfl dX1_fillsWords_49 ?_
  refine v_iload_n C 3 rfl rfl dX1_fillsWords_50 ?_
  refine mX1_143 C (S_x0.ext E17.1).k (d2 := 0) (kc2 := 0) (ks2 := 0) (by decide) (Nat.le_refl _) (Nat.le_refl _) (Nat.le_of_ble_eq_true rfl) dX1_fillsWords_51 (Ct.mono (F R2) ?_)
  rintro r18 h19 ⟨e20, g21, F⟩
  have F := F e20
  have B22 := B16.tr e20
  have E23 := E17.tr e20
  refine v_i2l C g21 dX1_fillsWords_54 ?_
  refine v_last C (S_x0.ext E23.1).k28 (by decide) (by rw [(S_x0.ext E23.1).l28]; decide) (R32.l g21) dX1_fillsWords_55 ?_
  obtain ⟨h24, eh24⟩ : ∃ m : Mem, m = up h19 (x0 + 16) 4 r18 := ⟨_, rfl⟩
  have B25 : EX h0 h24 := by rw [eh24]; exact EX_up B22 (S_x0.ext E23.1).k28 (by decide) rfl (by decide) (okI_l (R32.l g21))
  have E26 : EX h h24 := by rw [eh24]; exact EX_up E23 (S_x0.ext E23.1).k28 (by decide) rfl (by decide) (okI_l (R32.l g21))
  refine v_mem eh24 ?_
  have F := F h24 eh24
  refine v_aload_n C 1 rfl rfl dX1_fillsWords_56 ?_
  refine gX1_57 C (S_x0.ext E26.1).k (S_x0.ext E26.1).f28 dX1_fillsWords_57 ?_
  refine v_iconst C dX1_fillsWords_60 ?_
  refine v_aload_n C 1 rfl rfl dX1_fillsWords_61 ?_
  refine v_iload_n C 3 rfl rfl dX1_fillsWords_62 ?_
  refine mX1_146 C (S_x0.ext E26.1).k (d2 := 0) (kc2 := 0) (ks2 := 0) (by decide) (Nat.le_refl _) (Nat.le_refl _) (Nat.le_of_ble_eq_true rfl) dX1_fillsWords_63 (Ct.mono (F R2) ?_)
  rintro r27 h28 ⟨e29, g30, F⟩
  have F := F e29
  have B31 := B25.tr e29
  have E32 := E26.tr e29
  refine v_if_eq C 73 (bR g30) dX1_fillsWords_66 (by decide) (fun c33 => ?_) (fun c33 => ?_)
  · have F := F.1 (c33)
    refine v_lconst C (x := 0) rfl dX1_fillsWords_73 ?_
    refine v_sub (lv2 := [(0, rf x0), (1, iv x1), (2, iv x2), (3, iv y3)]) [1, 2, 3, 0] rfl ?_
    exact F ⟨B31, R1, R2, Ry3, ⟨by decide, by decide⟩⟩
  · have F := F.2 (c33)
    refine v_lconst C (x := 1) rfl dX1_fillsWords_69 ?_
    refine v_goto C 74 dX1_fillsWords_70 (by decide) ?_
    refine v_sub (lv2 := [(0, rf x0), (1, iv x1), (2, iv x2), (3, iv y3)]) [1, 2, 3, 0] rfl ?_
    exact F ⟨B31, R1, R2, Ry3, ⟨by decide, by decide⟩⟩
set_option maxHeartbeats 4000000 in
theorem wX1_fillsWords_L74 {G : GT} {X : MX} {h0 h : Mem} {P : Int → Mem → Prop} {x0 x1 x2 x3 s0 s2 : Int} (C : Cx G X cX1_fillsWords 4 RX1 3 0 0 none "fillsWords") (B0 : EX h0 h ∧ R32 x1 ∧ R32 x2 ∧ R32 x3 ∧ R64 s0)
    (F : TownS h x0 ∧ h s2 (-1) = 104 ∧ 5 < h s2 (-2) ∧ ∀ h3 : Mem, h3 = up h s2 5 s0 → kX1_ownerOf G X.2.1 x0 x2 h3 (fun r6 h7 => EX h3 h7 → ∀ h12 : Mem, h12 = up h7 (x0 + 16) 6 r6 → kX1_cellsOf G X.2.1 x0 x1 x3 h12 (fun r15 h16 => EX h12 h16 → ∀ h21 : Mem, h21 = up h16 (x0 + 16) 7 r15 → kX1_whose G X.2.1 x0 x3 h21 (fun r24 h25 => EX h21 h25 → ∀ h30 : Mem, h30 = up h25 (x0 + 16) 8 r24 → 0 ≤ x2 ∧ x2 < 16 ∧ ∀ h35 : Mem, h35 = up h30 (x0 + 16) 9 (h25 (x0 + 11) x2) → 0 ≤ x1 ∧ x1 < 4 ∧ ∀ h40 : Mem, h40 = up h35 (x0 + 16) 10 (h25 (x0 + 14) x1) → ∀ h43 : Mem, h43 = up h40 (x0 + 16) 11 (h25 x0 11) → kX1_isRain G X.2.1 x0 (h25 x0 11) h43 (fun r46 h47 => EX h43 h47 → ((r46 = 0 → ∀ h53 : Mem, h53 = up h47 (x0 + 16) 12 0 → P 0 h53) ∧ (r46 ≠ 0 → ∀ h56 : Mem, h56 = up h47 (x0 + 16) 12 1 → P 0 h56))))))) :
    V G X 4 0 0 (QF G X 3 0 0 (PR h0 P)) 74 [(0, rf x0), (1, iv x1), (2, iv x2), (3, iv x3)] [jv s0, iv 5, rf s2] h := by
  obtain ⟨B, R1, R2, R3, T0⟩ := B0
  have E : EX h h := EX.rf B.2
  obtain ⟨S_x0, F⟩ := F
  obtain ⟨o1, F⟩ := F
  obtain ⟨o2, F⟩ := F
  refine v_last C o1 (by decide) o2 T0 dX1_fillsWords_74 ?_
  obtain ⟨h3, eh3⟩ : ∃ m : Mem, m = up h s2 5 s0 := ⟨_, rfl⟩
  have B4 : EX h0 h3 := by rw [eh3]; exact EX_up B o1 (by decide) rfl (by decide) (okI_l T0)
  have E5 : EX h h3 := by rw [eh3]; exact EX_up E o1 (by decide) rfl (by decide) (okI_l T0)
  refine v_mem eh3 ?_
  have F := F h3 eh3
  refine v_aload_n C 0 rfl rfl dX1_fillsWords_75 ?_
  refine gX1_57 C (S_x0.ext E5.1).k (S_x0.ext E5.1).f28 dX1_fillsWords_76 ?_
  refine v_bipush C rfl dX1_fillsWords_79 ?_
  refine v_aload_n C 0 rfl rfl dX1_fillsWords_81 ?_
  refine v_iload_n C 2 rfl rfl dX1_fillsWords_82 ?_
  refine mX1_131 C (S_x0.ext E5.1).k (d2 := 1) (kc2 := 0) (ks2 := 0) (by decide) (Nat.le_refl _) (Nat.le_refl _) (Nat.le_of_ble_eq_true rfl) dX1_fillsWords_83 (Ct.mono (F R2) ?_)
  rintro r6 h7 ⟨e8, g9, F⟩
  have F := F e8
  have B10 := B4.tr e8
  have E11 := E5.tr e8
  refine v_i2l C g9 dX1_fillsWords_86 ?_
  refine v_last C (S_x0.ext E11.1).k28 (by decide) (by rw [(S_x0.ext E11.1).l28]; decide) (R32.l g9) dX1_fillsWords_87 ?_
  obtain ⟨h12, eh12⟩ : ∃ m : Mem, m = up h7 (x0 + 16) 6 r6 := ⟨_, rfl⟩
  have B13 : EX h0 h12 := by rw [eh12]; exact EX_up B10 (S_x0.ext E11.1).k28 (by decide) rfl (by decide) (okI_l (R32.l g9))
  have E14 : EX h h12 := by rw [eh12]; exact EX_up E11 (S_x0.ext E11.1).k28 (by decide) rfl (by decide) (okI_l (R32.l g9))
  refine v_mem eh12 ?_
  have F := F h12 eh12
  refine v_aload_n C 0 rfl rfl dX1_fillsWords_88 ?_
  refine gX1_57 C (S_x0.ext E14.1).k (S_x0.ext E14.1).f28 dX1_fillsWords_89 ?_
  refine v_bipush C rfl dX1_fillsWords_92 ?_
  refine v_aload_n C 0 rfl rfl dX1_fillsWords_94 ?_
  refine v_iload_n C 1 rfl rfl dX1_fillsWords_95 ?_
  refine v_iload_n C 3 rfl rfl dX1_fillsWords_96 ?_
  refine mX1_149 C (S_x0.ext E14.1).k (d2 := 2) (kc2 := 0) (ks2 := 0) (by decide) (Nat.le_refl _) (Nat.le_refl _) (Nat.le_of_ble_eq_true rfl) dX1_fillsWords_97 (Ct.mono (F R1 R3) ?_)
  rintro r15 h16 ⟨e17, g18, F⟩
  have F := F e17
  have B19 := B13.tr e17
  have E20 := E14.tr e17
  refine v_i2l C g18 dX1_fillsWords_100 ?_
  refine v_last C (S_x0.ext E20.1).k28 (by decide) (by rw [(S_x0.ext E20.1).l28]; decide) (R32.l g18) dX1_fillsWords_101 ?_
  obtain ⟨h21, eh21⟩ : ∃ m : Mem, m = up h16 (x0 + 16) 7 r15 := ⟨_, rfl⟩
  have B22 : EX h0 h21 := by rw [eh21]; exact EX_up B19 (S_x0.ext E20.1).k28 (by decide) rfl (by decide) (okI_l (R32.l g18))
  have E23 : EX h h21 := by rw [eh21]; exact EX_up E20 (S_x0.ext E20.1).k28 (by decide) rfl (by decide) (okI_l (R32.l g18))
  refine v_mem eh21 ?_
  have F := F h21 eh21
  refine v_aload_n C 0 rfl rfl dX1_fillsWords_102 ?_
  refine gX1_57 C (S_x0.ext E23.1).k (S_x0.ext E23.1).f28 dX1_fillsWords_103 ?_
  refine v_bipush C rfl dX1_fillsWords_106 ?_
  refine v_aload_n C 0 rfl rfl dX1_fillsWords_108 ?_
  refine v_iload_n C 3 rfl rfl dX1_fillsWords_109 ?_
  refine mX1_152 C (S_x0.ext E23.1).k (d2 := 2) (kc2 := 0) (ks2 := 0) (by decide) (Nat.le_refl _) (Nat.le_refl _) (Nat.le_of_ble_eq_true rfl) dX1_fillsWords_110 (Ct.mono (F R3) ?_)
  rintro r24 h25 ⟨e26, g27, F⟩
  have F := F e26
  have B28 := B22.tr e26
  have E29 := E23.tr e26
  refine v_i2l C g27 dX1_fillsWords_113 ?_
  refine v_last C (S_x0.ext E29.1).k28 (by decide) (by rw [(S_x0.ext E29.1).l28]; decide) (R32.l g27) dX1_fillsWords_114 ?_
  obtain ⟨h30, eh30⟩ : ∃ m : Mem, m = up h25 (x0 + 16) 8 r24 := ⟨_, rfl⟩
  have B31 : EX h0 h30 := by rw [eh30]; exact EX_up B28 (S_x0.ext E29.1).k28 (by decide) rfl (by decide) (okI_l (R32.l g27))
  have E32 : EX h h30 := by rw [eh30]; exact EX_up E29 (S_x0.ext E29.1).k28 (by decide) rfl (by decide) (okI_l (R32.l g27))
  refine v_mem eh30 ?_
  have F := F h30 eh30
  refine v_aload_n C 0 rfl rfl dX1_fillsWords_115 ?_
  refine gX1_57 C (S_x0.ext E32.1).k (S_x0.ext E32.1).f28 dX1_fillsWords_116 ?_
  refine v_bipush C rfl dX1_fillsWords_119 ?_
  refine v_aload_n C 0 rfl rfl dX1_fillsWords_121 ?_
  refine gX1_42 C (S_x0.ext E32.1).k (S_x0.ext E32.1).f23 dX1_fillsWords_122 ?_
  refine v_iload_n C 2 rfl rfl dX1_fillsWords_125 ?_
  obtain ⟨o33, F⟩ := F
  obtain ⟨o34, F⟩ := F
  refine v_iald C (S_x0.ext E32.1).k23 o33 (by rw [(S_x0.ext E32.1).l23]; exact o34) (show h30 (x0 + 11) x2 = h25 (x0 + 11) x2 by rw [eh30, up_a (by omega)]) dX1_fillsWords_126 ?_
  refine v_i2l C (R32.of (show h30 (x0 + 11) x2 = h25 (x0 + 11) x2 by rw [eh30, up_a (by omega)]) (EX.rI B31 (j := x2) (S_x0.ext E32.1).k23 rfl)) dX1_fillsWords_127 ?_
  refine v_last C (S_x0.ext E32.1).k28 (by decide) (by rw [(S_x0.ext E32.1).l28]; decide) (R32.l (R32.of (show h30 (x0 + 11) x2 = h25 (x0 + 11) x2 by rw [eh30, up_a (by omega)]) (EX.rI B31 (j := x2) (S_x0.ext E32.1).k23 rfl))) dX1_fillsWords_128 ?_
  obtain ⟨h35, eh35⟩ : ∃ m : Mem, m = up h30 (x0 + 16) 9 (h25 (x0 + 11) x2) := ⟨_, rfl⟩
  have B36 : EX h0 h35 := by rw [eh35]; exact EX_up B31 (S_x0.ext E32.1).k28 (by decide) rfl (by decide) (okI_l (R32.l (R32.of (show h30 (x0 + 11) x2 = h25 (x0 + 11) x2 by rw [eh30, up_a (by omega)]) (EX.rI B31 (j := x2) (S_x0.ext E32.1).k23 rfl))))
  have E37 : EX h h35 := by rw [eh35]; exact EX_up E32 (S_x0.ext E32.1).k28 (by decide) rfl (by decide) (okI_l (R32.l (R32.of (show h30 (x0 + 11) x2 = h25 (x0 + 11) x2 by rw [eh30, up_a (by omega)]) (EX.rI B31 (j := x2) (S_x0.ext E32.1).k23 rfl))))
  refine v_mem eh35 ?_
  have F := F h35 eh35
  refine v_aload_n C 0 rfl rfl dX1_fillsWords_129 ?_
  refine gX1_57 C (S_x0.ext E37.1).k (S_x0.ext E37.1).f28 dX1_fillsWords_130 ?_
  refine v_bipush C rfl dX1_fillsWords_133 ?_
  refine v_aload_n C 0 rfl rfl dX1_fillsWords_135 ?_
  refine gX1_51 C (S_x0.ext E37.1).k (S_x0.ext E37.1).f26 dX1_fillsWords_136 ?_
  refine v_iload_n C 1 rfl rfl dX1_fillsWords_139 ?_
  obtain ⟨o38, F⟩ := F
  obtain ⟨o39, F⟩ := F
  refine v_iald C (S_x0.ext E37.1).k26 o38 (by rw [(S_x0.ext E37.1).l26]; exact o39) (show h35 (x0 + 14) x1 = h25 (x0 + 14) x1 by rw [eh35, up_a (by omega), eh30, up_a (by omega)]) dX1_fillsWords_140 ?_
  refine v_i2l C (R32.of (show h35 (x0 + 14) x1 = h25 (x0 + 14) x1 by rw [eh35, up_a (by omega), eh30, up_a (by omega)]) (EX.rI B36 (j := x1) (S_x0.ext E37.1).k26 rfl)) dX1_fillsWords_141 ?_
  refine v_last C (S_x0.ext E37.1).k28 (by decide) (by rw [(S_x0.ext E37.1).l28]; decide) (R32.l (R32.of (show h35 (x0 + 14) x1 = h25 (x0 + 14) x1 by rw [eh35, up_a (by omega), eh30, up_a (by omega)]) (EX.rI B36 (j := x1) (S_x0.ext E37.1).k26 rfl))) dX1_fillsWords_142 ?_
  obtain ⟨h40, eh40⟩ : ∃ m : Mem, m = up h35 (x0 + 16) 10 (h25 (x0 + 14) x1) := ⟨_, rfl⟩
  have B41 : EX h0 h40 := by rw [eh40]; exact EX_up B36 (S_x0.ext E37.1).k28 (by decide) rfl (by decide) (okI_l (R32.l (R32.of (show h35 (x0 + 14) x1 = h25 (x0 + 14) x1 by rw [eh35, up_a (by omega), eh30, up_a (by omega)]) (EX.rI B36 (j := x1) (S_x0.ext E37.1).k26 rfl))))
  have E42 : EX h h40 := by rw [eh40]; exact EX_up E37 (S_x0.ext E37.1).k28 (by decide) rfl (by decide) (okI_l (R32.l (R32.of (show h35 (x0 + 14) x1 = h25 (x0 + 14) x1 by rw [eh35, up_a (by omega), eh30, up_a (by omega)]) (EX.rI B36 (j := x1) (S_x0.ext E37.1).k26 rfl))))
  refine v_mem eh40 ?_
  have F := F h40 eh40
  refine v_aload_n C 0 rfl rfl dX1_fillsWords_143 ?_
  refine gX1_57 C (S_x0.ext E42.1).k (S_x0.ext E42.1).f28 dX1_fillsWords_144 ?_
  refine v_bipush C rfl dX1_fillsWords_147 ?_
  refine v_aload_n C 0 rfl rfl dX1_fillsWords_149 ?_
  refine gX1_108 C (S_x0.ext E42.1).k (show h40 x0 11 = h25 x0 11 by rw [eh40, up_i (by decide), eh35, up_i (by decide), eh30, up_i (by decide)]) dX1_fillsWords_150 ?_
  refine v_i2l C (R32.of (show h40 x0 11 = h25 x0 11 by rw [eh40, up_i (by decide), eh35, up_i (by decide), eh30, up_i (by decide)]) (EX.rI B41 (j := 11) (S_x0.ext E42.1).k rfl)) dX1_fillsWords_153 ?_
  refine v_last C (S_x0.ext E42.1).k28 (by decide) (by rw [(S_x0.ext E42.1).l28]; decide) (R32.l (R32.of (show h40 x0 11 = h25 x0 11 by rw [eh40, up_i (by decide), eh35, up_i (by decide), eh30, up_i (by decide)]) (EX.rI B41 (j := 11) (S_x0.ext E42.1).k rfl))) dX1_fillsWords_154 ?_
  obtain ⟨h43, eh43⟩ : ∃ m : Mem, m = up h40 (x0 + 16) 11 (h25 x0 11) := ⟨_, rfl⟩
  have B44 : EX h0 h43 := by rw [eh43]; exact EX_up B41 (S_x0.ext E42.1).k28 (by decide) rfl (by decide) (okI_l (R32.l (R32.of (show h40 x0 11 = h25 x0 11 by rw [eh40, up_i (by decide), eh35, up_i (by decide), eh30, up_i (by decide)]) (EX.rI B41 (j := 11) (S_x0.ext E42.1).k rfl))))
  have E45 : EX h h43 := by rw [eh43]; exact EX_up E42 (S_x0.ext E42.1).k28 (by decide) rfl (by decide) (okI_l (R32.l (R32.of (show h40 x0 11 = h25 x0 11 by rw [eh40, up_i (by decide), eh35, up_i (by decide), eh30, up_i (by decide)]) (EX.rI B41 (j := 11) (S_x0.ext E42.1).k rfl))))
  refine v_mem eh43 ?_
  have F := F h43 eh43
  refine v_aload_n C 0 rfl rfl dX1_fillsWords_155 ?_
  refine gX1_57 C (S_x0.ext E45.1).k (S_x0.ext E45.1).f28 dX1_fillsWords_156 ?_
  refine v_bipush C rfl dX1_fillsWords_159 ?_
  refine v_aload_n C 0 rfl rfl dX1_fillsWords_161 ?_
  refine v_aload_n C 0 rfl rfl dX1_fillsWords_162 ?_
  refine gX1_108 C (S_x0.ext E45.1).k (show h43 x0 11 = h25 x0 11 by rw [eh43, up_a (by omega), eh40, up_i (by decide), eh35, up_i (by decide), eh30, up_i (by decide)]) dX1_fillsWords_163 ?_
  refine mX1_155 C (S_x0.ext E45.1).k (d2 := 0) (kc2 := 0) (ks2 := 0) (by decide) (Nat.le_refl _) (Nat.le_refl _) (Nat.le_of_ble_eq_true rfl) dX1_fillsWords_166 (Ct.mono (F (R32.of (show h43 x0 11 = h25 x0 11 by rw [eh43, up_a (by omega), eh40, up_i (by decide), eh35, up_i (by decide), eh30, up_i (by decide)]) (EX.rI B44 (j := 11) (S_x0.ext E45.1).k rfl))) ?_)
  rintro r46 h47 ⟨e48, g49, F⟩
  have F := F e48
  have B50 := B44.tr e48
  have E51 := E45.tr e48
  refine v_if_eq C 176 (bR g49) dX1_fillsWords_169 (by decide) (fun c52 => ?_) (fun c52 => ?_)
  · have F := F.1 (c52)
    refine v_lconst C (x := 0) rfl dX1_fillsWords_176 ?_
    refine v_last C (S_x0.ext E51.1).k28 (by decide) (by rw [(S_x0.ext E51.1).l28]; decide) ⟨by decide, by decide⟩ dX1_fillsWords_177 ?_
    obtain ⟨h53, eh53⟩ : ∃ m : Mem, m = up h47 (x0 + 16) 12 0 := ⟨_, rfl⟩
    have B54 : EX h0 h53 := by rw [eh53]; exact EX_up B50 (S_x0.ext E51.1).k28 (by decide) rfl (by decide) (okI_l ⟨by decide, by decide⟩)
    have E55 : EX h h53 := by rw [eh53]; exact EX_up E51 (S_x0.ext E51.1).k28 (by decide) rfl (by decide) (okI_l ⟨by decide, by decide⟩)
    refine v_mem eh53 ?_
    have F := F h53 eh53
    exact v_vret C (Nat.le_refl _) (Nat.le_refl _) dX1_fillsWords_178 ⟨B54, F⟩
  · have F := F.2 (c52)
    refine v_lconst C (x := 1) rfl dX1_fillsWords_172 ?_
    refine v_goto C 177 dX1_fillsWords_173 (by decide) ?_
    refine v_last C (S_x0.ext E51.1).k28 (by decide) (by rw [(S_x0.ext E51.1).l28]; decide) ⟨by decide, by decide⟩ dX1_fillsWords_177 ?_
    obtain ⟨h56, eh56⟩ : ∃ m : Mem, m = up h47 (x0 + 16) 12 1 := ⟨_, rfl⟩
    have B57 : EX h0 h56 := by rw [eh56]; exact EX_up B50 (S_x0.ext E51.1).k28 (by decide) rfl (by decide) (okI_l ⟨by decide, by decide⟩)
    have E58 : EX h h56 := by rw [eh56]; exact EX_up E51 (S_x0.ext E51.1).k28 (by decide) rfl (by decide) (okI_l ⟨by decide, by decide⟩)
    refine v_mem eh56 ?_
    have F := F h56 eh56
    exact v_vret C (Nat.le_refl _) (Nat.le_refl _) dX1_fillsWords_178 ⟨B57, F⟩
set_option maxHeartbeats 1000000 in
theorem eX1_fillsWords {G : GT} {l : Launch} {x0 x1 x2 : Int} {h : Mem} {P : Int → Mem → Prop} (F : ∀ X : MX, Cx G X cX1_fillsWords 4 RX1 3 0 0 none "fillsWords" → X.2.1 = l → (EX h h ∧ R32 x1 ∧ R32 x2) →
    TownS h x0 ∧ 0 ≤ x2 ∧ x2 < 16 ∧ ∀ y3 : Int, y3 = h (x0 + 4) x2 → ∀ h4 : Mem, h4 = up h (x0 + 16) 0 x1 → ∀ h7 : Mem, h7 = up h4 (x0 + 16) 1 x2 → ∀ h10 : Mem, h10 = up h7 (x0 + 16) 2 y3 → 0 ≤ y3 ∧ y3 < 4 ∧ ∀ h15 : Mem, h15 = up h10 (x0 + 16) 3 (h (x0 + 3) y3) → kX1_top G X.2.1 x0 x2 h15 (fun r18 h19 => EX h15 h19 → ∀ h24 : Mem, h24 = up h19 (x0 + 16) 4 r18 → kX1_isWet G X.2.1 x0 x2 h24 (fun r27 h28 => EX h24 h28 → ((r27 = 0 → (EX h h28 ∧ R32 x1 ∧ R32 x2 ∧ R32 y3 ∧ R64 0 → V G X 4 0 0 (QF G X 3 0 0 (PR h P)) 74 [(0, rf x0), (1, iv x1), (2, iv x2), (3, iv y3)] [jv 0, iv 5, rf (x0 + 16)] h28)) ∧ (r27 ≠ 0 → (EX h h28 ∧ R32 x1 ∧ R32 x2 ∧ R32 y3 ∧ R64 1 → V G X 4 0 0 (QF G X 3 0 0 (PR h P)) 74 [(0, rf x0), (1, iv x1), (2, iv x2), (3, iv y3)] [jv 1, iv 5, rf (x0 + 16)] h28)))))) :
    kX1_fillsWords G l x0 x1 x2 h P := by
  intro R1 R2
  refine ct_of (by decide +kernel) (Nat.le_of_ble_eq_true rfl) fun X C e => ?_
  refine v_okz fun O => ?_
  exact wX1_fillsWords_0 C ⟨EX.rf O, R1, R2⟩ (F X C e ⟨EX.rf O, R1, R2⟩)
def kX1_paysRents (G : GT) (l : Launch) (x0 x1 : Int) (h : Mem) (P : Int → Mem → Prop) : Prop := Ct G l yX1_paysRents cX1_paysRents 4 none 3 3 0 0 [rf x0, rf x1] h (PR h P)
set_option maxHeartbeats 4000000 in
theorem wX1_paysRents_0 {G : GT} {X : MX} {h0 h : Mem} {P : Int → Mem → Prop} {x0 x1 : Int} (C : Cx G X cX1_paysRents 4 RX1 3 0 0 none "paysRents") (B0 : EX h0 h)
    (F : (EX h0 h ∧ R32 0 → V G X 4 0 0 (QF G X 3 0 0 (PR h0 P)) 2 [(0, rf x0), (1, rf x1), (2, iv 0)] [] h)) :
    V G X 4 0 0 (QF G X 3 0 0 (PR h0 P)) 0 [(0, rf x0), (1, rf x1)] [] h := by
  have B := B0
  have E : EX h h := EX.rf B.2
  refine v_iconst C dX1_paysRents_0 ?_
  refine v_istore_n C rfl (by decide) dX1_paysRents_1 (lv2 := [(2, iv 0), (0, rf x0), (1, rf x1)]) rfl ?_
  refine v_sub (lv2 := [(0, rf x0), (1, rf x1), (2, iv 0)]) [1, 2, 0] rfl ?_
  exact F ⟨B, ⟨by decide, by decide⟩⟩
set_option maxHeartbeats 4000000 in
theorem wX1_paysRents_L2 {G : GT} {X : MX} {h0 h : Mem} {P : Int → Mem → Prop} {x0 x1 x2 : Int} (C : Cx G X cX1_paysRents 4 RX1 3 0 0 none "paysRents") (B0 : EX h0 h ∧ R32 x2)
    (F : TownS h x0 ∧ ((x2 ≥ h x0 3 → P 0 h) ∧ (x2 < h x0 3 → kX1_whose G X.2.1 x0 x2 h (fun r2 h3 => EX h h3 → ((r2 ≠ (-1) → 0 ≤ r2 ∧ r2 < 4 ∧ 0 ≤ x2 ∧ x2 < 4 ∧ R32 (h3 (x0 + 14) r2 + h3 (x0 + 3) x2) ∧ ∀ h14 : Mem, h14 = up h3 (x0 + 14) r2 (min 999 (h3 (x0 + 14) r2 + h3 (x0 + 3) x2)) → h14 x1 (-1) = 101 ∧ r2 < h14 x1 (-2) ∧ ∀ h19 : Mem, h19 = up h14 x1 r2 (w32 (h14 x1 r2 + h3 (x0 + 3) x2)) → R32 (x2 + 1) ∧ (EX h0 h19 ∧ R32 (x2 + 1) → V G X 4 0 0 (QF G X 3 0 0 (PR h0 P)) 2 [(0, rf x0), (1, rf x1), (2, iv (x2 + 1))] [] h19)) ∧ (r2 = (-1) → R32 (x2 + 1) ∧ (EX h0 h3 ∧ R32 (x2 + 1) → V G X 4 0 0 (QF G X 3 0 0 (PR h0 P)) 2 [(0, rf x0), (1, rf x1), (2, iv (x2 + 1))] [] h3))))))) :
    V G X 4 0 0 (QF G X 3 0 0 (PR h0 P)) 2 [(0, rf x0), (1, rf x1), (2, iv x2)] [] h := by
  obtain ⟨B, R2⟩ := B0
  have E : EX h h := EX.rf B.2
  obtain ⟨S_x0, F⟩ := F
  refine v_iload_n C 2 rfl rfl dX1_paysRents_2 ?_
  refine v_aload_n C 0 rfl rfl dX1_paysRents_3 ?_
  refine gX1_74 C (S_x0.ext E.1).k rfl dX1_paysRents_4 ?_
  refine v_icmp_ge C 67 R2 (EX.rI B (j := 3) (S_x0.ext E.1).k rfl) dX1_paysRents_7 (by decide) (fun c1 => ?_) (fun c1 => ?_)
  · have F := F.1 (c1)
    exact v_vret C (Nat.le_refl _) (Nat.le_refl _) dX1_paysRents_67 ⟨B, F⟩
  · have F := F.2 (c1)
    refine v_aload_n C 0 rfl rfl dX1_paysRents_10 ?_
    refine v_iload_n C 2 rfl rfl dX1_paysRents_11 ?_
    refine mX1_152 C (S_x0.ext E.1).k (d2 := 2) (kc2 := 0) (ks2 := 0) (by decide) (Nat.le_refl _) (Nat.le_refl _) (Nat.le_of_ble_eq_true rfl) dX1_paysRents_12 (Ct.mono (F R2) ?_)
    rintro r2 h3 ⟨e4, g5, F⟩
    have F := F e4
    have B6 := B.tr e4
    have E7 := E.tr e4
    refine v_istore_n C rfl (by decide) dX1_paysRents_15 (lv2 := [(3, iv r2), (0, rf x0), (1, rf x1), (2, iv x2)]) rfl ?_
    refine v_iload_n C 0 rfl rfl dX1_paysRents_16 ?_
    refine v_iconst C dX1_paysRents_17 ?_
    refine v_icmp_ne C 24 g5 ⟨by decide, by decide⟩ dX1_paysRents_18 (by decide) (fun c8 => ?_) (fun c8 => ?_)
    · have F := F.1 (c8)
      refine v_aload_n C 1 rfl rfl dX1_paysRents_24 ?_
      refine gX1_51 C (S_x0.ext E7.1).k (S_x0.ext E7.1).f26 dX1_paysRents_25 ?_
      refine v_iload_n C 0 rfl rfl dX1_paysRents_28 ?_
      refine v_sipush C rfl dX1_paysRents_29 ?_
      refine v_aload_n C 1 rfl rfl dX1_paysRents_32 ?_
      refine gX1_51 C (S_x0.ext E7.1).k (S_x0.ext E7.1).f26 dX1_paysRents_33 ?_
      refine v_iload_n C 0 rfl rfl dX1_paysRents_36 ?_
      obtain ⟨o9, F⟩ := F
      obtain ⟨o10, F⟩ := F
      refine v_iald C (S_x0.ext E7.1).k26 o9 (by rw [(S_x0.ext E7.1).l26]; exact o10) rfl dX1_paysRents_37 ?_
      refine v_aload_n C 1 rfl rfl dX1_paysRents_38 ?_
      refine gX1_18 C (S_x0.ext E7.1).k (S_x0.ext E7.1).f15 dX1_paysRents_39 ?_
      refine v_iload_n C 3 rfl rfl dX1_paysRents_42 ?_
      obtain ⟨o11, F⟩ := F
      obtain ⟨o12, F⟩ := F
      refine v_iald C (S_x0.ext E7.1).k15 o11 (by rw [(S_x0.ext E7.1).l15]; exact o12) rfl dX1_paysRents_43 ?_
      refine v_iadd C dX1_paysRents_44 ?_
      obtain ⟨o13, F⟩ := F
      refine v_mmin C ⟨by decide, by decide⟩ o13 q1026 q641 q142 q642 (by decide) (Nat.le_refl _) (Nat.le_refl _) (Nat.le_of_ble_eq_true rfl) dX1_paysRents_45 ?_
      refine v_iast C (S_x0.ext E7.1).k26 o9 (by rw [(S_x0.ext E7.1).l26]; exact o10) (minR ⟨by decide, by decide⟩ o13) dX1_paysRents_48 ?_
      obtain ⟨h14, eh14⟩ : ∃ m : Mem, m = up h3 (x0 + 14) r2 (min 999 (h3 (x0 + 14) r2 + h3 (x0 + 3) x2)) := ⟨_, rfl⟩
      have B15 : EX h0 h14 := by rw [eh14]; exact EX_up B6 (S_x0.ext E7.1).k26 (by decide) rfl o9 (okI_a (Or.inl rfl) (minR ⟨by decide, by decide⟩ o13))
      have E16 : EX h h14 := by rw [eh14]; exact EX_up E7 (S_x0.ext E7.1).k26 (by decide) rfl o9 (okI_a (Or.inl rfl) (minR ⟨by decide, by decide⟩ o13))
      refine v_mem eh14 ?_
      have F := F h14 eh14
      refine v_aload_n C 2 rfl rfl dX1_paysRents_49 ?_
      refine v_iload_n C 0 rfl rfl dX1_paysRents_50 ?_
      refine v_dup2 C (iv_n1 _) (rf_n1 _) dX1_paysRents_51 ?_
      obtain ⟨o17, F⟩ := F
      obtain ⟨o18, F⟩ := F
      refine v_iald C o17 o9 o18 rfl dX1_paysRents_52 ?_
      refine v_aload_n C 1 rfl rfl dX1_paysRents_53 ?_
      refine gX1_18 C (S_x0.ext E16.1).k (S_x0.ext E16.1).f15 dX1_paysRents_54 ?_
      refine v_iload_n C 3 rfl rfl dX1_paysRents_57 ?_
      refine v_iald C (S_x0.ext E16.1).k15 o11 (by rw [(S_x0.ext E16.1).l15]; exact o12) (show h14 (x0 + 3) x2 = h3 (x0 + 3) x2 by rw [eh14, up_a (by omega)]) dX1_paysRents_58 ?_
      refine v_iadd C dX1_paysRents_59 ?_
      refine v_w32 ?_
      refine v_iast C o17 o9 o18 (w32_R _) dX1_paysRents_60 ?_
      obtain ⟨h19, eh19⟩ : ∃ m : Mem, m = up h14 x1 r2 (w32 (h14 x1 r2 + h3 (x0 + 3) x2)) := ⟨_, rfl⟩
      have B20 : EX h0 h19 := by rw [eh19]; exact EX_up B15 o17 (by decide) rfl o9 (okI_a (Or.inl rfl) (w32_R _))
      have E21 : EX h h19 := by rw [eh19]; exact EX_up E16 o17 (by decide) rfl o9 (okI_a (Or.inl rfl) (w32_R _))
      refine v_mem eh19 ?_
      have F := F h19 eh19
      obtain ⟨o22, F⟩ := F
      refine v_iinc C 3 rfl (by decide) dX1_paysRents_61 (lv2 := [(2, iv (x2 + 1)), (3, iv r2), (0, rf x0), (1, rf x1)]) rfl ?_
      refine v_goto C 2 dX1_paysRents_64 (by decide) ?_
      refine v_sub (lv2 := [(0, rf x0), (1, rf x1), (2, iv (x2 + 1))]) [2, 3, 0] rfl ?_
      exact F ⟨B20, o22⟩
    · have F := F.2 (c8)
      refine v_goto C 61 dX1_paysRents_21 (by decide) ?_
      obtain ⟨o23, F⟩ := F
      refine v_iinc C 3 rfl (by decide) dX1_paysRents_61 (lv2 := [(2, iv (x2 + 1)), (3, iv r2), (0, rf x0), (1, rf x1)]) rfl ?_
      refine v_goto C 2 dX1_paysRents_64 (by decide) ?_
      refine v_sub (lv2 := [(0, rf x0), (1, rf x1), (2, iv (x2 + 1))]) [2, 3, 0] rfl ?_
      exact F ⟨B6, o23⟩
set_option maxHeartbeats 1000000 in
theorem eX1_paysRents {G : GT} {l : Launch} {x0 x1 : Int} {h : Mem} {P : Int → Mem → Prop} (F : ∀ X : MX, Cx G X cX1_paysRents 4 RX1 3 0 0 none "paysRents" → X.2.1 = l → (EX h h) →
    (EX h h ∧ R32 0 → V G X 4 0 0 (QF G X 3 0 0 (PR h P)) 2 [(0, rf x0), (1, rf x1), (2, iv 0)] [] h)) :
    kX1_paysRents G l x0 x1 h P := by
  refine ct_of (by decide +kernel) (Nat.le_of_ble_eq_true rfl) fun X C e => ?_
  refine v_okz fun O => ?_
  exact wX1_paysRents_0 C (EX.rf O) (F X C e (EX.rf O))
def kX1_closes (G : GT) (l : Launch) (x0 x1 : Int) (h : Mem) (P : Int → Mem → Prop) : Prop := Ct G l yX1_closes cX1_closes 2 none 3 4 0 0 [rf x0, rf x1] h (PR h P)
set_option maxHeartbeats 4000000 in
theorem wX1_closes_0 {G : GT} {X : MX} {h0 h : Mem} {P : Int → Mem → Prop} {x0 x1 : Int} (C : Cx G X cX1_closes 2 RX1 4 0 0 none "closes") (B0 : EX h0 h)
    (F : TownS h x0 ∧ kX1_isRain G X.2.1 x0 (h x0 11) h (fun r1 h2 => EX h h2 → ((r1 = 0 → R32 (h2 x0 11 + 1) ∧ ∀ h9 : Mem, h9 = up h2 x0 11 (h2 x0 11 + 1) → (((h2 x0 11 + 1).tmod 24 ≠ 12 → P 0 h9) ∧ ((h2 x0 11 + 1).tmod 24 = 12 → kX1_paysRents G X.2.1 x0 x1 h9 (fun _ h14 => EX h9 h14 → P 0 h14)))) ∧ (r1 ≠ 0 → kX1_washes G X.2.1 x0 h2 (fun _ h20 => EX h2 h20 → R32 (h20 x0 11 + 1) ∧ ∀ h26 : Mem, h26 = up h20 x0 11 (h20 x0 11 + 1) → (((h20 x0 11 + 1).tmod 24 ≠ 12 → P 0 h26) ∧ ((h20 x0 11 + 1).tmod 24 = 12 → kX1_paysRents G X.2.1 x0 x1 h26 (fun _ h31 => EX h26 h31 → P 0 h31)))))))) :
    V G X 2 0 0 (QF G X 3 0 0 (PR h0 P)) 0 [(0, rf x0), (1, rf x1)] [] h := by
  have B := B0
  have E : EX h h := EX.rf B.2
  obtain ⟨S_x0, F⟩ := F
  refine v_aload_n C 0 rfl rfl dX1_closes_0 ?_
  refine v_aload_n C 0 rfl rfl dX1_closes_1 ?_
  refine gX1_108 C (S_x0.ext E.1).k rfl dX1_closes_2 ?_
  refine mX1_155 C (S_x0.ext E.1).k (d2 := 0) (kc2 := 0) (ks2 := 0) (by decide) (Nat.le_refl _) (Nat.le_refl _) (Nat.le_of_ble_eq_true rfl) dX1_closes_5 (Ct.mono (F (EX.rI B (j := 11) (S_x0.ext E.1).k rfl)) ?_)
  rintro r1 h2 ⟨e3, g4, F⟩
  have F := F e3
  have B5 := B.tr e3
  have E6 := E.tr e3
  refine v_if_eq C 15 (bR g4) dX1_closes_8 (by decide) (fun c7 => ?_) (fun c7 => ?_)
  · have F := F.1 (c7)
    refine v_aload_n C 0 rfl rfl dX1_closes_15 ?_
    refine v_dup C (rf_n1 _) dX1_closes_16 ?_
    refine gX1_108 C (S_x0.ext E6.1).k rfl dX1_closes_17 ?_
    refine v_iconst C dX1_closes_20 ?_
    refine v_iadd C dX1_closes_21 ?_
    obtain ⟨o8, F⟩ := F
    refine pX1_108 C (S_x0.ext E6.1).k (okI_i rfl o8) dX1_closes_22 ?_
    obtain ⟨h9, eh9⟩ : ∃ m : Mem, m = up h2 x0 11 (h2 x0 11 + 1) := ⟨_, rfl⟩
    have B10 : EX h0 h9 := by rw [eh9]; exact EX_up B5 (S_x0.ext E6.1).k (by decide) rfl (by decide) (okI_i rfl o8)
    have E11 : EX h h9 := by rw [eh9]; exact EX_up E6 (S_x0.ext E6.1).k (by decide) rfl (by decide) (okI_i rfl o8)
    refine v_mem eh9 ?_
    have F := F h9 eh9
    refine v_aload_n C 0 rfl rfl dX1_closes_25 ?_
    refine gX1_108 C (S_x0.ext E11.1).k (show h9 x0 11 = (h2 x0 11 + 1) by rw [eh9, up_s]) dX1_closes_26 ?_
    refine v_bipush C rfl dX1_closes_29 ?_
    refine v_irem C o8 ⟨by decide, by decide⟩ (by decide) dX1_closes_31 ?_
    refine v_bipush C rfl dX1_closes_32 ?_
    refine v_icmp_ne C 42 (tmodR32 ⟨by decide, by decide⟩ (by decide)) ⟨by decide, by decide⟩ dX1_closes_34 (by decide) (fun c12 => ?_) (fun c12 => ?_)
    · have F := F.1 (c12)
      exact v_vret C (Nat.le_refl _) (Nat.le_refl _) dX1_closes_42 ⟨B10, F⟩
    · have F := F.2 (c12)
      refine v_aload_n C 0 rfl rfl dX1_closes_37 ?_
      refine v_aload_n C 1 rfl rfl dX1_closes_38 ?_
      refine mX1_179 C (S_x0.ext E11.1).k (d2 := 3) (kc2 := 0) (ks2 := 0) (by decide) (Nat.le_refl _) (Nat.le_refl _) (Nat.le_of_ble_eq_true rfl) dX1_closes_39 (Ct.mono (F) ?_)
      rintro r13 h14 ⟨e15, F⟩
      have F := F e15
      have B17 := B10.tr e15
      have E18 := E11.tr e15
      exact v_vret C (Nat.le_refl _) (Nat.le_refl _) dX1_closes_42 ⟨B17, F⟩
  · have F := F.2 (c7)
    refine v_aload_n C 0 rfl rfl dX1_closes_11 ?_
    refine mX1_176 C (S_x0.ext E6.1).k (d2 := 1) (kc2 := 0) (ks2 := 0) (by decide) (Nat.le_refl _) (Nat.le_refl _) (Nat.le_of_ble_eq_true rfl) dX1_closes_12 (Ct.mono (F) ?_)
    rintro r19 h20 ⟨e21, F⟩
    have F := F e21
    have B23 := B5.tr e21
    have E24 := E6.tr e21
    refine v_aload_n C 0 rfl rfl dX1_closes_15 ?_
    refine v_dup C (rf_n1 _) dX1_closes_16 ?_
    refine gX1_108 C (S_x0.ext E24.1).k rfl dX1_closes_17 ?_
    refine v_iconst C dX1_closes_20 ?_
    refine v_iadd C dX1_closes_21 ?_
    obtain ⟨o25, F⟩ := F
    refine pX1_108 C (S_x0.ext E24.1).k (okI_i rfl o25) dX1_closes_22 ?_
    obtain ⟨h26, eh26⟩ : ∃ m : Mem, m = up h20 x0 11 (h20 x0 11 + 1) := ⟨_, rfl⟩
    have B27 : EX h0 h26 := by rw [eh26]; exact EX_up B23 (S_x0.ext E24.1).k (by decide) rfl (by decide) (okI_i rfl o25)
    have E28 : EX h h26 := by rw [eh26]; exact EX_up E24 (S_x0.ext E24.1).k (by decide) rfl (by decide) (okI_i rfl o25)
    refine v_mem eh26 ?_
    have F := F h26 eh26
    refine v_aload_n C 0 rfl rfl dX1_closes_25 ?_
    refine gX1_108 C (S_x0.ext E28.1).k (show h26 x0 11 = (h20 x0 11 + 1) by rw [eh26, up_s]) dX1_closes_26 ?_
    refine v_bipush C rfl dX1_closes_29 ?_
    refine v_irem C o25 ⟨by decide, by decide⟩ (by decide) dX1_closes_31 ?_
    refine v_bipush C rfl dX1_closes_32 ?_
    refine v_icmp_ne C 42 (tmodR32 ⟨by decide, by decide⟩ (by decide)) ⟨by decide, by decide⟩ dX1_closes_34 (by decide) (fun c29 => ?_) (fun c29 => ?_)
    · have F := F.1 (c29)
      exact v_vret C (Nat.le_refl _) (Nat.le_refl _) dX1_closes_42 ⟨B27, F⟩
    · have F := F.2 (c29)
      refine v_aload_n C 0 rfl rfl dX1_closes_37 ?_
      refine v_aload_n C 1 rfl rfl dX1_closes_38 ?_
      refine mX1_179 C (S_x0.ext E28.1).k (d2 := 3) (kc2 := 0) (ks2 := 0) (by decide) (Nat.le_refl _) (Nat.le_refl _) (Nat.le_of_ble_eq_true rfl) dX1_closes_39 (Ct.mono (F) ?_)
      rintro r30 h31 ⟨e32, F⟩
      have F := F e32
      have B34 := B27.tr e32
      have E35 := E28.tr e32
      exact v_vret C (Nat.le_refl _) (Nat.le_refl _) dX1_closes_42 ⟨B34, F⟩
set_option maxHeartbeats 1000000 in
theorem eX1_closes {G : GT} {l : Launch} {x0 x1 : Int} {h : Mem} {P : Int → Mem → Prop} (F : ∀ X : MX, Cx G X cX1_closes 2 RX1 4 0 0 none "closes" → X.2.1 = l → (EX h h) →
    TownS h x0 ∧ kX1_isRain G X.2.1 x0 (h x0 11) h (fun r1 h2 => EX h h2 → ((r1 = 0 → R32 (h2 x0 11 + 1) ∧ ∀ h9 : Mem, h9 = up h2 x0 11 (h2 x0 11 + 1) → (((h2 x0 11 + 1).tmod 24 ≠ 12 → P 0 h9) ∧ ((h2 x0 11 + 1).tmod 24 = 12 → kX1_paysRents G X.2.1 x0 x1 h9 (fun _ h14 => EX h9 h14 → P 0 h14)))) ∧ (r1 ≠ 0 → kX1_washes G X.2.1 x0 h2 (fun _ h20 => EX h2 h20 → R32 (h20 x0 11 + 1) ∧ ∀ h26 : Mem, h26 = up h20 x0 11 (h20 x0 11 + 1) → (((h20 x0 11 + 1).tmod 24 ≠ 12 → P 0 h26) ∧ ((h20 x0 11 + 1).tmod 24 = 12 → kX1_paysRents G X.2.1 x0 x1 h26 (fun _ h31 => EX h26 h31 → P 0 h31)))))))) :
    kX1_closes G l x0 x1 h P := by
  refine ct_of (by decide +kernel) (Nat.le_of_ble_eq_true rfl) fun X C e => ?_
  refine v_okz fun O => ?_
  exact wX1_closes_0 C (EX.rf O) (F X C e (EX.rf O))
def kX1_cellBy (G : GT) (l : Launch) (x0 x1 x2 : Int) (h : Mem) (P : Int → Mem → Prop) : Prop := R32 x1 → Ct G l yX1_cellBy cX1_cellBy 9 (some .int) 0 403 0 0 [rf x0, iv x1, rf x2] h (PI h P)
set_option maxHeartbeats 4000000 in
theorem wX1_cellBy_0 {G : GT} {X : MX} {h0 h : Mem} {P : Int → Mem → Prop} {x0 x1 x2 : Int} (C : Cx G X cX1_cellBy 9 RX1 403 0 0 (some .int) "cellBy") (B0 : EX h0 h ∧ R32 x1)
    (F : (EX h0 h ∧ R32 x1 ∧ R32 (-1) ∧ R64 0 ∧ R32 0 → V G X 9 0 0 (QF G X 0 0 0 (PI h0 P)) 8 [(0, rf x0), (1, iv x1), (2, rf x2), (3, iv (-1)), (4, jv 0), (6, iv 0)] [] h)) :
    V G X 9 0 0 (QF G X 0 0 0 (PI h0 P)) 0 [(0, rf x0), (1, iv x1), (2, rf x2)] [] h := by
  obtain ⟨B, R1⟩ := B0
  have E : EX h h := EX.rf B.2
  refine v_iconst C dX1_cellBy_0 ?_
  refine v_istore_n C rfl (by decide) dX1_cellBy_1 (lv2 := [(3, iv (-1)), (0, rf x0), (1, iv x1), (2, rf x2)]) rfl ?_
  refine v_lconst C (x := 0) rfl dX1_cellBy_2 ?_
  refine v_lstore C (by decide) dX1_cellBy_3 (lv2 := [(4, jv 0), (3, iv (-1)), (0, rf x0), (1, iv x1), (2, rf x2)]) rfl ?_
  refine v_iconst C dX1_cellBy_5 ?_
  refine v_istore C (by decide) dX1_cellBy_6 (lv2 := [(6, iv 0), (4, jv 0), (3, iv (-1)), (0, rf x0), (1, iv x1), (2, rf x2)]) rfl ?_
  refine v_sub (lv2 := [(0, rf x0), (1, iv x1), (2, rf x2), (3, iv (-1)), (4, jv 0), (6, iv 0)]) [3, 4, 5, 2, 1, 0] rfl ?_
  exact F ⟨B, R1, ⟨by decide, by decide⟩, ⟨by decide, by decide⟩, ⟨by decide, by decide⟩⟩
set_option maxHeartbeats 4000000 in
theorem wX1_cellBy_L8 {G : GT} {X : MX} {h0 h : Mem} {P : Int → Mem → Prop} {x0 x1 x2 x3 x4 x6 : Int} (C : Cx G X cX1_cellBy 9 RX1 403 0 0 (some .int) "cellBy") (B0 : EX h0 h ∧ R32 x1 ∧ R32 x3 ∧ R64 x4 ∧ R32 x6)
    (F : TownS h x0 ∧ RuleS h x2 ∧ ((x6 ≥ h x0 4 → P x3 h) ∧ (x6 < h x0 4 → kX1_canPaint G X.2.1 x0 x6 x1 h (fun r2 h3 => EX h h3 → ((r2 ≠ 0 → kX1_fillsWords G X.2.1 x0 x1 x6 h3 (fun _ h10 => EX h3 h10 → kX5_summed G X.2.1 x2 (x0 + 16) h10 (fun r15 h16 => EX h10 h16 → ((r15 > x4 → R32 (x6 + 1) ∧ (EX h0 h16 ∧ R32 x1 ∧ R32 x6 ∧ R64 r15 ∧ R32 (x6 + 1) → V G X 9 0 0 (QF G X 0 0 0 (PI h0 P)) 8 [(0, rf x0), (1, iv x1), (2, rf x2), (3, iv x6), (4, jv r15), (6, iv (x6 + 1))] [] h16)) ∧ (r15 ≤ x4 → R32 (x6 + 1) ∧ (EX h0 h16 ∧ R32 x1 ∧ R32 x3 ∧ R64 x4 ∧ R32 (x6 + 1) → V G X 9 0 0 (QF G X 0 0 0 (PI h0 P)) 8 [(0, rf x0), (1, iv x1), (2, rf x2), (3, iv x3), (4, jv x4), (6, iv (x6 + 1))] [] h16)))))) ∧ (r2 = 0 → R32 (x6 + 1) ∧ (EX h0 h3 ∧ R32 x1 ∧ R32 x3 ∧ R64 x4 ∧ R32 (x6 + 1) → V G X 9 0 0 (QF G X 0 0 0 (PI h0 P)) 8 [(0, rf x0), (1, iv x1), (2, rf x2), (3, iv x3), (4, jv x4), (6, iv (x6 + 1))] [] h3))))))) :
    V G X 9 0 0 (QF G X 0 0 0 (PI h0 P)) 8 [(0, rf x0), (1, iv x1), (2, rf x2), (3, iv x3), (4, jv x4), (6, iv x6)] [] h := by
  obtain ⟨B, R1, R3, R4, R6⟩ := B0
  have E : EX h h := EX.rf B.2
  obtain ⟨S_x0, F⟩ := F
  obtain ⟨S_x2, F⟩ := F
  refine v_iload C 5 rfl dX1_cellBy_8 ?_
  refine v_aload_n C 0 rfl rfl dX1_cellBy_10 ?_
  refine gX1_77 C (S_x0.ext E.1).k rfl dX1_cellBy_11 ?_
  refine v_icmp_ge C 71 R6 (EX.rI B (j := 4) (S_x0.ext E.1).k rfl) dX1_cellBy_14 (by decide) (fun c1 => ?_) (fun c1 => ?_)
  · have F := F.1 (c1)
    refine v_iload_n C 3 rfl rfl dX1_cellBy_71 ?_
    exact v_iret C (Nat.le_refl _) (Nat.le_refl _) dX1_cellBy_72 ⟨B, R3, F⟩
  · have F := F.2 (c1)
    refine v_aload_n C 0 rfl rfl dX1_cellBy_17 ?_
    refine v_iload C 5 rfl dX1_cellBy_18 ?_
    refine v_iload_n C 1 rfl rfl dX1_cellBy_20 ?_
    refine mX1_158 C (S_x0.ext E.1).k (d2 := 2) (kc2 := 0) (ks2 := 0) (by decide) (Nat.le_refl _) (Nat.le_refl _) (Nat.le_of_ble_eq_true rfl) dX1_cellBy_21 (Ct.mono (F R6 R1) ?_)
    rintro r2 h3 ⟨e4, g5, F⟩
    have F := F e4
    have B6 := B.tr e4
    have E7 := E.tr e4
    refine v_if_ne C 30 (bR g5) dX1_cellBy_24 (by decide) (fun c8 => ?_) (fun c8 => ?_)
    · have F := F.1 (c8)
      refine v_aload_n C 0 rfl rfl dX1_cellBy_30 ?_
      refine v_iload_n C 1 rfl rfl dX1_cellBy_31 ?_
      refine v_iload C 5 rfl dX1_cellBy_32 ?_
      refine mX1_161 C (S_x0.ext E7.1).k (d2 := 3) (kc2 := 0) (ks2 := 0) (by decide) (Nat.le_refl _) (Nat.le_refl _) (Nat.le_of_ble_eq_true rfl) dX1_cellBy_34 (Ct.mono (F R1 R6) ?_)
      rintro r9 h10 ⟨e11, F⟩
      have F := F e11
      have B13 := B6.tr e11
      have E14 := E7.tr e11
      refine v_aload_n C 2 rfl rfl dX1_cellBy_37 ?_
      refine v_aload_n C 0 rfl rfl dX1_cellBy_38 ?_
      refine gX1_57 C (S_x0.ext E14.1).k (S_x0.ext E14.1).f28 dX1_cellBy_39 ?_
      refine mX1_165 C (S_x2.ext E14.1).k (d2 := 402) (kc2 := 0) (ks2 := 0) (by decide) (Nat.le_refl _) (Nat.le_refl _) (Nat.le_of_ble_eq_true rfl) dX1_cellBy_42 (Ct.mono (F) ?_)
      rintro r15 h16 ⟨e17, g18, F⟩
      have F := F e17
      have B19 := B13.tr e17
      have E20 := E14.tr e17
      refine v_lstore C (by decide) dX1_cellBy_45 (lv2 := [(7, jv r15), (0, rf x0), (1, iv x1), (2, rf x2), (3, iv x3), (4, jv x4), (6, iv x6)]) rfl ?_
      refine v_lload C 0 rfl dX1_cellBy_47 ?_
      refine v_lload C 5 rfl dX1_cellBy_49 ?_
      refine v_lcmp C g18 R4 dX1_cellBy_51 ?_
      refine v_if_gt C 58 (lcR _ _) dX1_cellBy_52 (by decide) (fun c21 => ?_) (fun c21 => ?_)
      · have F := F.1 (lc_gt.mp c21)
        refine v_iload C 6 rfl dX1_cellBy_58 ?_
        refine v_istore_n C rfl (by decide) dX1_cellBy_60 (lv2 := [(3, iv x6), (7, jv r15), (0, rf x0), (1, iv x1), (2, rf x2), (4, jv x4), (6, iv x6)]) rfl ?_
        refine v_lload C 1 rfl dX1_cellBy_61 ?_
        refine v_lstore C (by decide) dX1_cellBy_63 (lv2 := [(4, jv r15), (3, iv x6), (7, jv r15), (0, rf x0), (1, iv x1), (2, rf x2), (6, iv x6)]) rfl ?_
        obtain ⟨o22, F⟩ := F
        refine v_iinc C 6 rfl (by decide) dX1_cellBy_65 (lv2 := [(6, iv (x6 + 1)), (4, jv r15), (3, iv x6), (7, jv r15), (0, rf x0), (1, iv x1), (2, rf x2)]) rfl ?_
        refine v_goto C 8 dX1_cellBy_68 (by decide) ?_
        refine v_sub (lv2 := [(0, rf x0), (1, iv x1), (2, rf x2), (3, iv x6), (4, jv r15), (6, iv (x6 + 1))]) [4, 5, 6, 2, 1, 0] rfl ?_
        exact F ⟨B19, R1, R6, g18, o22⟩
      · have F := F.2 (lc_le.mp c21)
        refine v_goto C 65 dX1_cellBy_55 (by decide) ?_
        obtain ⟨o23, F⟩ := F
        refine v_iinc C 6 rfl (by decide) dX1_cellBy_65 (lv2 := [(6, iv (x6 + 1)), (7, jv r15), (0, rf x0), (1, iv x1), (2, rf x2), (3, iv x3), (4, jv x4)]) rfl ?_
        refine v_goto C 8 dX1_cellBy_68 (by decide) ?_
        refine v_sub (lv2 := [(0, rf x0), (1, iv x1), (2, rf x2), (3, iv x3), (4, jv x4), (6, iv (x6 + 1))]) [2, 3, 4, 5, 6, 0] rfl ?_
        exact F ⟨B19, R1, R3, R4, o23⟩
    · have F := F.2 (c8)
      refine v_goto C 65 dX1_cellBy_27 (by decide) ?_
      obtain ⟨o24, F⟩ := F
      refine v_iinc C 5 rfl (by decide) dX1_cellBy_65 (lv2 := [(6, iv (x6 + 1)), (0, rf x0), (1, iv x1), (2, rf x2), (3, iv x3), (4, jv x4)]) rfl ?_
      refine v_goto C 8 dX1_cellBy_68 (by decide) ?_
      refine v_sub (lv2 := [(0, rf x0), (1, iv x1), (2, rf x2), (3, iv x3), (4, jv x4), (6, iv (x6 + 1))]) [1, 2, 3, 4, 5, 0] rfl ?_
      exact F ⟨B6, R1, R3, R4, o24⟩
set_option maxHeartbeats 1000000 in
theorem eX1_cellBy {G : GT} {l : Launch} {x0 x1 x2 : Int} {h : Mem} {P : Int → Mem → Prop} (F : ∀ X : MX, Cx G X cX1_cellBy 9 RX1 403 0 0 (some .int) "cellBy" → X.2.1 = l → (EX h h ∧ R32 x1) →
    (EX h h ∧ R32 x1 ∧ R32 (-1) ∧ R64 0 ∧ R32 0 → V G X 9 0 0 (QF G X 0 0 0 (PI h P)) 8 [(0, rf x0), (1, iv x1), (2, rf x2), (3, iv (-1)), (4, jv 0), (6, iv 0)] [] h)) :
    kX1_cellBy G l x0 x1 x2 h P := by
  intro R1
  refine ct_of (by decide +kernel) (Nat.le_of_ble_eq_true rfl) fun X C e => ?_
  refine v_okz fun O => ?_
  exact wX1_cellBy_0 C ⟨EX.rf O, R1⟩ (F X C e ⟨EX.rf O, R1⟩)
def kX1_passes (G : GT) (l : Launch) (x0 x1 x2 : Int) (h : Mem) (P : Int → Mem → Prop) : Prop := Ct G l yX1_passes cX1_passes 6 (some .int) 0 404 0 0 [rf x0, rf x1, rf x2] h (PI h P)
set_option maxHeartbeats 4000000 in
theorem wX1_passes_0 {G : GT} {X : MX} {h0 h : Mem} {P : Int → Mem → Prop} {x0 x1 x2 : Int} (C : Cx G X cX1_passes 6 RX1 404 0 0 (some .int) "passes") (B0 : EX h0 h)
    (F : (EX h0 h ∧ R32 0 ∧ R32 0 → V G X 6 0 0 (QF G X 0 0 0 (PI h0 P)) 5 [(0, rf x0), (1, rf x1), (2, rf x2), (3, iv 0), (4, iv 0)] [] h)) :
    V G X 6 0 0 (QF G X 0 0 0 (PI h0 P)) 0 [(0, rf x0), (1, rf x1), (2, rf x2)] [] h := by
  have B := B0
  have E : EX h h := EX.rf B.2
  refine v_iconst C dX1_passes_0 ?_
  refine v_istore_n C rfl (by decide) dX1_passes_1 (lv2 := [(3, iv 0), (0, rf x0), (1, rf x1), (2, rf x2)]) rfl ?_
  refine v_iconst C dX1_passes_2 ?_
  refine v_istore C (by decide) dX1_passes_3 (lv2 := [(4, iv 0), (3, iv 0), (0, rf x0), (1, rf x1), (2, rf x2)]) rfl ?_
  refine v_sub (lv2 := [(0, rf x0), (1, rf x1), (2, rf x2), (3, iv 0), (4, iv 0)]) [2, 3, 4, 1, 0] rfl ?_
  exact F ⟨B, ⟨by decide, by decide⟩, ⟨by decide, by decide⟩⟩
set_option maxHeartbeats 4000000 in
theorem wX1_passes_L5 {G : GT} {X : MX} {h0 h : Mem} {P : Int → Mem → Prop} {x0 x1 x2 x3 x4 : Int} (C : Cx G X cX1_passes 6 RX1 404 0 0 (some .int) "passes") (B0 : EX h0 h ∧ R32 x3 ∧ R32 x4)
    (F : TownS h x0 ∧ ((x4 ≥ h x0 5 → kX1_closes G X.2.1 x0 x2 h (fun _ h3 => EX h h3 → P x3 h3)) ∧ (x4 < h x0 5 → ((x1 = 0 → kX1_closes G X.2.1 x0 x2 h (fun _ h10 => EX h h10 → P x3 h10)) ∧ (x1 ≠ 0 → kX1_cellBy G X.2.1 x0 x4 x1 h (fun r15 h16 => EX h h16 → ((r15 ≠ (-1) → kX1_paints G X.2.1 x0 r15 x4 h16 (fun _ h23 => EX h16 h23 → R32 (x3 + 1) ∧ R32 (x4 + 1) ∧ (EX h0 h23 ∧ R32 (x3 + 1) ∧ R32 (x4 + 1) → V G X 6 0 0 (QF G X 0 0 0 (PI h0 P)) 5 [(0, rf x0), (1, rf x1), (2, rf x2), (3, iv (x3 + 1)), (4, iv (x4 + 1))] [] h23))) ∧ (r15 = (-1) → R32 (x4 + 1) ∧ (EX h0 h16 ∧ R32 x3 ∧ R32 (x4 + 1) → V G X 6 0 0 (QF G X 0 0 0 (PI h0 P)) 5 [(0, rf x0), (1, rf x1), (2, rf x2), (3, iv x3), (4, iv (x4 + 1))] [] h16))))))))) :
    V G X 6 0 0 (QF G X 0 0 0 (PI h0 P)) 5 [(0, rf x0), (1, rf x1), (2, rf x2), (3, iv x3), (4, iv x4)] [] h := by
  obtain ⟨B, R3, R4⟩ := B0
  have E : EX h h := EX.rf B.2
  obtain ⟨S_x0, F⟩ := F
  refine v_iload C 4 rfl dX1_passes_5 ?_
  refine v_aload_n C 0 rfl rfl dX1_passes_7 ?_
  refine gX1_80 C (S_x0.ext E.1).k rfl dX1_passes_8 ?_
  refine v_icmp_ge C 53 R4 (EX.rI B (j := 5) (S_x0.ext E.1).k rfl) dX1_passes_11 (by decide) (fun c1 => ?_) (fun c1 => ?_)
  · have F := F.1 (c1)
    refine v_aload_n C 0 rfl rfl dX1_passes_53 ?_
    refine v_aload_n C 2 rfl rfl dX1_passes_54 ?_
    refine mX1_190 C (S_x0.ext E.1).k (d2 := 4) (kc2 := 0) (ks2 := 0) (by decide) (Nat.le_refl _) (Nat.le_refl _) (Nat.le_of_ble_eq_true rfl) dX1_passes_55 (Ct.mono (F) ?_)
    rintro r2 h3 ⟨e4, F⟩
    have F := F e4
    have B6 := B.tr e4
    have E7 := E.tr e4
    refine v_iload_n C 3 rfl rfl dX1_passes_58 ?_
    exact v_iret C (Nat.le_refl _) (Nat.le_refl _) dX1_passes_59 ⟨B6, R3, F⟩
  · have F := F.2 (c1)
    refine v_aload_n C 1 rfl rfl dX1_passes_14 ?_
    refine v_ifnull C 53 dX1_passes_15 (by decide) (fun c8 => ?_) (fun c8 => ?_)
    · have F := F.1 c8
      refine v_aload_n C 0 rfl rfl dX1_passes_53 ?_
      refine v_aload_n C 2 rfl rfl dX1_passes_54 ?_
      refine mX1_190 C (S_x0.ext E.1).k (d2 := 4) (kc2 := 0) (ks2 := 0) (by decide) (Nat.le_refl _) (Nat.le_refl _) (Nat.le_of_ble_eq_true rfl) dX1_passes_55 (Ct.mono (F) ?_)
      rintro r9 h10 ⟨e11, F⟩
      have F := F e11
      have B13 := B.tr e11
      have E14 := E.tr e11
      refine v_iload_n C 3 rfl rfl dX1_passes_58 ?_
      exact v_iret C (Nat.le_refl _) (Nat.le_refl _) dX1_passes_59 ⟨B13, R3, F⟩
    · have F := F.2 c8
      refine v_aload_n C 0 rfl rfl dX1_passes_18 ?_
      refine v_iload C 4 rfl dX1_passes_19 ?_
      refine v_aload_n C 1 rfl rfl dX1_passes_21 ?_
      refine mX1_183 C (S_x0.ext E.1).k (d2 := 403) (kc2 := 0) (ks2 := 0) (by decide) (Nat.le_refl _) (Nat.le_refl _) (Nat.le_of_ble_eq_true rfl) dX1_passes_22 (Ct.mono (F R4) ?_)
      rintro r15 h16 ⟨e17, g18, F⟩
      have F := F e17
      have B19 := B.tr e17
      have E20 := E.tr e17
      refine v_istore C (by decide) dX1_passes_25 (lv2 := [(5, iv r15), (0, rf x0), (1, rf x1), (2, rf x2), (3, iv x3), (4, iv x4)]) rfl ?_
      refine v_iload C 0 rfl dX1_passes_27 ?_
      refine v_iconst C dX1_passes_29 ?_
      refine v_icmp_ne C 36 g18 ⟨by decide, by decide⟩ dX1_passes_30 (by decide) (fun c21 => ?_) (fun c21 => ?_)
      · have F := F.1 (c21)
        refine v_aload_n C 1 rfl rfl dX1_passes_36 ?_
        refine v_iload C 0 rfl dX1_passes_37 ?_
        refine v_iload C 5 rfl dX1_passes_39 ?_
        refine mX1_187 C (S_x0.ext E20.1).k (d2 := 1) (kc2 := 0) (ks2 := 0) (by decide) (Nat.le_refl _) (Nat.le_refl _) (Nat.le_of_ble_eq_true rfl) dX1_passes_41 (Ct.mono (F g18 R4) ?_)
        rintro r22 h23 ⟨e24, F⟩
        have F := F e24
        have B26 := B19.tr e24
        have E27 := E20.tr e24
        obtain ⟨o28, F⟩ := F
        refine v_iinc C 4 rfl (by decide) dX1_passes_44 (lv2 := [(3, iv (x3 + 1)), (5, iv r15), (0, rf x0), (1, rf x1), (2, rf x2), (4, iv x4)]) rfl ?_
        obtain ⟨o29, F⟩ := F
        refine v_iinc C 5 rfl (by decide) dX1_passes_47 (lv2 := [(4, iv (x4 + 1)), (3, iv (x3 + 1)), (5, iv r15), (0, rf x0), (1, rf x1), (2, rf x2)]) rfl ?_
        refine v_goto C 5 dX1_passes_50 (by decide) ?_
        refine v_sub (lv2 := [(0, rf x0), (1, rf x1), (2, rf x2), (3, iv (x3 + 1)), (4, iv (x4 + 1))]) [3, 4, 5, 1, 0] rfl ?_
        exact F ⟨B26, o28, o29⟩
      · have F := F.2 (c21)
        refine v_goto C 47 dX1_passes_33 (by decide) ?_
        obtain ⟨o30, F⟩ := F
        refine v_iinc C 5 rfl (by decide) dX1_passes_47 (lv2 := [(4, iv (x4 + 1)), (5, iv r15), (0, rf x0), (1, rf x1), (2, rf x2), (3, iv x3)]) rfl ?_
        refine v_goto C 5 dX1_passes_50 (by decide) ?_
        refine v_sub (lv2 := [(0, rf x0), (1, rf x1), (2, rf x2), (3, iv x3), (4, iv (x4 + 1))]) [2, 3, 4, 5, 0] rfl ?_
        exact F ⟨B19, R3, o30⟩
set_option maxHeartbeats 1000000 in
theorem eX1_passes {G : GT} {l : Launch} {x0 x1 x2 : Int} {h : Mem} {P : Int → Mem → Prop} (F : ∀ X : MX, Cx G X cX1_passes 6 RX1 404 0 0 (some .int) "passes" → X.2.1 = l → (EX h h) →
    (EX h h ∧ R32 0 ∧ R32 0 → V G X 6 0 0 (QF G X 0 0 0 (PI h P)) 5 [(0, rf x0), (1, rf x1), (2, rf x2), (3, iv 0), (4, iv 0)] [] h)) :
    kX1_passes G l x0 x1 x2 h P := by
  refine ct_of (by decide +kernel) (Nat.le_of_ble_eq_true rfl) fun X C e => ?_
  refine v_okz fun O => ?_
  exact wX1_passes_0 C (EX.rf O) (F X C e (EX.rf O))
