/-! formulas of LatestCoat -/
set_option maxRecDepth 100000
def kX0_draw (G : GT) (l : Launch) (x1 : Int) (h : Mem) (P : Int → Mem → Prop) : Prop := R32 x1 → Ct G l yX0_draw cX0_draw 2 (some .int) 0 0 0 0 [rf 1, iv x1] h (PI h P)
set_option maxHeartbeats 4000000 in
theorem wX0_draw_0 {G : GT} {X : MX} {h0 h : Mem} {P : Int → Mem → Prop} {x1 : Int} (C : Cx G X cX0_draw 2 RX0 0 0 0 (some .int) "draw") (B0 : EX h0 h ∧ R32 x1)
    (F : XS h ∧ R32 (w64 ((w64 (w64 (h 1 23 * 1103515245) + 12345)).tmod 2147483648)) ∧ ∀ h2 : Mem, h2 = up h 1 23 (w64 ((w64 (w64 (h 1 23 * 1103515245) + 12345)).tmod 2147483648)) → 0 < x1 ∧ P (((w64 ((w64 (w64 (h 1 23 * 1103515245) + 12345)).tmod 2147483648)).tdiv 65536).tmod x1) h2) :
    V G X 2 0 0 (QF G X 0 0 0 (PI h0 P)) 0 [(0, rf 1), (1, iv x1)] [] h := by
  obtain ⟨B, R1⟩ := B0
  have E : EX h h := EX.rf B.2
  obtain ⟨SX, F⟩ := F
  refine v_aload_n C 0 rfl rfl dX0_draw_0 ?_
  refine v_aload_n C 0 rfl rfl dX0_draw_1 ?_
  refine gX0_376 C (SX.ext E.1).k1 rfl dX0_draw_2 ?_
  refine v_i2l C (EX.rI B (j := 23) (SX.ext E.1).k1 rfl) dX0_draw_5 ?_
  refine v_ldc2 C (x := 1103515245) q1177 dX0_draw_6 ?_
  refine v_lmul C dX0_draw_9 ?_
  refine v_ldc2 C (x := 12345) q1178 dX0_draw_10 ?_
  refine v_ladd C dX0_draw_13 ?_
  refine v_ldc2 C (x := 2147483648) q1179 dX0_draw_14 ?_
  refine v_lrem C (w64_R _) ⟨by decide, by decide⟩ (by decide) dX0_draw_17 ?_
  refine v_l2i C (w64_R _) dX0_draw_18 ?_
  obtain ⟨o1, F⟩ := F
  refine pX0_376 C (SX.ext E.1).k1 (okI_i rfl o1) dX0_draw_19 ?_
  obtain ⟨h2, eh2⟩ : ∃ m : Mem, m = up h 1 23 (w64 ((w64 (w64 (h 1 23 * 1103515245) + 12345)).tmod 2147483648)) := ⟨_, rfl⟩
  have B3 : EX h0 h2 := by rw [eh2]; exact EX_up B (SX.ext E.1).k1 (by decide) rfl (by decide) (okI_i rfl o1)
  have E4 : EX h h2 := by rw [eh2]; exact EX_up E (SX.ext E.1).k1 (by decide) rfl (by decide) (okI_i rfl o1)
  refine v_mem eh2 ?_
  have F := F h2 eh2
  refine v_aload_n C 0 rfl rfl dX0_draw_22 ?_
  refine gX0_376 C (SX.ext E4.1).k1 (show h2 1 23 = (w64 ((w64 (w64 (h 1 23 * 1103515245) + 12345)).tmod 2147483648)) by rw [eh2, up_s]) dX0_draw_23 ?_
  refine v_ldcw C (x := 65536) q1180 dX0_draw_26 ?_
  refine v_idiv C o1 ⟨by decide, by decide⟩ (by decide) dX0_draw_29 ?_
  refine v_iload_n C 1 rfl rfl dX0_draw_30 ?_
  obtain ⟨o5, F⟩ := F
  refine v_irem C (tdivR32 o1 (by decide)) R1 o5 dX0_draw_31 ?_
  exact v_iret C (Nat.le_refl _) (Nat.le_refl _) dX0_draw_32 ⟨B3, (tmodR32 R1 o5), F⟩
set_option maxHeartbeats 1000000 in
theorem eX0_draw {G : GT} {l : Launch} {x1 : Int} {h : Mem} {P : Int → Mem → Prop} (F : ∀ X : MX, Cx G X cX0_draw 2 RX0 0 0 0 (some .int) "draw" → X.2.1 = l → (EX h h ∧ R32 x1) →
    XS h ∧ R32 (w64 ((w64 (w64 (h 1 23 * 1103515245) + 12345)).tmod 2147483648)) ∧ ∀ h2 : Mem, h2 = up h 1 23 (w64 ((w64 (w64 (h 1 23 * 1103515245) + 12345)).tmod 2147483648)) → 0 < x1 ∧ P (((w64 ((w64 (w64 (h 1 23 * 1103515245) + 12345)).tmod 2147483648)).tdiv 65536).tmod x1) h2) :
    kX0_draw G l x1 h P := by
  intro R1
  refine ct_of (by decide +kernel) (Nat.le_of_ble_eq_true rfl) fun X C e => ?_
  refine v_okz fun O => ?_
  exact wX0_draw_0 C ⟨EX.rf O, R1⟩ (F X C e ⟨EX.rf O, R1⟩)
def kX0_end (G : GT) (l : Launch) (x1 : Int) (h : Mem) (P : Int → Mem → Prop) : Prop := R32 x1 → Ct G l yX0_end cX0_end 2 (some .int) 0 0 0 0 [rf 1, iv x1] h (PI h P)
set_option maxHeartbeats 4000000 in
theorem wX0_end_0 {G : GT} {X : MX} {h0 h : Mem} {P : Int → Mem → Prop} {x1 : Int} (C : Cx G X cX0_end 2 RX0 0 0 0 (some .int) "end") (B0 : EX h0 h ∧ R32 x1)
    (F : XS h ∧ ((x1 < 0 → P (-1) h) ∧ (x1 ≥ 0 → ((x1 ≤ h 1 11 → ∀ h3 : Mem, h3 = up h 1 11 x1 → P x1 h3) ∧ (x1 > h 1 11 → P (-1) h))))) :
    V G X 2 0 0 (QF G X 0 0 0 (PI h0 P)) 0 [(0, rf 1), (1, iv x1)] [] h := by
  obtain ⟨B, R1⟩ := B0
  have E : EX h h := EX.rf B.2
  obtain ⟨SX, F⟩ := F
  refine v_iload_n C 1 rfl rfl dX0_end_0 ?_
  refine v_if_lt C 12 R1 dX0_end_1 (by decide) (fun c1 => ?_) (fun c1 => ?_)
  · have F := F.1 (c1)
    refine v_iconst C dX0_end_12 ?_
    exact v_iret C (Nat.le_refl _) (Nat.le_refl _) dX0_end_13 ⟨B, ⟨by decide, by decide⟩, F⟩
  · have F := F.2 (c1)
    refine v_iload_n C 1 rfl rfl dX0_end_4 ?_
    refine v_aload_n C 0 rfl rfl dX0_end_5 ?_
    refine gX0_123 C (SX.ext E.1).k1 rfl dX0_end_6 ?_
    refine v_icmp_le C 14 R1 (EX.rI B (j := 11) (SX.ext E.1).k1 rfl) dX0_end_9 (by decide) (fun c2 => ?_) (fun c2 => ?_)
    · have F := F.1 (c2)
      refine v_aload_n C 0 rfl rfl dX0_end_14 ?_
      refine v_iload_n C 1 rfl rfl dX0_end_15 ?_
      refine pX0_123 C (SX.ext E.1).k1 (okI_i rfl R1) dX0_end_16 ?_
      obtain ⟨h3, eh3⟩ : ∃ m : Mem, m = up h 1 11 x1 := ⟨_, rfl⟩
      have B4 : EX h0 h3 := by rw [eh3]; exact EX_up B (SX.ext E.1).k1 (by decide) rfl (by decide) (okI_i rfl R1)
      have E5 : EX h h3 := by rw [eh3]; exact EX_up E (SX.ext E.1).k1 (by decide) rfl (by decide) (okI_i rfl R1)
      refine v_mem eh3 ?_
      have F := F h3 eh3
      refine v_iload_n C 1 rfl rfl dX0_end_19 ?_
      exact v_iret C (Nat.le_refl _) (Nat.le_refl _) dX0_end_20 ⟨B4, R1, F⟩
    · have F := F.2 (c2)
      refine v_iconst C dX0_end_12 ?_
      exact v_iret C (Nat.le_refl _) (Nat.le_refl _) dX0_end_13 ⟨B, ⟨by decide, by decide⟩, F⟩
set_option maxHeartbeats 1000000 in
theorem eX0_end {G : GT} {l : Launch} {x1 : Int} {h : Mem} {P : Int → Mem → Prop} (F : ∀ X : MX, Cx G X cX0_end 2 RX0 0 0 0 (some .int) "end" → X.2.1 = l → (EX h h ∧ R32 x1) →
    XS h ∧ ((x1 < 0 → P (-1) h) ∧ (x1 ≥ 0 → ((x1 ≤ h 1 11 → ∀ h3 : Mem, h3 = up h 1 11 x1 → P x1 h3) ∧ (x1 > h 1 11 → P (-1) h))))) :
    kX0_end G l x1 h P := by
  intro R1
  refine ct_of (by decide +kernel) (Nat.le_of_ble_eq_true rfl) fun X C e => ?_
  refine v_okz fun O => ?_
  exact wX0_end_0 C ⟨EX.rf O, R1⟩ (F X C e ⟨EX.rf O, R1⟩)
def kX0_faulted (G : GT) (l : Launch) (h : Mem) (P : Int → Mem → Prop) : Prop := Ct G l yX0_faulted cX0_faulted 1 (some .int) 0 0 0 0 [rf 1] h (PI h P)
set_option maxHeartbeats 4000000 in
theorem wX0_faulted_0 {G : GT} {X : MX} {h0 h : Mem} {P : Int → Mem → Prop} (C : Cx G X cX0_faulted 1 RX0 0 0 0 (some .int) "faulted") (B0 : EX h0 h)
    (F : XS h ∧ R32 ((-2) - (1 + 8 * h 166 7 + h 166 6)) ∧ P ((-2) - (1 + 8 * h 166 7 + h 166 6)) h) :
    V G X 1 0 0 (QF G X 0 0 0 (PI h0 P)) 0 [(0, rf 1)] [] h := by
  have B := B0
  have E : EX h h := EX.rf B.2
  obtain ⟨SX, F⟩ := F
  refine v_bipush C rfl dX0_faulted_0 ?_
  refine v_iconst C dX0_faulted_2 ?_
  refine v_bipush C rfl dX0_faulted_3 ?_
  refine v_aload_n C 0 rfl rfl dX0_faulted_5 ?_
  refine gX0_42 C (SX.ext E.1).k1 (SX.ext E.1).f9 dX0_faulted_6 ?_
  refine gX0_130 C (SX.ext E.1).k166 rfl dX0_faulted_9 ?_
  refine v_imul C dX0_faulted_12 ?_
  refine v_iadd C dX0_faulted_13 ?_
  refine v_aload_n C 0 rfl rfl dX0_faulted_14 ?_
  refine gX0_42 C (SX.ext E.1).k1 (SX.ext E.1).f9 dX0_faulted_15 ?_
  refine gX0_133 C (SX.ext E.1).k166 rfl dX0_faulted_18 ?_
  refine v_iadd C dX0_faulted_21 ?_
  refine v_isub C dX0_faulted_22 ?_
  obtain ⟨o1, F⟩ := F
  exact v_iret C (Nat.le_refl _) (Nat.le_refl _) dX0_faulted_23 ⟨B, o1, F⟩
set_option maxHeartbeats 1000000 in
theorem eX0_faulted {G : GT} {l : Launch} {h : Mem} {P : Int → Mem → Prop} (F : ∀ X : MX, Cx G X cX0_faulted 1 RX0 0 0 0 (some .int) "faulted" → X.2.1 = l → (EX h h) →
    XS h ∧ R32 ((-2) - (1 + 8 * h 166 7 + h 166 6)) ∧ P ((-2) - (1 + 8 * h 166 7 + h 166 6)) h) :
    kX0_faulted G l h P := by
  refine ct_of (by decide +kernel) (Nat.le_of_ble_eq_true rfl) fun X C e => ?_
  refine v_okz fun O => ?_
  exact wX0_faulted_0 C (EX.rf O) (F X C e (EX.rf O))
def kX0_force (G : GT) (l : Launch) (x1 : Int) (h : Mem) (P : Int → Mem → Prop) : Prop := R32 x1 → Ct G l yX0_force cX0_force 3 (some .int) 0 0 0 0 [rf 1, iv x1] h (PI h P)
set_option maxHeartbeats 4000000 in
theorem wX0_force_0 {G : GT} {X : MX} {h0 h : Mem} {P : Int → Mem → Prop} {x1 : Int} (C : Cx G X cX0_force 3 RX0 0 0 0 (some .int) "force") (B0 : EX h0 h ∧ R32 x1)
    (F : XS h ∧ ((x1 = (-1) → ∀ y2 : Int, y2 = h 1 8 → ∀ h3 : Mem, h3 = up h 1 8 x1 → P y2 h3) ∧ (x1 ≠ (-1) → ((x1 < 0 → P (-2) h) ∧ (x1 ≥ 0 → ((x1 < h 1 16 → ∀ y8 : Int, y8 = h 1 8 → ∀ h9 : Mem, h9 = up h 1 8 x1 → P y8 h9) ∧ (x1 ≥ h 1 16 → P (-2) h))))))) :
    V G X 3 0 0 (QF G X 0 0 0 (PI h0 P)) 0 [(0, rf 1), (1, iv x1)] [] h := by
  obtain ⟨B, R1⟩ := B0
  have E : EX h h := EX.rf B.2
  obtain ⟨SX, F⟩ := F
  refine v_iload_n C 1 rfl rfl dX0_force_0 ?_
  refine v_iconst C dX0_force_1 ?_
  refine v_icmp_eq C 20 R1 ⟨by decide, by decide⟩ dX0_force_2 (by decide) (fun c1 => ?_) (fun c1 => ?_)
  · have F := F.1 (c1)
    refine v_aload_n C 0 rfl rfl dX0_force_20 ?_
    refine gX0_35 C (SX.ext E.1).k1 rfl dX0_force_21 ?_
    obtain ⟨y2, ey2⟩ : ∃ z : Int, z = h 1 8 := ⟨_, rfl⟩
    have F := F y2 ey2
    have Ry2 : R32 y2 := by rw [ey2]; exact (EX.rI B (j := 8) (SX.ext E.1).k1 rfl)
    refine v_istore_n C rfl (by decide) dX0_force_24 (lv2 := [(2, iv y2), (0, rf 1), (1, iv x1)]) (by rw [ey2]; rfl) ?_
    refine v_aload_n C 1 rfl rfl dX0_force_25 ?_
    refine v_iload_n C 2 rfl rfl dX0_force_26 ?_
    refine pX0_35 C (SX.ext E.1).k1 (okI_i rfl R1) dX0_force_27 ?_
    obtain ⟨h3, eh3⟩ : ∃ m : Mem, m = up h 1 8 x1 := ⟨_, rfl⟩
    have B4 : EX h0 h3 := by rw [eh3]; exact EX_up B (SX.ext E.1).k1 (by decide) rfl (by decide) (okI_i rfl R1)
    have E5 : EX h h3 := by rw [eh3]; exact EX_up E (SX.ext E.1).k1 (by decide) rfl (by decide) (okI_i rfl R1)
    refine v_mem eh3 ?_
    have F := F h3 eh3
    refine v_iload_n C 0 rfl rfl dX0_force_30 ?_
    exact v_iret C (Nat.le_refl _) (Nat.le_refl _) dX0_force_31 ⟨B4, Ry2, F⟩
  · have F := F.2 (c1)
    refine v_iload_n C 1 rfl rfl dX0_force_5 ?_
    refine v_if_lt C 17 R1 dX0_force_6 (by decide) (fun c6 => ?_) (fun c6 => ?_)
    · have F := F.1 (c6)
      refine v_bipush C rfl dX0_force_17 ?_
      exact v_iret C (Nat.le_refl _) (Nat.le_refl _) dX0_force_19 ⟨B, ⟨by decide, by decide⟩, F⟩
    · have F := F.2 (c6)
      refine v_iload_n C 1 rfl rfl dX0_force_9 ?_
      refine v_aload_n C 0 rfl rfl dX0_force_10 ?_
      refine gX0_159 C (SX.ext E.1).k1 rfl dX0_force_11 ?_
      refine v_icmp_lt C 20 R1 (EX.rI B (j := 16) (SX.ext E.1).k1 rfl) dX0_force_14 (by decide) (fun c7 => ?_) (fun c7 => ?_)
      · have F := F.1 (c7)
        refine v_aload_n C 0 rfl rfl dX0_force_20 ?_
        refine gX0_35 C (SX.ext E.1).k1 rfl dX0_force_21 ?_
        obtain ⟨y8, ey8⟩ : ∃ z : Int, z = h 1 8 := ⟨_, rfl⟩
        have F := F y8 ey8
        have Ry8 : R32 y8 := by rw [ey8]; exact (EX.rI B (j := 8) (SX.ext E.1).k1 rfl)
        refine v_istore_n C rfl (by decide) dX0_force_24 (lv2 := [(2, iv y8), (0, rf 1), (1, iv x1)]) (by rw [ey8]; rfl) ?_
        refine v_aload_n C 1 rfl rfl dX0_force_25 ?_
        refine v_iload_n C 2 rfl rfl dX0_force_26 ?_
        refine pX0_35 C (SX.ext E.1).k1 (okI_i rfl R1) dX0_force_27 ?_
        obtain ⟨h9, eh9⟩ : ∃ m : Mem, m = up h 1 8 x1 := ⟨_, rfl⟩
        have B10 : EX h0 h9 := by rw [eh9]; exact EX_up B (SX.ext E.1).k1 (by decide) rfl (by decide) (okI_i rfl R1)
        have E11 : EX h h9 := by rw [eh9]; exact EX_up E (SX.ext E.1).k1 (by decide) rfl (by decide) (okI_i rfl R1)
        refine v_mem eh9 ?_
        have F := F h9 eh9
        refine v_iload_n C 0 rfl rfl dX0_force_30 ?_
        exact v_iret C (Nat.le_refl _) (Nat.le_refl _) dX0_force_31 ⟨B10, Ry8, F⟩
      · have F := F.2 (c7)
        refine v_bipush C rfl dX0_force_17 ?_
        exact v_iret C (Nat.le_refl _) (Nat.le_refl _) dX0_force_19 ⟨B, ⟨by decide, by decide⟩, F⟩
set_option maxHeartbeats 1000000 in
theorem eX0_force {G : GT} {l : Launch} {x1 : Int} {h : Mem} {P : Int → Mem → Prop} (F : ∀ X : MX, Cx G X cX0_force 3 RX0 0 0 0 (some .int) "force" → X.2.1 = l → (EX h h ∧ R32 x1) →
    XS h ∧ ((x1 = (-1) → ∀ y2 : Int, y2 = h 1 8 → ∀ h3 : Mem, h3 = up h 1 8 x1 → P y2 h3) ∧ (x1 ≠ (-1) → ((x1 < 0 → P (-2) h) ∧ (x1 ≥ 0 → ((x1 < h 1 16 → ∀ y8 : Int, y8 = h 1 8 → ∀ h9 : Mem, h9 = up h 1 8 x1 → P y8 h9) ∧ (x1 ≥ h 1 16 → P (-2) h))))))) :
    kX0_force G l x1 h P := by
  intro R1
  refine ct_of (by decide +kernel) (Nat.le_of_ble_eq_true rfl) fun X C e => ?_
  refine v_okz fun O => ?_
  exact wX0_force_0 C ⟨EX.rf O, R1⟩ (F X C e ⟨EX.rf O, R1⟩)
def kX0_four (G : GT) (l : Launch) (x1 : Int) (h : Mem) (P : Int → Mem → Prop) : Prop := R32 x1 → Ct G l yX0_four cX0_four 3 none 3 0 0 0 [rf 1, iv x1] h (PR h P)
set_option maxHeartbeats 4000000 in
theorem wX0_four_0 {G : GT} {X : MX} {h0 h : Mem} {P : Int → Mem → Prop} {x1 : Int} (C : Cx G X cX0_four 3 RX0 0 0 0 none "four") (B0 : EX h0 h ∧ R32 x1)
    (F : (EX h0 h ∧ R32 x1 ∧ R32 24 → V G X 3 0 0 (QF G X 3 0 0 (PR h0 P)) 3 [(0, rf 1), (1, iv x1), (2, iv 24)] [] h)) :
    V G X 3 0 0 (QF G X 3 0 0 (PR h0 P)) 0 [(0, rf 1), (1, iv x1)] [] h := by
  obtain ⟨B, R1⟩ := B0
  have E : EX h h := EX.rf B.2
  refine v_bipush C rfl dX0_four_0 ?_
  refine v_istore_n C rfl (by decide) dX0_four_2 (lv2 := [(2, iv 24), (0, rf 1), (1, iv x1)]) rfl ?_
  refine v_sub (lv2 := [(0, rf 1), (1, iv x1), (2, iv 24)]) [1, 2, 0] rfl ?_
  exact F ⟨B, R1, ⟨by decide, by decide⟩⟩
set_option maxHeartbeats 4000000 in
theorem wX0_four_L3 {G : GT} {X : MX} {h0 h : Mem} {P : Int → Mem → Prop} {x1 x2 : Int} (C : Cx G X cX0_four 3 RX0 0 0 0 none "four") (B0 : EX h0 h ∧ R32 x1 ∧ R32 x2)
    (F : XS h ∧ ((x2 < 0 → P 0 h) ∧ (x2 ≥ 0 → 0 ≤ h 1 11 ∧ h 1 11 < 400 ∧ ∀ h4 : Mem, h4 = up h 167 (h 1 11) (w8 (bShr x1 x2)) → R32 (h 1 11 + 1) ∧ ∀ h8 : Mem, h8 = up h4 1 11 (h 1 11 + 1) → R32 (x2 + (-8)) ∧ (EX h0 h8 ∧ R32 x1 ∧ R32 (x2 + (-8)) → V G X 3 0 0 (QF G X 3 0 0 (PR h0 P)) 3 [(0, rf 1), (1, iv x1), (2, iv (x2 + (-8)))] [] h8)))) :
    V G X 3 0 0 (QF G X 3 0 0 (PR h0 P)) 3 [(0, rf 1), (1, iv x1), (2, iv x2)] [] h := by
  obtain ⟨B, R1, R2⟩ := B0
  have E : EX h h := EX.rf B.2
  obtain ⟨SX, F⟩ := F
  refine v_iload_n C 2 rfl rfl dX0_four_3 ?_
  refine v_if_lt C 36 R2 dX0_four_4 (by decide) (fun c1 => ?_) (fun c1 => ?_)
  · have F := F.1 (c1)
    exact v_vret C (Nat.le_refl _) (Nat.le_refl _) dX0_four_36 ⟨B, F⟩
  · have F := F.2 (c1)
    refine v_aload_n C 0 rfl rfl dX0_four_7 ?_
    refine gX0_46 C (SX.ext E.1).k1 (SX.ext E.1).f10 dX0_four_8 ?_
    refine v_aload_n C 0 rfl rfl dX0_four_11 ?_
    refine gX0_123 C (SX.ext E.1).k1 rfl dX0_four_12 ?_
    refine v_iload_n C 1 rfl rfl dX0_four_15 ?_
    refine v_iload_n C 2 rfl rfl dX0_four_16 ?_
    refine v_ishr C dX0_four_17 ?_
    refine v_i2b C dX0_four_18 ?_
    obtain ⟨o2, F⟩ := F
    obtain ⟨o3, F⟩ := F
    refine v_bast C (SX.ext E.1).k167 o2 (by rw [(SX.ext E.1).l167]; exact o3) (w8_b _).1 (w8_b _).2 dX0_four_19 ?_
    obtain ⟨h4, eh4⟩ : ∃ m : Mem, m = up h 167 (h 1 11) (w8 (bShr x1 x2)) := ⟨_, rfl⟩
    have B5 : EX h0 h4 := by rw [eh4]; exact EX_up B (SX.ext E.1).k167 (by decide) rfl o2 (okI_a (Or.inr (Or.inl rfl)) (w8_R32 _))
    have E6 : EX h h4 := by rw [eh4]; exact EX_up E (SX.ext E.1).k167 (by decide) rfl o2 (okI_a (Or.inr (Or.inl rfl)) (w8_R32 _))
    refine v_mem eh4 ?_
    have F := F h4 eh4
    refine v_aload_n C 0 rfl rfl dX0_four_20 ?_
    refine v_dup C (rf_n1 _) dX0_four_21 ?_
    refine gX0_123 C (SX.ext E6.1).k1 (show h4 1 11 = h 1 11 by rw [eh4, up_a (by decide)]) dX0_four_22 ?_
    refine v_iconst C dX0_four_25 ?_
    refine v_iadd C dX0_four_26 ?_
    obtain ⟨o7, F⟩ := F
    refine pX0_123 C (SX.ext E6.1).k1 (okI_i rfl o7) dX0_four_27 ?_
    obtain ⟨h8, eh8⟩ : ∃ m : Mem, m = up h4 1 11 (h 1 11 + 1) := ⟨_, rfl⟩
    have B9 : EX h0 h8 := by rw [eh8]; exact EX_up B5 (SX.ext E6.1).k1 (by decide) rfl (by decide) (okI_i rfl o7)
    have E10 : EX h h8 := by rw [eh8]; exact EX_up E6 (SX.ext E6.1).k1 (by decide) rfl (by decide) (okI_i rfl o7)
    refine v_mem eh8 ?_
    have F := F h8 eh8
    obtain ⟨o11, F⟩ := F
    refine v_iinc C 2 rfl (by decide) dX0_four_30 (lv2 := [(2, iv (x2 + (-8))), (0, rf 1), (1, iv x1)]) rfl ?_
    refine v_goto C 3 dX0_four_33 (by decide) ?_
    refine v_sub (lv2 := [(0, rf 1), (1, iv x1), (2, iv (x2 + (-8)))]) [1, 2, 0] rfl ?_
    exact F ⟨B9, R1, o11⟩
set_option maxHeartbeats 1000000 in
theorem eX0_four {G : GT} {l : Launch} {x1 : Int} {h : Mem} {P : Int → Mem → Prop} (F : ∀ X : MX, Cx G X cX0_four 3 RX0 0 0 0 none "four" → X.2.1 = l → (EX h h ∧ R32 x1) →
    (EX h h ∧ R32 x1 ∧ R32 24 → V G X 3 0 0 (QF G X 3 0 0 (PR h P)) 3 [(0, rf 1), (1, iv x1), (2, iv 24)] [] h)) :
    kX0_four G l x1 h P := by
  intro R1
  refine ct_of (by decide +kernel) (Nat.le_of_ble_eq_true rfl) fun X C e => ?_
  refine v_okz fun O => ?_
  exact wX0_four_0 C ⟨EX.rf O, R1⟩ (F X C e ⟨EX.rf O, R1⟩)
def kX0_isCell (G : GT) (l : Launch) (x1 : Int) (h : Mem) (P : Int → Mem → Prop) : Prop := R32 x1 → Ct G l yX0_isCell cX0_isCell 2 (some .boolean) 0 0 0 0 [rf 1, iv x1] h (PZ h P)
set_option maxHeartbeats 4000000 in
theorem wX0_isCell_0 {G : GT} {X : MX} {h0 h : Mem} {P : Int → Mem → Prop} {x1 : Int} (C : Cx G X cX0_isCell 2 RX0 0 0 0 (some .boolean) "isCell") (B0 : EX h0 h ∧ R32 x1)
    (F : XS h ∧ ((h 1 0 = 0 → P 0 h) ∧ (h 1 0 ≠ 0 → ((x1 < 0 → P 0 h) ∧ (x1 ≥ 0 → h 1 0 = 2 ∧ ((x1 ≥ h 2 4 → P 0 h) ∧ (x1 < h 2 4 → P 1 h))))))) :
    V G X 2 0 0 (QF G X 0 0 0 (PZ h0 P)) 0 [(0, rf 1), (1, iv x1)] [] h := by
  obtain ⟨B, R1⟩ := B0
  have E : EX h h := EX.rf B.2
  obtain ⟨SX, F⟩ := F
  refine v_aload_n C 0 rfl rfl dX0_isCell_0 ?_
  refine gX0_149 C (SX.ext E.1).k1 rfl dX0_isCell_1 ?_
  refine v_ifnull C 26 dX0_isCell_4 (by decide) (fun c1 => ?_) (fun c1 => ?_)
  · have F := F.1 c1
    refine v_iconst C dX0_isCell_26 ?_
    exact v_zret C (by decide) (Nat.le_refl _) (Nat.le_refl _) dX0_isCell_27 ⟨B, (by decide), F⟩
  · have F := F.2 c1
    refine v_iload_n C 1 rfl rfl dX0_isCell_7 ?_
    refine v_if_lt C 26 R1 dX0_isCell_8 (by decide) (fun c2 => ?_) (fun c2 => ?_)
    · have F := F.1 (c2)
      refine v_iconst C dX0_isCell_26 ?_
      exact v_zret C (by decide) (Nat.le_refl _) (Nat.le_refl _) dX0_isCell_27 ⟨B, (by decide), F⟩
    · have F := F.2 (c2)
      refine v_iload_n C 1 rfl rfl dX0_isCell_11 ?_
      refine v_aload_n C 0 rfl rfl dX0_isCell_12 ?_
      obtain ⟨o3, F⟩ := F
      refine gX0_149 C (SX.ext E.1).k1 o3 dX0_isCell_13 ?_
      refine gX0_152 C ((SX.ext E.1).t2).k rfl dX0_isCell_16 ?_
      refine v_icmp_ge C 26 R1 (EX.rI B (j := 4) ((SX.ext E.1).t2).k rfl) dX0_isCell_19 (by decide) (fun c4 => ?_) (fun c4 => ?_)
      · have F := F.1 (c4)
        refine v_iconst C dX0_isCell_26 ?_
        exact v_zret C (by decide) (Nat.le_refl _) (Nat.le_refl _) dX0_isCell_27 ⟨B, (by decide), F⟩
      · have F := F.2 (c4)
        refine v_iconst C dX0_isCell_22 ?_
        refine v_goto C 27 dX0_isCell_23 (by decide) ?_
        exact v_zret C (by decide) (Nat.le_refl _) (Nat.le_refl _) dX0_isCell_27 ⟨B, (by decide), F⟩
set_option maxHeartbeats 1000000 in
theorem eX0_isCell {G : GT} {l : Launch} {x1 : Int} {h : Mem} {P : Int → Mem → Prop} (F : ∀ X : MX, Cx G X cX0_isCell 2 RX0 0 0 0 (some .boolean) "isCell" → X.2.1 = l → (EX h h ∧ R32 x1) →
    XS h ∧ ((h 1 0 = 0 → P 0 h) ∧ (h 1 0 ≠ 0 → ((x1 < 0 → P 0 h) ∧ (x1 ≥ 0 → h 1 0 = 2 ∧ ((x1 ≥ h 2 4 → P 0 h) ∧ (x1 < h 2 4 → P 1 h))))))) :
    kX0_isCell G l x1 h P := by
  intro R1
  refine ct_of (by decide +kernel) (Nat.le_of_ble_eq_true rfl) fun X C e => ?_
  refine v_okz fun O => ?_
  exact wX0_isCell_0 C ⟨EX.rf O, R1⟩ (F X C e ⟨EX.rf O, R1⟩)
def kX0_isPainter (G : GT) (l : Launch) (x1 : Int) (h : Mem) (P : Int → Mem → Prop) : Prop := R32 x1 → Ct G l yX0_isPainter cX0_isPainter 2 (some .boolean) 0 0 0 0 [rf 1, iv x1] h (PZ h P)
set_option maxHeartbeats 4000000 in
theorem wX0_isPainter_0 {G : GT} {X : MX} {h0 h : Mem} {P : Int → Mem → Prop} {x1 : Int} (C : Cx G X cX0_isPainter 2 RX0 0 0 0 (some .boolean) "isPainter") (B0 : EX h0 h ∧ R32 x1)
    (F : XS h ∧ ((h 1 0 = 0 → P 0 h) ∧ (h 1 0 ≠ 0 → ((x1 < 0 → P 0 h) ∧ (x1 ≥ 0 → h 1 0 = 2 ∧ ((x1 ≥ h 2 5 → P 0 h) ∧ (x1 < h 2 5 → P 1 h))))))) :
    V G X 2 0 0 (QF G X 0 0 0 (PZ h0 P)) 0 [(0, rf 1), (1, iv x1)] [] h := by
  obtain ⟨B, R1⟩ := B0
  have E : EX h h := EX.rf B.2
  obtain ⟨SX, F⟩ := F
  refine v_aload_n C 0 rfl rfl dX0_isPainter_0 ?_
  refine gX0_149 C (SX.ext E.1).k1 rfl dX0_isPainter_1 ?_
  refine v_ifnull C 26 dX0_isPainter_4 (by decide) (fun c1 => ?_) (fun c1 => ?_)
  · have F := F.1 c1
    refine v_iconst C dX0_isPainter_26 ?_
    exact v_zret C (by decide) (Nat.le_refl _) (Nat.le_refl _) dX0_isPainter_27 ⟨B, (by decide), F⟩
  · have F := F.2 c1
    refine v_iload_n C 1 rfl rfl dX0_isPainter_7 ?_
    refine v_if_lt C 26 R1 dX0_isPainter_8 (by decide) (fun c2 => ?_) (fun c2 => ?_)
    · have F := F.1 (c2)
      refine v_iconst C dX0_isPainter_26 ?_
      exact v_zret C (by decide) (Nat.le_refl _) (Nat.le_refl _) dX0_isPainter_27 ⟨B, (by decide), F⟩
    · have F := F.2 (c2)
      refine v_iload_n C 1 rfl rfl dX0_isPainter_11 ?_
      refine v_aload_n C 0 rfl rfl dX0_isPainter_12 ?_
      obtain ⟨o3, F⟩ := F
      refine gX0_149 C (SX.ext E.1).k1 o3 dX0_isPainter_13 ?_
      refine gX0_169 C ((SX.ext E.1).t2).k rfl dX0_isPainter_16 ?_
      refine v_icmp_ge C 26 R1 (EX.rI B (j := 5) ((SX.ext E.1).t2).k rfl) dX0_isPainter_19 (by decide) (fun c4 => ?_) (fun c4 => ?_)
      · have F := F.1 (c4)
        refine v_iconst C dX0_isPainter_26 ?_
        exact v_zret C (by decide) (Nat.le_refl _) (Nat.le_refl _) dX0_isPainter_27 ⟨B, (by decide), F⟩
      · have F := F.2 (c4)
        refine v_iconst C dX0_isPainter_22 ?_
        refine v_goto C 27 dX0_isPainter_23 (by decide) ?_
        exact v_zret C (by decide) (Nat.le_refl _) (Nat.le_refl _) dX0_isPainter_27 ⟨B, (by decide), F⟩
set_option maxHeartbeats 1000000 in
theorem eX0_isPainter {G : GT} {l : Launch} {x1 : Int} {h : Mem} {P : Int → Mem → Prop} (F : ∀ X : MX, Cx G X cX0_isPainter 2 RX0 0 0 0 (some .boolean) "isPainter" → X.2.1 = l → (EX h h ∧ R32 x1) →
    XS h ∧ ((h 1 0 = 0 → P 0 h) ∧ (h 1 0 ≠ 0 → ((x1 < 0 → P 0 h) ∧ (x1 ≥ 0 → h 1 0 = 2 ∧ ((x1 ≥ h 2 5 → P 0 h) ∧ (x1 < h 2 5 → P 1 h))))))) :
    kX0_isPainter G l x1 h P := by
  intro R1
  refine ct_of (by decide +kernel) (Nat.le_of_ble_eq_true rfl) fun X C e => ?_
  refine v_okz fun O => ?_
  exact wX0_isPainter_0 C ⟨EX.rf O, R1⟩ (F X C e ⟨EX.rf O, R1⟩)
def kX0_isThing (G : GT) (l : Launch) (x1 : Int) (h : Mem) (P : Int → Mem → Prop) : Prop := R32 x1 → Ct G l yX0_isThing cX0_isThing 2 (some .boolean) 0 0 0 0 [rf 1, iv x1] h (PZ h P)
set_option maxHeartbeats 4000000 in
theorem wX0_isThing_0 {G : GT} {X : MX} {h0 h : Mem} {P : Int → Mem → Prop} {x1 : Int} (C : Cx G X cX0_isThing 2 RX0 0 0 0 (some .boolean) "isThing") (B0 : EX h0 h ∧ R32 x1)
    (F : XS h ∧ ((h 1 0 = 0 → P 0 h) ∧ (h 1 0 ≠ 0 → ((x1 < 0 → P 0 h) ∧ (x1 ≥ 0 → h 1 0 = 2 ∧ ((x1 ≥ h 2 3 → P 0 h) ∧ (x1 < h 2 3 → P 1 h))))))) :
    V G X 2 0 0 (QF G X 0 0 0 (PZ h0 P)) 0 [(0, rf 1), (1, iv x1)] [] h := by
  obtain ⟨B, R1⟩ := B0
  have E : EX h h := EX.rf B.2
  obtain ⟨SX, F⟩ := F
  refine v_aload_n C 0 rfl rfl dX0_isThing_0 ?_
  refine gX0_149 C (SX.ext E.1).k1 rfl dX0_isThing_1 ?_
  refine v_ifnull C 26 dX0_isThing_4 (by decide) (fun c1 => ?_) (fun c1 => ?_)
  · have F := F.1 c1
    refine v_iconst C dX0_isThing_26 ?_
    exact v_zret C (by decide) (Nat.le_refl _) (Nat.le_refl _) dX0_isThing_27 ⟨B, (by decide), F⟩
  · have F := F.2 c1
    refine v_iload_n C 1 rfl rfl dX0_isThing_7 ?_
    refine v_if_lt C 26 R1 dX0_isThing_8 (by decide) (fun c2 => ?_) (fun c2 => ?_)
    · have F := F.1 (c2)
      refine v_iconst C dX0_isThing_26 ?_
      exact v_zret C (by decide) (Nat.le_refl _) (Nat.le_refl _) dX0_isThing_27 ⟨B, (by decide), F⟩
    · have F := F.2 (c2)
      refine v_iload_n C 1 rfl rfl dX0_isThing_11 ?_
      refine v_aload_n C 0 rfl rfl dX0_isThing_12 ?_
      obtain ⟨o3, F⟩ := F
      refine gX0_149 C (SX.ext E.1).k1 o3 dX0_isThing_13 ?_
      refine gX0_166 C ((SX.ext E.1).t2).k rfl dX0_isThing_16 ?_
      refine v_icmp_ge C 26 R1 (EX.rI B (j := 3) ((SX.ext E.1).t2).k rfl) dX0_isThing_19 (by decide) (fun c4 => ?_) (fun c4 => ?_)
      · have F := F.1 (c4)
        refine v_iconst C dX0_isThing_26 ?_
        exact v_zret C (by decide) (Nat.le_refl _) (Nat.le_refl _) dX0_isThing_27 ⟨B, (by decide), F⟩
      · have F := F.2 (c4)
        refine v_iconst C dX0_isThing_22 ?_
        refine v_goto C 27 dX0_isThing_23 (by decide) ?_
        exact v_zret C (by decide) (Nat.le_refl _) (Nat.le_refl _) dX0_isThing_27 ⟨B, (by decide), F⟩
set_option maxHeartbeats 1000000 in
theorem eX0_isThing {G : GT} {l : Launch} {x1 : Int} {h : Mem} {P : Int → Mem → Prop} (F : ∀ X : MX, Cx G X cX0_isThing 2 RX0 0 0 0 (some .boolean) "isThing" → X.2.1 = l → (EX h h ∧ R32 x1) →
    XS h ∧ ((h 1 0 = 0 → P 0 h) ∧ (h 1 0 ≠ 0 → ((x1 < 0 → P 0 h) ∧ (x1 ≥ 0 → h 1 0 = 2 ∧ ((x1 ≥ h 2 3 → P 0 h) ∧ (x1 < h 2 3 → P 1 h))))))) :
    kX0_isThing G l x1 h P := by
  intro R1
  refine ct_of (by decide +kernel) (Nat.le_of_ble_eq_true rfl) fun X C e => ?_
  refine v_okz fun O => ?_
  exact wX0_isThing_0 C ⟨EX.rf O, R1⟩ (F X C e ⟨EX.rf O, R1⟩)
def kX0_law (G : GT) (l : Launch) (h : Mem) (P : Int → Mem → Prop) : Prop := Ct G l yX0_law cX0_law 1 (some (.object "LatestCoat$Rule")) 2 0 0 0 [rf 1] h (PR h P)
set_option maxHeartbeats 4000000 in
theorem wX0_law_0 {G : GT} {X : MX} {h0 h : Mem} {P : Int → Mem → Prop} (C : Cx G X cX0_law 1 RX0 0 0 0 (some (.object "LatestCoat$Rule")) "law") (B0 : EX h0 h)
    (F : XS h ∧ ((h 1 8 ≠ (-1) → 0 ≤ h 1 8 ∧ h 1 8 < 6 ∧ P (h 171 (h 1 8)) h) ∧ (h 1 8 = (-1) → P 0 h))) :
    V G X 1 0 0 (QF G X 2 0 0 (PR h0 P)) 0 [(0, rf 1)] [] h := by
  have B := B0
  have E : EX h h := EX.rf B.2
  obtain ⟨SX, F⟩ := F
  refine v_aload_n C 0 rfl rfl dX0_law_0 ?_
  refine gX0_35 C (SX.ext E.1).k1 rfl dX0_law_1 ?_
  refine v_iconst C dX0_law_4 ?_
  refine v_icmp_ne C 12 (EX.rI B (j := 8) (SX.ext E.1).k1 rfl) ⟨by decide, by decide⟩ dX0_law_5 (by decide) (fun c1 => ?_) (fun c1 => ?_)
  · have F := F.1 (c1)
    refine v_aload_n C 0 rfl rfl dX0_law_12 ?_
    refine gX0_100 C (SX.ext E.1).k1 (SX.ext E.1).f15 dX0_law_13 ?_
    refine v_aload_n C 0 rfl rfl dX0_law_16 ?_
    refine gX0_35 C (SX.ext E.1).k1 rfl dX0_law_17 ?_
    obtain ⟨o2, F⟩ := F
    obtain ⟨o3, F⟩ := F
    refine v_aald C 6 (by decide) (by decide) (SX.ext E.1).k171 o2 (by rw [(SX.ext E.1).l171]; exact o3) rfl dX0_law_20 ?_
    exact v_aret C (Nat.le_refl _) (Nat.le_refl _) dX0_law_21 ⟨B, F⟩
  · have F := F.2 (c1)
    refine v_null C dX0_law_8 ?_
    refine v_goto C 21 dX0_law_9 (by decide) ?_
    exact v_aret C (Nat.le_refl _) (Nat.le_refl _) dX0_law_21 ⟨B, F⟩
set_option maxHeartbeats 1000000 in
theorem eX0_law {G : GT} {l : Launch} {h : Mem} {P : Int → Mem → Prop} (F : ∀ X : MX, Cx G X cX0_law 1 RX0 0 0 0 (some (.object "LatestCoat$Rule")) "law" → X.2.1 = l → (EX h h) →
    XS h ∧ ((h 1 8 ≠ (-1) → 0 ≤ h 1 8 ∧ h 1 8 < 6 ∧ P (h 171 (h 1 8)) h) ∧ (h 1 8 = (-1) → P 0 h))) :
    kX0_law G l h P := by
  refine ct_of (by decide +kernel) (Nat.le_of_ble_eq_true rfl) fun X C e => ?_
  refine v_okz fun O => ?_
  exact wX0_law_0 C (EX.rf O) (F X C e (EX.rf O))
def kX0_seed (G : GT) (l : Launch) (x1 : Int) (h : Mem) (P : Int → Mem → Prop) : Prop := R32 x1 → Ct G l yX0_seed cX0_seed 3 (some .int) 0 0 0 0 [rf 1, iv x1] h (PI h P)
set_option maxHeartbeats 4000000 in
theorem wX0_seed_0 {G : GT} {X : MX} {h0 h : Mem} {P : Int → Mem → Prop} {x1 : Int} (C : Cx G X cX0_seed 3 RX0 0 0 0 (some .int) "seed") (B0 : EX h0 h ∧ R32 x1)
    (F : XS h ∧ ((x1 ≥ 0 → ∀ y2 : Int, y2 = h 1 7 → ∀ h3 : Mem, h3 = up h 1 7 x1 → P y2 h3) ∧ (x1 < 0 → P (-1) h))) :
    V G X 3 0 0 (QF G X 0 0 0 (PI h0 P)) 0 [(0, rf 1), (1, iv x1)] [] h := by
  obtain ⟨B, R1⟩ := B0
  have E : EX h h := EX.rf B.2
  obtain ⟨SX, F⟩ := F
  refine v_iload_n C 1 rfl rfl dX0_seed_0 ?_
  refine v_if_ge C 6 R1 dX0_seed_1 (by decide) (fun c1 => ?_) (fun c1 => ?_)
  · have F := F.1 (c1)
    refine v_aload_n C 0 rfl rfl dX0_seed_6 ?_
    refine gX0_373 C (SX.ext E.1).k1 rfl dX0_seed_7 ?_
    obtain ⟨y2, ey2⟩ : ∃ z : Int, z = h 1 7 := ⟨_, rfl⟩
    have F := F y2 ey2
    have Ry2 : R32 y2 := by rw [ey2]; exact (EX.rI B (j := 7) (SX.ext E.1).k1 rfl)
    refine v_istore_n C rfl (by decide) dX0_seed_10 (lv2 := [(2, iv y2), (0, rf 1), (1, iv x1)]) (by rw [ey2]; rfl) ?_
    refine v_aload_n C 1 rfl rfl dX0_seed_11 ?_
    refine v_iload_n C 2 rfl rfl dX0_seed_12 ?_
    refine pX0_373 C (SX.ext E.1).k1 (okI_i rfl R1) dX0_seed_13 ?_
    obtain ⟨h3, eh3⟩ : ∃ m : Mem, m = up h 1 7 x1 := ⟨_, rfl⟩
    have B4 : EX h0 h3 := by rw [eh3]; exact EX_up B (SX.ext E.1).k1 (by decide) rfl (by decide) (okI_i rfl R1)
    have E5 : EX h h3 := by rw [eh3]; exact EX_up E (SX.ext E.1).k1 (by decide) rfl (by decide) (okI_i rfl R1)
    refine v_mem eh3 ?_
    have F := F h3 eh3
    refine v_iload_n C 0 rfl rfl dX0_seed_16 ?_
    exact v_iret C (Nat.le_refl _) (Nat.le_refl _) dX0_seed_17 ⟨B4, Ry2, F⟩
  · have F := F.2 (c1)
    refine v_iconst C dX0_seed_4 ?_
    exact v_iret C (Nat.le_refl _) (Nat.le_refl _) dX0_seed_5 ⟨B, ⟨by decide, by decide⟩, F⟩
set_option maxHeartbeats 1000000 in
theorem eX0_seed {G : GT} {l : Launch} {x1 : Int} {h : Mem} {P : Int → Mem → Prop} (F : ∀ X : MX, Cx G X cX0_seed 3 RX0 0 0 0 (some .int) "seed" → X.2.1 = l → (EX h h ∧ R32 x1) →
    XS h ∧ ((x1 ≥ 0 → ∀ y2 : Int, y2 = h 1 7 → ∀ h3 : Mem, h3 = up h 1 7 x1 → P y2 h3) ∧ (x1 < 0 → P (-1) h))) :
    kX0_seed G l x1 h P := by
  intro R1
  refine ct_of (by decide +kernel) (Nat.le_of_ble_eq_true rfl) fun X C e => ?_
  refine v_okz fun O => ?_
  exact wX0_seed_0 C ⟨EX.rf O, R1⟩ (F X C e ⟨EX.rf O, R1⟩)
def kX0_alikeAt (G : GT) (l : Launch) (x1 : Int) (h : Mem) (P : Int → Mem → Prop) : Prop := R32 x1 → Ct G l yX0_alikeAt cX0_alikeAt 6 (some .int) 0 1 0 0 [rf 1, iv x1] h (PI h P)
set_option maxHeartbeats 4000000 in
theorem wX0_alikeAt_0 {G : GT} {X : MX} {h0 h : Mem} {P : Int → Mem → Prop} {x1 : Int} (C : Cx G X cX0_alikeAt 6 RX0 1 0 0 (some .int) "alikeAt") (B0 : EX h0 h ∧ R32 x1)
    (F : (EX h0 h ∧ R32 x1 ∧ R32 0 ∧ R32 (-1) → V G X 6 0 0 (QF G X 0 0 0 (PI h0 P)) 4 [(0, rf 1), (1, iv x1), (2, iv 0), (3, iv (-1))] [] h)) :
    V G X 6 0 0 (QF G X 0 0 0 (PI h0 P)) 0 [(0, rf 1), (1, iv x1)] [] h := by
  obtain ⟨B, R1⟩ := B0
  have E : EX h h := EX.rf B.2
  refine v_iconst C dX0_alikeAt_0 ?_
  refine v_istore_n C rfl (by decide) dX0_alikeAt_1 (lv2 := [(2, iv 0), (0, rf 1), (1, iv x1)]) rfl ?_
  refine v_iconst C dX0_alikeAt_2 ?_
  refine v_istore_n C rfl (by decide) dX0_alikeAt_3 (lv2 := [(3, iv (-1)), (2, iv 0), (0, rf 1), (1, iv x1)]) rfl ?_
  refine v_sub (lv2 := [(0, rf 1), (1, iv x1), (2, iv 0), (3, iv (-1))]) [2, 3, 1, 0] rfl ?_
  exact F ⟨B, R1, ⟨by decide, by decide⟩, ⟨by decide, by decide⟩⟩
set_option maxHeartbeats 4000000 in
theorem wX0_alikeAt_L4 {G : GT} {X : MX} {h0 h : Mem} {P : Int → Mem → Prop} {x1 x2 x3 : Int} (C : Cx G X cX0_alikeAt 6 RX0 1 0 0 (some .int) "alikeAt") (B0 : EX h0 h ∧ R32 x1 ∧ R32 x2 ∧ R32 x3)
    (F : XS h ∧ h 1 0 = 2 ∧ ((x3 ≥ h 2 5 → P x2 h) ∧ (x3 < h 2 5 → (EX h0 h ∧ R32 x1 ∧ R32 x2 ∧ R32 x3 ∧ R32 0 ∧ R32 0 → V G X 6 0 0 (QF G X 0 0 0 (PI h0 P)) 21 [(0, rf 1), (1, iv x1), (2, iv x2), (3, iv x3), (4, iv 0), (5, iv 0)] [] h)))) :
    V G X 6 0 0 (QF G X 0 0 0 (PI h0 P)) 4 [(0, rf 1), (1, iv x1), (2, iv x2), (3, iv x3)] [] h := by
  obtain ⟨B, R1, R2, R3⟩ := B0
  have E : EX h h := EX.rf B.2
  obtain ⟨SX, F⟩ := F
  refine v_iload_n C 3 rfl rfl dX0_alikeAt_4 ?_
  refine v_aload_n C 0 rfl rfl dX0_alikeAt_5 ?_
  obtain ⟨o1, F⟩ := F
  refine gX0_149 C (SX.ext E.1).k1 o1 dX0_alikeAt_6 ?_
  refine gX0_169 C ((SX.ext E.1).t2).k rfl dX0_alikeAt_9 ?_
  refine v_icmp_ge C 84 R3 (EX.rI B (j := 5) ((SX.ext E.1).t2).k rfl) dX0_alikeAt_12 (by decide) (fun c2 => ?_) (fun c2 => ?_)
  · have F := F.1 (c2)
    refine v_iload_n C 2 rfl rfl dX0_alikeAt_84 ?_
    exact v_iret C (Nat.le_refl _) (Nat.le_refl _) dX0_alikeAt_85 ⟨B, R2, F⟩
  · have F := F.2 (c2)
    refine v_iconst C dX0_alikeAt_15 ?_
    refine v_istore C (by decide) dX0_alikeAt_16 (lv2 := [(4, iv 0), (0, rf 1), (1, iv x1), (2, iv x2), (3, iv x3)]) rfl ?_
    refine v_iconst C dX0_alikeAt_18 ?_
    refine v_istore C (by decide) dX0_alikeAt_19 (lv2 := [(5, iv 0), (4, iv 0), (0, rf 1), (1, iv x1), (2, iv x2), (3, iv x3)]) rfl ?_
    refine v_sub (lv2 := [(0, rf 1), (1, iv x1), (2, iv x2), (3, iv x3), (4, iv 0), (5, iv 0)]) [2, 3, 4, 5, 1, 0] rfl ?_
    exact F ⟨B, R1, R2, R3, ⟨by decide, by decide⟩, ⟨by decide, by decide⟩⟩
set_option maxHeartbeats 4000000 in
theorem wX0_alikeAt_L21 {G : GT} {X : MX} {h0 h : Mem} {P : Int → Mem → Prop} {x1 x2 x3 x4 x5 : Int} (C : Cx G X cX0_alikeAt 6 RX0 1 0 0 (some .int) "alikeAt") (B0 : EX h0 h ∧ R32 x1 ∧ R32 x2 ∧ R32 x3 ∧ R32 x4 ∧ R32 x5)
    (F : XS h ∧ ((x5 > h 1 16 → ∀ y2 : Int, y2 = max x2 x4 → R32 (x3 + 1) ∧ (EX h0 h ∧ R32 x1 ∧ R32 y2 ∧ R32 (x3 + 1) → V G X 6 0 0 (QF G X 0 0 0 (PI h0 P)) 4 [(0, rf 1), (1, iv x1), (2, iv y2), (3, iv (x3 + 1))] [] h)) ∧ (x5 ≤ h 1 16 → 0 ≤ x5 ∧ x5 < 7 ∧ ((h 174 x5 = 0 → R32 (x4 + 0) ∧ ∀ y8 : Int, y8 = x4 + 0 → R32 (x5 + 1) ∧ (EX h0 h ∧ R32 x1 ∧ R32 x2 ∧ R32 x3 ∧ R32 y8 ∧ R32 (x5 + 1) → V G X 6 0 0 (QF G X 0 0 0 (PI h0 P)) 21 [(0, rf 1), (1, iv x1), (2, iv x2), (3, iv x3), (4, iv y8), (5, iv (x5 + 1))] [] h)) ∧ (h 174 x5 ≠ 0 → 0 ≤ 4 * x5 + x1 ∧ 4 * x5 + x1 < 28 ∧ ((h 175 (4 * x5 + x1) ≠ x3 → R32 (x4 + 0) ∧ ∀ y14 : Int, y14 = x4 + 0 → R32 (x5 + 1) ∧ (EX h0 h ∧ R32 x1 ∧ R32 x2 ∧ R32 x3 ∧ R32 y14 ∧ R32 (x5 + 1) → V G X 6 0 0 (QF G X 0 0 0 (PI h0 P)) 21 [(0, rf 1), (1, iv x1), (2, iv x2), (3, iv x3), (4, iv y14), (5, iv (x5 + 1))] [] h)) ∧ (h 175 (4 * x5 + x1) = x3 → R32 (x4 + 1) ∧ ∀ y17 : Int, y17 = x4 + 1 → R32 (x5 + 1) ∧ (EX h0 h ∧ R32 x1 ∧ R32 x2 ∧ R32 x3 ∧ R32 y17 ∧ R32 (x5 + 1) → V G X 6 0 0 (QF G X 0 0 0 (PI h0 P)) 21 [(0, rf 1), (1, iv x1), (2, iv x2), (3, iv x3), (4, iv y17), (5, iv (x5 + 1))] [] h)))))))) :
    V G X 6 0 0 (QF G X 0 0 0 (PI h0 P)) 21 [(0, rf 1), (1, iv x1), (2, iv x2), (3, iv x3), (4, iv x4), (5, iv x5)] [] h := by
  obtain ⟨B, R1, R2, R3, R4, R5⟩ := B0
  have E : EX h h := EX.rf B.2
  obtain ⟨SX, F⟩ := F
  refine v_iload C 5 rfl dX0_alikeAt_21 ?_
  refine v_aload_n C 0 rfl rfl dX0_alikeAt_23 ?_
  refine gX0_159 C (SX.ext E.1).k1 rfl dX0_alikeAt_24 ?_
  refine v_icmp_gt C 71 R5 (EX.rI B (j := 16) (SX.ext E.1).k1 rfl) dX0_alikeAt_27 (by decide) (fun c1 => ?_) (fun c1 => ?_)
  · have F := F.1 (c1)
    refine v_iload_n C 2 rfl rfl dX0_alikeAt_71 ?_
    refine v_iload C 4 rfl dX0_alikeAt_72 ?_
    refine v_mmax C R2 R4 q876 q877 q142 q878 (by decide) (Nat.le_refl _) (Nat.le_refl _) (Nat.le_of_ble_eq_true rfl) dX0_alikeAt_74 ?_
    obtain ⟨y2, ey2⟩ : ∃ z : Int, z = max x2 x4 := ⟨_, rfl⟩
    have F := F y2 ey2
    have Ry2 : R32 y2 := by rw [ey2]; exact (maxR R2 R4)
    refine v_istore_n C rfl (by decide) dX0_alikeAt_77 (lv2 := [(2, iv y2), (0, rf 1), (1, iv x1), (3, iv x3), (4, iv x4), (5, iv x5)]) (by rw [ey2]; rfl) ?_
    obtain ⟨o3, F⟩ := F
    refine v_iinc C 3 rfl (by decide) dX0_alikeAt_78 (lv2 := [(3, iv (x3 + 1)), (2, iv y2), (0, rf 1), (1, iv x1), (4, iv x4), (5, iv x5)]) rfl ?_
    refine v_goto C 4 dX0_alikeAt_81 (by decide) ?_
    refine v_sub (lv2 := [(0, rf 1), (1, iv x1), (2, iv y2), (3, iv (x3 + 1))]) [2, 3, 1, 0] rfl ?_
    exact F ⟨B, R1, Ry2, o3⟩
  · have F := F.2 (c1)
    refine v_iload C 4 rfl dX0_alikeAt_30 ?_
    refine v_aload_n C 0 rfl rfl dX0_alikeAt_32 ?_
    refine gX0_110 C (SX.ext E.1).k1 (SX.ext E.1).f21 dX0_alikeAt_33 ?_
    refine v_iload C 5 rfl dX0_alikeAt_36 ?_
    obtain ⟨o4, F⟩ := F
    obtain ⟨o5, F⟩ := F
    refine v_zald C (SX.ext E.1).k174 o4 (by rw [(SX.ext E.1).l174]; exact o5) rfl dX0_alikeAt_38 ?_
    refine v_if_eq C 61 (EX.rI B (j := x5) (SX.ext E.1).k174 rfl) dX0_alikeAt_39 (by decide) (fun c6 => ?_) (fun c6 => ?_)
    · have F := F.1 (c6)
      refine v_iconst C dX0_alikeAt_61 ?_
      refine v_iadd C dX0_alikeAt_62 ?_
      obtain ⟨o7, F⟩ := F
      obtain ⟨y8, ey8⟩ : ∃ z : Int, z = x4 + 0 := ⟨_, rfl⟩
      have F := F y8 ey8
      have Ry8 : R32 y8 := by rw [ey8]; exact o7
      refine v_istore C (by decide) dX0_alikeAt_63 (lv2 := [(4, iv y8), (0, rf 1), (1, iv x1), (2, iv x2), (3, iv x3), (5, iv x5)]) (by rw [ey8]; rfl) ?_
      obtain ⟨o9, F⟩ := F
      refine v_iinc C 5 rfl (by decide) dX0_alikeAt_65 (lv2 := [(5, iv (x5 + 1)), (4, iv y8), (0, rf 1), (1, iv x1), (2, iv x2), (3, iv x3)]) rfl ?_
      refine v_goto C 21 dX0_alikeAt_68 (by decide) ?_
      refine v_sub (lv2 := [(0, rf 1), (1, iv x1), (2, iv x2), (3, iv x3), (4, iv y8), (5, iv (x5 + 1))]) [2, 3, 4, 5, 1, 0] rfl ?_
      exact F ⟨B, R1, R2, R3, Ry8, o9⟩
    · have F := F.2 (c6)
      refine v_aload_n C 0 rfl rfl dX0_alikeAt_42 ?_
      refine gX0_114 C (SX.ext E.1).k1 (SX.ext E.1).f22 dX0_alikeAt_43 ?_
      refine v_iconst C dX0_alikeAt_46 ?_
      refine v_iload C 5 rfl dX0_alikeAt_47 ?_
      refine v_imul C dX0_alikeAt_49 ?_
      refine v_iload_n C 1 rfl rfl dX0_alikeAt_50 ?_
      refine v_iadd C dX0_alikeAt_51 ?_
      obtain ⟨o10, F⟩ := F
      obtain ⟨o11, F⟩ := F
      refine v_iald C (SX.ext E.1).k175 o10 (by rw [(SX.ext E.1).l175]; exact o11) rfl dX0_alikeAt_52 ?_
      refine v_iload_n C 3 rfl rfl dX0_alikeAt_53 ?_
      refine v_icmp_ne C 61 (EX.rI B (j := 4 * x5 + x1) (SX.ext E.1).k175 rfl) R3 dX0_alikeAt_54 (by decide) (fun c12 => ?_) (fun c12 => ?_)
      · have F := F.1 (c12)
        refine v_iconst C dX0_alikeAt_61 ?_
        refine v_iadd C dX0_alikeAt_62 ?_
        obtain ⟨o13, F⟩ := F
        obtain ⟨y14, ey14⟩ : ∃ z : Int, z = x4 + 0 := ⟨_, rfl⟩
        have F := F y14 ey14
        have Ry14 : R32 y14 := by rw [ey14]; exact o13
        refine v_istore C (by decide) dX0_alikeAt_63 (lv2 := [(4, iv y14), (0, rf 1), (1, iv x1), (2, iv x2), (3, iv x3), (5, iv x5)]) (by rw [ey14]; rfl) ?_
        obtain ⟨o15, F⟩ := F
        refine v_iinc C 5 rfl (by decide) dX0_alikeAt_65 (lv2 := [(5, iv (x5 + 1)), (4, iv y14), (0, rf 1), (1, iv x1), (2, iv x2), (3, iv x3)]) rfl ?_
        refine v_goto C 21 dX0_alikeAt_68 (by decide) ?_
        refine v_sub (lv2 := [(0, rf 1), (1, iv x1), (2, iv x2), (3, iv x3), (4, iv y14), (5, iv (x5 + 1))]) [2, 3, 4, 5, 1, 0] rfl ?_
        exact F ⟨B, R1, R2, R3, Ry14, o15⟩
      · have F := F.2 (c12)
        refine v_iconst C dX0_alikeAt_57 ?_
        refine v_goto C 62 dX0_alikeAt_58 (by decide) ?_
        refine v_iadd C dX0_alikeAt_62 ?_
        obtain ⟨o16, F⟩ := F
        obtain ⟨y17, ey17⟩ : ∃ z : Int, z = x4 + 1 := ⟨_, rfl⟩
        have F := F y17 ey17
        have Ry17 : R32 y17 := by rw [ey17]; exact o16
        refine v_istore C (by decide) dX0_alikeAt_63 (lv2 := [(4, iv y17), (0, rf 1), (1, iv x1), (2, iv x2), (3, iv x3), (5, iv x5)]) (by rw [ey17]; rfl) ?_
        obtain ⟨o18, F⟩ := F
        refine v_iinc C 5 rfl (by decide) dX0_alikeAt_65 (lv2 := [(5, iv (x5 + 1)), (4, iv y17), (0, rf 1), (1, iv x1), (2, iv x2), (3, iv x3)]) rfl ?_
        refine v_goto C 21 dX0_alikeAt_68 (by decide) ?_
        refine v_sub (lv2 := [(0, rf 1), (1, iv x1), (2, iv x2), (3, iv x3), (4, iv y17), (5, iv (x5 + 1))]) [2, 3, 4, 5, 1, 0] rfl ?_
        exact F ⟨B, R1, R2, R3, Ry17, o18⟩
set_option maxHeartbeats 1000000 in
theorem eX0_alikeAt {G : GT} {l : Launch} {x1 : Int} {h : Mem} {P : Int → Mem → Prop} (F : ∀ X : MX, Cx G X cX0_alikeAt 6 RX0 1 0 0 (some .int) "alikeAt" → X.2.1 = l → (EX h h ∧ R32 x1) →
    (EX h h ∧ R32 x1 ∧ R32 0 ∧ R32 (-1) → V G X 6 0 0 (QF G X 0 0 0 (PI h P)) 4 [(0, rf 1), (1, iv x1), (2, iv 0), (3, iv (-1))] [] h)) :
    kX0_alikeAt G l x1 h P := by
  intro R1
  refine ct_of (by decide +kernel) (Nat.le_of_ble_eq_true rfl) fun X C e => ?_
  refine v_okz fun O => ?_
  exact wX0_alikeAt_0 C ⟨EX.rf O, R1⟩ (F X C e ⟨EX.rf O, R1⟩)
def kX0_coat (G : GT) (l : Launch) (x1 x2 x3 : Int) (h : Mem) (P : Int → Mem → Prop) : Prop := R32 x1 → R32 x2 → R32 x3 → Ct G l yX0_coat cX0_coat 5 (some .int) 0 1 0 0 [rf 1, iv x1, iv x2, iv x3] h (PI h P)
set_option maxHeartbeats 4000000 in
theorem wX0_coat_0 {G : GT} {X : MX} {h0 h : Mem} {P : Int → Mem → Prop} {x1 x2 x3 : Int} (C : Cx G X cX0_coat 5 RX0 1 0 0 (some .int) "coat") (B0 : EX h0 h ∧ R32 x1 ∧ R32 x2 ∧ R32 x3)
    (F : XS h ∧ kX0_isCell G X.2.1 x1 h (fun r1 h2 => EX h h2 → ((r1 = 0 → P (-2) h2) ∧ (r1 ≠ 0 → ((x2 < 0 → P (-2) h2) ∧ (x2 ≥ 0 → h2 1 0 = 2 ∧ 0 ≤ x1 ∧ x1 < 16 ∧ ((x2 ≥ h2 13 x1 → P (-2) h2) ∧ (x2 < h2 13 x1 → kX0_in G X.2.1 x3 0 2 h2 (fun r13 h14 => EX h2 h14 → ((r13 ≠ 0 → h14 1 0 = 2 ∧ R32 (5 * x1 + h14 13 x1 - 1 - x2) ∧ ∀ y22 : Int, y22 = 5 * x1 + h14 13 x1 - 1 - x2 → ((x3 ≠ 0 → ((x3 ≠ 1 → 0 ≤ y22 ∧ y22 < 80 ∧ P (max (-1) (h14 15 y22)) h14) ∧ (x3 = 1 → 0 ≤ y22 ∧ y22 < 80 ∧ 0 ≤ h14 14 y22 ∧ h14 14 y22 < 4 ∧ P (h14 7 (h14 14 y22)) h14))) ∧ (x3 = 0 → 0 ≤ y22 ∧ y22 < 80 ∧ P (h14 14 y22) h14))) ∧ (r13 = 0 → P (-2) h14))))))))))) :
    V G X 5 0 0 (QF G X 0 0 0 (PI h0 P)) 0 [(0, rf 1), (1, iv x1), (2, iv x2), (3, iv x3)] [] h := by
  obtain ⟨B, R1, R2, R3⟩ := B0
  have E : EX h h := EX.rf B.2
  obtain ⟨SX, F⟩ := F
  refine v_aload_n C 0 rfl rfl dX0_coat_0 ?_
  refine v_iload_n C 1 rfl rfl dX0_coat_1 ?_
  refine mX0_172 C (SX.ext E.1).k1 (d2 := 0) (kc2 := 0) (ks2 := 0) (by decide) (Nat.le_refl _) (Nat.le_refl _) (Nat.le_of_ble_eq_true rfl) dX0_coat_2 (Ct.mono (F R1) ?_)
  rintro r1 h2 ⟨e3, g4, F⟩
  have F := F e3
  have B5 := B.tr e3
  have E6 := E.tr e3
  refine v_if_eq C 37 (bR g4) dX0_coat_5 (by decide) (fun c7 => ?_) (fun c7 => ?_)
  · have F := F.1 (c7)
    refine v_bipush C rfl dX0_coat_37 ?_
    exact v_iret C (Nat.le_refl _) (Nat.le_refl _) dX0_coat_39 ⟨B5, ⟨by decide, by decide⟩, F⟩
  · have F := F.2 (c7)
    refine v_iload_n C 2 rfl rfl dX0_coat_8 ?_
    refine v_if_lt C 37 R2 dX0_coat_9 (by decide) (fun c8 => ?_) (fun c8 => ?_)
    · have F := F.1 (c8)
      refine v_bipush C rfl dX0_coat_37 ?_
      exact v_iret C (Nat.le_refl _) (Nat.le_refl _) dX0_coat_39 ⟨B5, ⟨by decide, by decide⟩, F⟩
    · have F := F.2 (c8)
      refine v_iload_n C 2 rfl rfl dX0_coat_12 ?_
      refine v_aload_n C 0 rfl rfl dX0_coat_13 ?_
      obtain ⟨o9, F⟩ := F
      refine gX0_149 C (SX.ext E6.1).k1 o9 dX0_coat_14 ?_
      refine gX0_179 C ((SX.ext E6.1).t2).k ((SX.ext E6.1).t2).f23 dX0_coat_17 ?_
      refine v_iload_n C 1 rfl rfl dX0_coat_20 ?_
      obtain ⟨o10, F⟩ := F
      obtain ⟨o11, F⟩ := F
      refine v_iald C ((SX.ext E6.1).t2).k23 o10 (by rw [((SX.ext E6.1).t2).l23]; exact o11) rfl dX0_coat_21 ?_
      refine v_icmp_ge C 37 R2 (EX.rI B5 (j := x1) ((SX.ext E6.1).t2).k23 rfl) dX0_coat_22 (by decide) (fun c12 => ?_) (fun c12 => ?_)
      · have F := F.1 (c12)
        refine v_bipush C rfl dX0_coat_37 ?_
        exact v_iret C (Nat.le_refl _) (Nat.le_refl _) dX0_coat_39 ⟨B5, ⟨by decide, by decide⟩, F⟩
      · have F := F.2 (c12)
        refine v_iload_n C 3 rfl rfl dX0_coat_25 ?_
        refine v_i2l C R3 dX0_coat_26 ?_
        refine v_lconst C (x := 0) rfl dX0_coat_27 ?_
        refine v_ldc2 C (x := 2) q874 dX0_coat_28 ?_
        refine mX0_193 C (d2 := 0) (kc2 := 0) (ks2 := 0) (by decide) (Nat.le_refl _) (Nat.le_refl _) (Nat.le_of_ble_eq_true rfl) dX0_coat_31 (Ct.mono (F (R32.l R3) ⟨by decide, by decide⟩ ⟨by decide, by decide⟩) ?_)
        rintro r13 h14 ⟨e15, g16, F⟩
        have F := F e15
        have B17 := B5.tr e15
        have E18 := E6.tr e15
        refine v_if_ne C 40 (bR g16) dX0_coat_34 (by decide) (fun c19 => ?_) (fun c19 => ?_)
        · have F := F.1 (c19)
          refine v_iconst C dX0_coat_40 ?_
          refine v_iload_n C 1 rfl rfl dX0_coat_41 ?_
          refine v_imul C dX0_coat_42 ?_
          refine v_aload_n C 0 rfl rfl dX0_coat_43 ?_
          obtain ⟨o20, F⟩ := F
          refine gX0_149 C (SX.ext E18.1).k1 o20 dX0_coat_44 ?_
          refine gX0_179 C ((SX.ext E18.1).t2).k ((SX.ext E18.1).t2).f23 dX0_coat_47 ?_
          refine v_iload_n C 1 rfl rfl dX0_coat_50 ?_
          refine v_iald C ((SX.ext E18.1).t2).k23 o10 (by rw [((SX.ext E18.1).t2).l23]; exact o11) rfl dX0_coat_51 ?_
          refine v_iadd C dX0_coat_52 ?_
          refine v_iconst C dX0_coat_53 ?_
          refine v_isub C dX0_coat_54 ?_
          refine v_iload_n C 2 rfl rfl dX0_coat_55 ?_
          refine v_isub C dX0_coat_56 ?_
          obtain ⟨o21, F⟩ := F
          obtain ⟨y22, ey22⟩ : ∃ z : Int, z = 5 * x1 + h14 13 x1 - 1 - x2 := ⟨_, rfl⟩
          have F := F y22 ey22
          have Ry22 : R32 y22 := by rw [ey22]; exact o21
          refine v_istore C (by decide) dX0_coat_57 (lv2 := [(4, iv y22), (0, rf 1), (1, iv x1), (2, iv x2), (3, iv x3)]) (by rw [ey22]; rfl) ?_
          refine v_iload_n C 4 rfl rfl dX0_coat_59 ?_
          refine v_if_ne C 76 R3 dX0_coat_60 (by decide) (fun c23 => ?_) (fun c23 => ?_)
          · have F := F.1 (c23)
            refine v_iload_n C 4 rfl rfl dX0_coat_76 ?_
            refine v_iconst C dX0_coat_77 ?_
            refine v_icmp_ne C 102 R3 ⟨by decide, by decide⟩ dX0_coat_78 (by decide) (fun c24 => ?_) (fun c24 => ?_)
            · have F := F.1 (c24)
              refine v_iconst C dX0_coat_102 ?_
              refine v_aload_n C 1 rfl rfl dX0_coat_103 ?_
              refine gX0_149 C (SX.ext E18.1).k1 o20 dX0_coat_104 ?_
              refine gX0_203 C ((SX.ext E18.1).t2).k ((SX.ext E18.1).t2).f25 dX0_coat_107 ?_
              refine v_iload C 0 rfl dX0_coat_110 ?_
              obtain ⟨o25, F⟩ := F
              obtain ⟨o26, F⟩ := F
              refine v_iald C ((SX.ext E18.1).t2).k25 o25 (by rw [((SX.ext E18.1).t2).l25]; exact o26) rfl dX0_coat_112 ?_
              refine v_mmax C ⟨by decide, by decide⟩ (EX.rI B17 (j := y22) ((SX.ext E18.1).t2).k25 rfl) q876 q877 q142 q878 (by decide) (Nat.le_refl _) (Nat.le_refl _) (Nat.le_of_ble_eq_true rfl) dX0_coat_113 ?_
              exact v_iret C (Nat.le_refl _) (Nat.le_refl _) dX0_coat_116 ⟨B17, (maxR ⟨by decide, by decide⟩ (EX.rI B17 (j := y22) ((SX.ext E18.1).t2).k25 rfl)), F⟩
            · have F := F.2 (c24)
              refine v_aload_n C 1 rfl rfl dX0_coat_81 ?_
              refine gX0_149 C (SX.ext E18.1).k1 o20 dX0_coat_82 ?_
              refine gX0_200 C ((SX.ext E18.1).t2).k ((SX.ext E18.1).t2).f17 dX0_coat_85 ?_
              refine v_aload_n C 1 rfl rfl dX0_coat_88 ?_
              refine gX0_149 C (SX.ext E18.1).k1 o20 dX0_coat_89 ?_
              refine gX0_197 C ((SX.ext E18.1).t2).k ((SX.ext E18.1).t2).f24 dX0_coat_92 ?_
              refine v_iload C 0 rfl dX0_coat_95 ?_
              obtain ⟨o27, F⟩ := F
              obtain ⟨o28, F⟩ := F
              refine v_iald C ((SX.ext E18.1).t2).k24 o27 (by rw [((SX.ext E18.1).t2).l24]; exact o28) rfl dX0_coat_97 ?_
              obtain ⟨o29, F⟩ := F
              obtain ⟨o30, F⟩ := F
              refine v_iald C ((SX.ext E18.1).t2).k17 o29 (by rw [((SX.ext E18.1).t2).l17]; exact o30) rfl dX0_coat_98 ?_
              refine v_goto C 116 dX0_coat_99 (by decide) ?_
              exact v_iret C (Nat.le_refl _) (Nat.le_refl _) dX0_coat_116 ⟨B17, (EX.rI B17 (j := h14 14 y22) ((SX.ext E18.1).t2).k17 rfl), F⟩
          · have F := F.2 (c23)
            refine v_aload_n C 1 rfl rfl dX0_coat_63 ?_
            refine gX0_149 C (SX.ext E18.1).k1 o20 dX0_coat_64 ?_
            refine gX0_197 C ((SX.ext E18.1).t2).k ((SX.ext E18.1).t2).f24 dX0_coat_67 ?_
            refine v_iload C 0 rfl dX0_coat_70 ?_
            obtain ⟨o31, F⟩ := F
            obtain ⟨o32, F⟩ := F
            refine v_iald C ((SX.ext E18.1).t2).k24 o31 (by rw [((SX.ext E18.1).t2).l24]; exact o32) rfl dX0_coat_72 ?_
            refine v_goto C 116 dX0_coat_73 (by decide) ?_
            exact v_iret C (Nat.le_refl _) (Nat.le_refl _) dX0_coat_116 ⟨B17, (EX.rI B17 (j := y22) ((SX.ext E18.1).t2).k24 rfl), F⟩
        · have F := F.2 (c19)
          refine v_bipush C rfl dX0_coat_37 ?_
          exact v_iret C (Nat.le_refl _) (Nat.le_refl _) dX0_coat_39 ⟨B17, ⟨by decide, by decide⟩, F⟩
set_option maxHeartbeats 1000000 in
theorem eX0_coat {G : GT} {l : Launch} {x1 x2 x3 : Int} {h : Mem} {P : Int → Mem → Prop} (F : ∀ X : MX, Cx G X cX0_coat 5 RX0 1 0 0 (some .int) "coat" → X.2.1 = l → (EX h h ∧ R32 x1 ∧ R32 x2 ∧ R32 x3) →
    XS h ∧ kX0_isCell G X.2.1 x1 h (fun r1 h2 => EX h h2 → ((r1 = 0 → P (-2) h2) ∧ (r1 ≠ 0 → ((x2 < 0 → P (-2) h2) ∧ (x2 ≥ 0 → h2 1 0 = 2 ∧ 0 ≤ x1 ∧ x1 < 16 ∧ ((x2 ≥ h2 13 x1 → P (-2) h2) ∧ (x2 < h2 13 x1 → kX0_in G X.2.1 x3 0 2 h2 (fun r13 h14 => EX h2 h14 → ((r13 ≠ 0 → h14 1 0 = 2 ∧ R32 (5 * x1 + h14 13 x1 - 1 - x2) ∧ ∀ y22 : Int, y22 = 5 * x1 + h14 13 x1 - 1 - x2 → ((x3 ≠ 0 → ((x3 ≠ 1 → 0 ≤ y22 ∧ y22 < 80 ∧ P (max (-1) (h14 15 y22)) h14) ∧ (x3 = 1 → 0 ≤ y22 ∧ y22 < 80 ∧ 0 ≤ h14 14 y22 ∧ h14 14 y22 < 4 ∧ P (h14 7 (h14 14 y22)) h14))) ∧ (x3 = 0 → 0 ≤ y22 ∧ y22 < 80 ∧ P (h14 14 y22) h14))) ∧ (r13 = 0 → P (-2) h14))))))))))) :
    kX0_coat G l x1 x2 x3 h P := by
  intro R1 R2 R3
  refine ct_of (by decide +kernel) (Nat.le_of_ble_eq_true rfl) fun X C e => ?_
  refine v_okz fun O => ?_
  exact wX0_coat_0 C ⟨EX.rf O, R1, R2, R3⟩ (F X C e ⟨EX.rf O, R1, R2, R3⟩)
def kX0_count (G : GT) (l : Launch) (x1 : Int) (h : Mem) (P : Int → Mem → Prop) : Prop := R32 x1 → Ct G l yX0_count cX0_count 4 (some .int) 0 1 0 0 [rf 1, iv x1] h (PI h P)
set_option maxHeartbeats 4000000 in
theorem wX0_count_0 {G : GT} {X : MX} {h0 h : Mem} {P : Int → Mem → Prop} {x1 : Int} (C : Cx G X cX0_count 4 RX0 1 0 0 (some .int) "count") (B0 : EX h0 h ∧ R32 x1)
    (F : XS h ∧ ((x1 = 7 → P (h 1 16) h) ∧ (x1 = 8 → P (h 1 8) h) ∧ (x1 = 14 → P (h 1 7) h) ∧ (x1 = 15 → P (h 1 11) h) ∧ (x1 ≠ 7 ∧ x1 ≠ 8 ∧ x1 ≠ 14 ∧ x1 ≠ 15 → kX0_in G X.2.1 x1 0 15 h (fun r5 h6 => EX h h6 → ((r5 ≠ 0 → ((h6 1 0 ≠ 0 → ((x1 = 0 → h6 1 0 = 2 ∧ P (h6 2 0) h6) ∧ (x1 = 1 → h6 1 0 = 2 ∧ P (h6 2 1) h6) ∧ (x1 = 2 → h6 1 0 = 2 ∧ P (h6 2 2) h6) ∧ (x1 = 3 → h6 1 0 = 2 ∧ P (h6 2 3) h6) ∧ (x1 = 4 → h6 1 0 = 2 ∧ P (h6 2 4) h6) ∧ (x1 = 5 → h6 1 0 = 2 ∧ P (h6 2 5) h6) ∧ (x1 = 6 → h6 1 0 = 2 ∧ P (h6 2 7) h6) ∧ (x1 = 9 → h6 1 0 = 2 ∧ P (h6 2 11) h6) ∧ (x1 = 10 → (EX h0 h6 ∧ R32 0 ∧ R32 0 → V G X 4 0 0 (QF G X 0 0 0 (PI h0 P)) 230 [(0, rf 1), (2, iv 0), (3, iv 0)] [] h6)) ∧ (x1 = 11 → h6 1 0 = 2 ∧ P (h6 2 12) h6) ∧ (x1 = 12 → h6 1 0 = 2 ∧ P (h6 2 8) h6) ∧ (x1 ≠ 0 ∧ x1 ≠ 1 ∧ x1 ≠ 2 ∧ x1 ≠ 3 ∧ x1 ≠ 4 ∧ x1 ≠ 5 ∧ x1 ≠ 6 ∧ x1 ≠ 9 ∧ x1 ≠ 10 ∧ x1 ≠ 11 ∧ x1 ≠ 12 → h6 1 0 = 2 ∧ P (h6 2 9) h6))) ∧ (h6 1 0 = 0 → P 0 h6))) ∧ (r5 = 0 → P (-1) h6)))))) :
    V G X 4 0 0 (QF G X 0 0 0 (PI h0 P)) 0 [(0, rf 1), (1, iv x1)] [] h := by
  obtain ⟨B, R1⟩ := B0
  have E : EX h h := EX.rf B.2
  obtain ⟨SX, F⟩ := F
  refine v_iload_n C 1 rfl rfl dX0_count_0 ?_
  by_cases c1 : x1 = 7
  · have F := F.1 c1
    refine v_tableIn C 52 7 ⟨by decide, by decide⟩ c1 dX0_count_1 (by decide) (by decide) rfl (by decide) ?_
    refine v_aload_n C 0 rfl rfl dX0_count_52 ?_
    refine gX0_159 C (SX.ext E.1).k1 rfl dX0_count_53 ?_
    exact v_iret C (Nat.le_refl _) (Nat.le_refl _) dX0_count_56 ⟨B, (EX.rI B (j := 16) (SX.ext E.1).k1 rfl), F⟩
  by_cases c2 : x1 = 8
  · have F := F.2.1 c2
    refine v_tableIn C 57 8 ⟨by decide, by decide⟩ c2 dX0_count_1 (by decide) (by decide) rfl (by decide) ?_
    refine v_aload_n C 0 rfl rfl dX0_count_57 ?_
    refine gX0_35 C (SX.ext E.1).k1 rfl dX0_count_58 ?_
    exact v_iret C (Nat.le_refl _) (Nat.le_refl _) dX0_count_61 ⟨B, (EX.rI B (j := 8) (SX.ext E.1).k1 rfl), F⟩
  by_cases c3 : x1 = 14
  · have F := F.2.2.1 c3
    refine v_tableIn C 62 14 ⟨by decide, by decide⟩ c3 dX0_count_1 (by decide) (by decide) rfl (by decide) ?_
    refine v_aload_n C 0 rfl rfl dX0_count_62 ?_
    refine gX0_373 C (SX.ext E.1).k1 rfl dX0_count_63 ?_
    exact v_iret C (Nat.le_refl _) (Nat.le_refl _) dX0_count_66 ⟨B, (EX.rI B (j := 7) (SX.ext E.1).k1 rfl), F⟩
  by_cases c4 : x1 = 15
  · have F := F.2.2.2.1 c4
    refine v_tableIn C 67 15 ⟨by decide, by decide⟩ c4 dX0_count_1 (by decide) (by decide) rfl (by decide) ?_
    refine v_aload_n C 0 rfl rfl dX0_count_67 ?_
    refine gX0_123 C (SX.ext E.1).k1 rfl dX0_count_68 ?_
    exact v_iret C (Nat.le_refl _) (Nat.le_refl _) dX0_count_71 ⟨B, (EX.rI B (j := 11) (SX.ext E.1).k1 rfl), F⟩
  have F := F.2.2.2.2 (by refine ⟨by assumption, by assumption, by assumption, by assumption⟩)
  have K40 : V G X 4 0 0 (QF G X 0 0 0 (PI h0 P)) 72 [(0, rf 1), (1, iv x1)] [] h := by
    refine v_iload_n C 1 rfl rfl dX0_count_72 ?_
    refine v_i2l C R1 dX0_count_73 ?_
    refine v_lconst C (x := 0) rfl dX0_count_74 ?_
    refine v_ldc2 C (x := 15) q1185 dX0_count_75 ?_
    refine mX0_193 C (d2 := 0) (kc2 := 0) (ks2 := 0) (by decide) (Nat.le_refl _) (Nat.le_refl _) (Nat.le_of_ble_eq_true rfl) dX0_count_78 (Ct.mono (F (R32.l R1) ⟨by decide, by decide⟩ ⟨by decide, by decide⟩) ?_)
    rintro r5 h6 ⟨e7, g8, F⟩
    have F := F e7
    have B9 := B.tr e7
    have E10 := E.tr e7
    refine v_if_ne C 86 (bR g8) dX0_count_81 (by decide) (fun c11 => ?_) (fun c11 => ?_)
    · have F := F.1 (c11)
      refine v_aload_n C 0 rfl rfl dX0_count_86 ?_
      refine gX0_149 C (SX.ext E10.1).k1 rfl dX0_count_87 ?_
      refine v_ifnonnull C 95 dX0_count_90 (by decide) (fun c12 => ?_) (fun c12 => ?_)
      · have F := F.1 c12
        refine v_iconst C dX0_count_95 ?_
        refine v_istore_n C rfl (by decide) dX0_count_96 (lv2 := [(2, iv 0), (0, rf 1), (1, iv x1)]) rfl ?_
        refine v_iload_n C 2 rfl rfl dX0_count_97 ?_
        by_cases c14 : x1 = 0
        · have F := F.1 c14
          refine v_tableIn C 164 0 ⟨by decide, by decide⟩ c14 dX0_count_98 (by decide) (by decide) rfl (by decide) ?_
          refine v_aload_n C 1 rfl rfl dX0_count_164 ?_
          obtain ⟨o13, F⟩ := F
          refine gX0_149 C (SX.ext E10.1).k1 o13 dX0_count_165 ?_
          refine gX0_319 C ((SX.ext E10.1).t2).k rfl dX0_count_168 ?_
          exact v_iret C (Nat.le_refl _) (Nat.le_refl _) dX0_count_171 ⟨B9, (EX.rI B9 (j := 0) ((SX.ext E10.1).t2).k rfl), F⟩
        by_cases c16 : x1 = 1
        · have F := F.2.1 c16
          refine v_tableIn C 172 1 ⟨by decide, by decide⟩ c16 dX0_count_98 (by decide) (by decide) rfl (by decide) ?_
          refine v_aload_n C 1 rfl rfl dX0_count_172 ?_
          obtain ⟨o15, F⟩ := F
          refine gX0_149 C (SX.ext E10.1).k1 o15 dX0_count_173 ?_
          refine gX0_340 C ((SX.ext E10.1).t2).k rfl dX0_count_176 ?_
          exact v_iret C (Nat.le_refl _) (Nat.le_refl _) dX0_count_179 ⟨B9, (EX.rI B9 (j := 1) ((SX.ext E10.1).t2).k rfl), F⟩
        by_cases c18 : x1 = 2
        · have F := F.2.2.1 c18
          refine v_tableIn C 180 2 ⟨by decide, by decide⟩ c18 dX0_count_98 (by decide) (by decide) rfl (by decide) ?_
          refine v_aload_n C 1 rfl rfl dX0_count_180 ?_
          obtain ⟨o17, F⟩ := F
          refine gX0_149 C (SX.ext E10.1).k1 o17 dX0_count_181 ?_
          refine gX0_396 C ((SX.ext E10.1).t2).k rfl dX0_count_184 ?_
          exact v_iret C (Nat.le_refl _) (Nat.le_refl _) dX0_count_187 ⟨B9, (EX.rI B9 (j := 2) ((SX.ext E10.1).t2).k rfl), F⟩
        by_cases c20 : x1 = 3
        · have F := F.2.2.2.1 c20
          refine v_tableIn C 188 3 ⟨by decide, by decide⟩ c20 dX0_count_98 (by decide) (by decide) rfl (by decide) ?_
          refine v_aload_n C 1 rfl rfl dX0_count_188 ?_
          obtain ⟨o19, F⟩ := F
          refine gX0_149 C (SX.ext E10.1).k1 o19 dX0_count_189 ?_
          refine gX0_166 C ((SX.ext E10.1).t2).k rfl dX0_count_192 ?_
          exact v_iret C (Nat.le_refl _) (Nat.le_refl _) dX0_count_195 ⟨B9, (EX.rI B9 (j := 3) ((SX.ext E10.1).t2).k rfl), F⟩
        by_cases c22 : x1 = 4
        · have F := F.2.2.2.2.1 c22
          refine v_tableIn C 196 4 ⟨by decide, by decide⟩ c22 dX0_count_98 (by decide) (by decide) rfl (by decide) ?_
          refine v_aload_n C 1 rfl rfl dX0_count_196 ?_
          obtain ⟨o21, F⟩ := F
          refine gX0_149 C (SX.ext E10.1).k1 o21 dX0_count_197 ?_
          refine gX0_152 C ((SX.ext E10.1).t2).k rfl dX0_count_200 ?_
          exact v_iret C (Nat.le_refl _) (Nat.le_refl _) dX0_count_203 ⟨B9, (EX.rI B9 (j := 4) ((SX.ext E10.1).t2).k rfl), F⟩
        by_cases c24 : x1 = 5
        · have F := F.2.2.2.2.2.1 c24
          refine v_tableIn C 204 5 ⟨by decide, by decide⟩ c24 dX0_count_98 (by decide) (by decide) rfl (by decide) ?_
          refine v_aload_n C 1 rfl rfl dX0_count_204 ?_
          obtain ⟨o23, F⟩ := F
          refine gX0_149 C (SX.ext E10.1).k1 o23 dX0_count_205 ?_
          refine gX0_169 C ((SX.ext E10.1).t2).k rfl dX0_count_208 ?_
          exact v_iret C (Nat.le_refl _) (Nat.le_refl _) dX0_count_211 ⟨B9, (EX.rI B9 (j := 5) ((SX.ext E10.1).t2).k rfl), F⟩
        by_cases c26 : x1 = 6
        · have F := F.2.2.2.2.2.2.1 c26
          refine v_tableIn C 212 6 ⟨by decide, by decide⟩ c26 dX0_count_98 (by decide) (by decide) rfl (by decide) ?_
          refine v_aload_n C 1 rfl rfl dX0_count_212 ?_
          obtain ⟨o25, F⟩ := F
          refine gX0_149 C (SX.ext E10.1).k1 o25 dX0_count_213 ?_
          refine gX0_399 C ((SX.ext E10.1).t2).k rfl dX0_count_216 ?_
          exact v_iret C (Nat.le_refl _) (Nat.le_refl _) dX0_count_219 ⟨B9, (EX.rI B9 (j := 7) ((SX.ext E10.1).t2).k rfl), F⟩
        by_cases c28 : x1 = 9
        · have F := F.2.2.2.2.2.2.2.1 c28
          refine v_tableIn C 220 9 ⟨by decide, by decide⟩ c28 dX0_count_98 (by decide) (by decide) rfl (by decide) ?_
          refine v_aload_n C 1 rfl rfl dX0_count_220 ?_
          obtain ⟨o27, F⟩ := F
          refine gX0_149 C (SX.ext E10.1).k1 o27 dX0_count_221 ?_
          refine gX0_257 C ((SX.ext E10.1).t2).k rfl dX0_count_224 ?_
          exact v_iret C (Nat.le_refl _) (Nat.le_refl _) dX0_count_227 ⟨B9, (EX.rI B9 (j := 11) ((SX.ext E10.1).t2).k rfl), F⟩
        by_cases c29 : x1 = 10
        · have F := F.2.2.2.2.2.2.2.2.1 c29
          refine v_tableIn C 228 10 ⟨by decide, by decide⟩ c29 dX0_count_98 (by decide) (by decide) rfl (by decide) ?_
          refine v_iconst C dX0_count_228 ?_
          refine v_istore_n C rfl (by decide) dX0_count_229 (lv2 := [(3, iv 0), (2, iv 0), (0, rf 1), (1, iv x1)]) rfl ?_
          refine v_sub (lv2 := [(0, rf 1), (2, iv 0), (3, iv 0)]) [2, 1, 0] rfl ?_
          exact F ⟨B9, ⟨by decide, by decide⟩, ⟨by decide, by decide⟩⟩
        by_cases c31 : x1 = 11
        · have F := F.2.2.2.2.2.2.2.2.2.1 c31
          refine v_tableIn C 270 11 ⟨by decide, by decide⟩ c31 dX0_count_98 (by decide) (by decide) rfl (by decide) ?_
          refine v_aload_n C 1 rfl rfl dX0_count_270 ?_
          obtain ⟨o30, F⟩ := F
          refine gX0_149 C (SX.ext E10.1).k1 o30 dX0_count_271 ?_
          refine gX0_225 C ((SX.ext E10.1).t2).k rfl dX0_count_274 ?_
          exact v_iret C (Nat.le_refl _) (Nat.le_refl _) dX0_count_277 ⟨B9, (EX.rI B9 (j := 12) ((SX.ext E10.1).t2).k rfl), F⟩
        by_cases c33 : x1 = 12
        · have F := F.2.2.2.2.2.2.2.2.2.2.1 c33
          refine v_tableIn C 278 12 ⟨by decide, by decide⟩ c33 dX0_count_98 (by decide) (by decide) rfl (by decide) ?_
          refine v_aload_n C 1 rfl rfl dX0_count_278 ?_
          obtain ⟨o32, F⟩ := F
          refine gX0_149 C (SX.ext E10.1).k1 o32 dX0_count_279 ?_
          refine gX0_352 C ((SX.ext E10.1).t2).k rfl dX0_count_282 ?_
          exact v_iret C (Nat.le_refl _) (Nat.le_refl _) dX0_count_285 ⟨B9, (EX.rI B9 (j := 8) ((SX.ext E10.1).t2).k rfl), F⟩
        have F := F.2.2.2.2.2.2.2.2.2.2.2 (by refine ⟨by assumption, by assumption, by assumption, by assumption, by assumption, by assumption, by assumption, by assumption, by assumption, by assumption, by assumption⟩)
        have K36 : V G X 4 0 0 (QF G X 0 0 0 (PI h0 P)) 286 [(2, iv 0), (0, rf 1), (1, iv x1)] [] h6 := by
          refine v_aload_n C 1 rfl rfl dX0_count_286 ?_
          obtain ⟨o34, F⟩ := F
          refine gX0_149 C (SX.ext E10.1).k1 o34 dX0_count_287 ?_
          refine gX0_239 C ((SX.ext E10.1).t2).k rfl dX0_count_290 ?_
          exact v_iret C (Nat.le_refl _) (Nat.le_refl _) dX0_count_293 ⟨B9, (EX.rI B9 (j := 9) ((SX.ext E10.1).t2).k rfl), F⟩
        by_cases c37 : x1 = 7
        · exact v_tableIn C 286 7 ⟨by decide, by decide⟩ c37 dX0_count_98 (by decide) (by decide) rfl (by decide) K36
        by_cases c38 : x1 = 8
        · exact v_tableIn C 286 8 ⟨by decide, by decide⟩ c38 dX0_count_98 (by decide) (by decide) rfl (by decide) K36
        exact v_tableOut C 286 R1 (by omega) dX0_count_98 (by decide) K36
      · have F := F.2 c12
        refine v_iconst C dX0_count_93 ?_
        exact v_iret C (Nat.le_refl _) (Nat.le_refl _) dX0_count_94 ⟨B9, ⟨by decide, by decide⟩, F⟩
    · have F := F.2 (c11)
      refine v_iconst C dX0_count_84 ?_
      exact v_iret C (Nat.le_refl _) (Nat.le_refl _) dX0_count_85 ⟨B9, ⟨by decide, by decide⟩, F⟩
  by_cases c41 : x1 = 9
  · exact v_tableIn C 72 9 ⟨by decide, by decide⟩ c41 dX0_count_1 (by decide) (by decide) rfl (by decide) K40
  by_cases c42 : x1 = 10
  · exact v_tableIn C 72 10 ⟨by decide, by decide⟩ c42 dX0_count_1 (by decide) (by decide) rfl (by decide) K40
  by_cases c43 : x1 = 11
  · exact v_tableIn C 72 11 ⟨by decide, by decide⟩ c43 dX0_count_1 (by decide) (by decide) rfl (by decide) K40
  by_cases c44 : x1 = 12
  · exact v_tableIn C 72 12 ⟨by decide, by decide⟩ c44 dX0_count_1 (by decide) (by decide) rfl (by decide) K40
  by_cases c45 : x1 = 13
  · exact v_tableIn C 72 13 ⟨by decide, by decide⟩ c45 dX0_count_1 (by decide) (by decide) rfl (by decide) K40
  exact v_tableOut C 72 R1 (by omega) dX0_count_1 (by decide) K40
set_option maxHeartbeats 4000000 in
theorem wX0_count_L230 {G : GT} {X : MX} {h0 h : Mem} {P : Int → Mem → Prop} {x2 x3 : Int} (C : Cx G X cX0_count 4 RX0 1 0 0 (some .int) "count") (B0 : EX h0 h ∧ R32 x2 ∧ R32 x3)
    (F : XS h ∧ h 1 0 = 2 ∧ ((x3 ≥ h 2 4 → P x2 h) ∧ (x3 < h 2 4 → kX1_isWet G X.2.1 2 x3 h (fun r3 h4 => EX h h4 → ((r3 = 0 → ∀ y10 : Int, y10 = bOr x2 0 → R32 (x3 + 1) ∧ (EX h0 h4 ∧ R32 y10 ∧ R32 (x3 + 1) → V G X 4 0 0 (QF G X 0 0 0 (PI h0 P)) 230 [(0, rf 1), (2, iv y10), (3, iv (x3 + 1))] [] h4)) ∧ (r3 ≠ 0 → ∀ y12 : Int, y12 = bOr x2 (bShl 1 x3) → R32 (x3 + 1) ∧ (EX h0 h4 ∧ R32 y12 ∧ R32 (x3 + 1) → V G X 4 0 0 (QF G X 0 0 0 (PI h0 P)) 230 [(0, rf 1), (2, iv y12), (3, iv (x3 + 1))] [] h4))))))) :
    V G X 4 0 0 (QF G X 0 0 0 (PI h0 P)) 230 [(0, rf 1), (2, iv x2), (3, iv x3)] [] h := by
  obtain ⟨B, R2, R3⟩ := B0
  have E : EX h h := EX.rf B.2
  obtain ⟨SX, F⟩ := F
  refine v_iload_n C 2 rfl rfl dX0_count_230 ?_
  refine v_aload_n C 0 rfl rfl dX0_count_231 ?_
  obtain ⟨o1, F⟩ := F
  refine gX0_149 C (SX.ext E.1).k1 o1 dX0_count_232 ?_
  refine gX0_152 C ((SX.ext E.1).t2).k rfl dX0_count_235 ?_
  refine v_icmp_ge C 268 R3 (EX.rI B (j := 4) ((SX.ext E.1).t2).k rfl) dX0_count_238 (by decide) (fun c2 => ?_) (fun c2 => ?_)
  · have F := F.1 (c2)
    refine v_iload_n C 1 rfl rfl dX0_count_268 ?_
    exact v_iret C (Nat.le_refl _) (Nat.le_refl _) dX0_count_269 ⟨B, R2, F⟩
  · have F := F.2 (c2)
    refine v_iload_n C 1 rfl rfl dX0_count_241 ?_
    refine v_aload_n C 0 rfl rfl dX0_count_242 ?_
    refine gX0_149 C (SX.ext E.1).k1 o1 dX0_count_243 ?_
    refine v_iload_n C 2 rfl rfl dX0_count_246 ?_
    refine mX0_188 C ((SX.ext E.1).t2).k (d2 := 0) (kc2 := 0) (ks2 := 0) (by decide) (Nat.le_refl _) (Nat.le_refl _) (Nat.le_of_ble_eq_true rfl) dX0_count_247 (Ct.mono (F R3) ?_)
    rintro r3 h4 ⟨e5, g6, F⟩
    have F := F e5
    have B7 := B.tr e5
    have E8 := E.tr e5
    refine v_if_eq C 259 (bR g6) dX0_count_250 (by decide) (fun c9 => ?_) (fun c9 => ?_)
    · have F := F.1 (c9)
      refine v_iconst C dX0_count_259 ?_
      refine v_ior C dX0_count_260 ?_
      obtain ⟨y10, ey10⟩ : ∃ z : Int, z = bOr x2 0 := ⟨_, rfl⟩
      have F := F y10 ey10
      have Ry10 : R32 y10 := by rw [ey10]; exact (R32_toInt _)
      refine v_istore_n C rfl (by decide) dX0_count_261 (lv2 := [(2, iv y10), (0, rf 1), (3, iv x3)]) (by rw [ey10]; rfl) ?_
      obtain ⟨o11, F⟩ := F
      refine v_iinc C 2 rfl (by decide) dX0_count_262 (lv2 := [(3, iv (x3 + 1)), (2, iv y10), (0, rf 1)]) rfl ?_
      refine v_goto C 230 dX0_count_265 (by decide) ?_
      refine v_sub (lv2 := [(0, rf 1), (2, iv y10), (3, iv (x3 + 1))]) [2, 1, 0] rfl ?_
      exact F ⟨B7, Ry10, o11⟩
    · have F := F.2 (c9)
      refine v_iconst C dX0_count_253 ?_
      refine v_iload_n C 2 rfl rfl dX0_count_254 ?_
      refine v_ishl C dX0_count_255 ?_
      refine v_goto C 260 dX0_count_256 (by decide) ?_
      refine v_ior C dX0_count_260 ?_
      obtain ⟨y12, ey12⟩ : ∃ z : Int, z = bOr x2 (bShl 1 x3) := ⟨_, rfl⟩
      have F := F y12 ey12
      have Ry12 : R32 y12 := by rw [ey12]; exact (R32_toInt _)
      refine v_istore_n C rfl (by decide) dX0_count_261 (lv2 := [(2, iv y12), (0, rf 1), (3, iv x3)]) (by rw [ey12]; rfl) ?_
      obtain ⟨o13, F⟩ := F
      refine v_iinc C 2 rfl (by decide) dX0_count_262 (lv2 := [(3, iv (x3 + 1)), (2, iv y12), (0, rf 1)]) rfl ?_
      refine v_goto C 230 dX0_count_265 (by decide) ?_
      refine v_sub (lv2 := [(0, rf 1), (2, iv y12), (3, iv (x3 + 1))]) [2, 1, 0] rfl ?_
      exact F ⟨B7, Ry12, o13⟩
set_option maxHeartbeats 1000000 in
theorem eX0_count {G : GT} {l : Launch} {x1 : Int} {h : Mem} {P : Int → Mem → Prop} (F : ∀ X : MX, Cx G X cX0_count 4 RX0 1 0 0 (some .int) "count" → X.2.1 = l → (EX h h ∧ R32 x1) →
    XS h ∧ ((x1 = 7 → P (h 1 16) h) ∧ (x1 = 8 → P (h 1 8) h) ∧ (x1 = 14 → P (h 1 7) h) ∧ (x1 = 15 → P (h 1 11) h) ∧ (x1 ≠ 7 ∧ x1 ≠ 8 ∧ x1 ≠ 14 ∧ x1 ≠ 15 → kX0_in G X.2.1 x1 0 15 h (fun r5 h6 => EX h h6 → ((r5 ≠ 0 → ((h6 1 0 ≠ 0 → ((x1 = 0 → h6 1 0 = 2 ∧ P (h6 2 0) h6) ∧ (x1 = 1 → h6 1 0 = 2 ∧ P (h6 2 1) h6) ∧ (x1 = 2 → h6 1 0 = 2 ∧ P (h6 2 2) h6) ∧ (x1 = 3 → h6 1 0 = 2 ∧ P (h6 2 3) h6) ∧ (x1 = 4 → h6 1 0 = 2 ∧ P (h6 2 4) h6) ∧ (x1 = 5 → h6 1 0 = 2 ∧ P (h6 2 5) h6) ∧ (x1 = 6 → h6 1 0 = 2 ∧ P (h6 2 7) h6) ∧ (x1 = 9 → h6 1 0 = 2 ∧ P (h6 2 11) h6) ∧ (x1 = 10 → (EX h h6 ∧ R32 0 ∧ R32 0 → V G X 4 0 0 (QF G X 0 0 0 (PI h P)) 230 [(0, rf 1), (2, iv 0), (3, iv 0)] [] h6)) ∧ (x1 = 11 → h6 1 0 = 2 ∧ P (h6 2 12) h6) ∧ (x1 = 12 → h6 1 0 = 2 ∧ P (h6 2 8) h6) ∧ (x1 ≠ 0 ∧ x1 ≠ 1 ∧ x1 ≠ 2 ∧ x1 ≠ 3 ∧ x1 ≠ 4 ∧ x1 ≠ 5 ∧ x1 ≠ 6 ∧ x1 ≠ 9 ∧ x1 ≠ 10 ∧ x1 ≠ 11 ∧ x1 ≠ 12 → h6 1 0 = 2 ∧ P (h6 2 9) h6))) ∧ (h6 1 0 = 0 → P 0 h6))) ∧ (r5 = 0 → P (-1) h6)))))) :
    kX0_count G l x1 h P := by
  intro R1
  refine ct_of (by decide +kernel) (Nat.le_of_ble_eq_true rfl) fun X C e => ?_
  refine v_okz fun O => ?_
  exact wX0_count_0 C ⟨EX.rf O, R1⟩ (F X C e ⟨EX.rf O, R1⟩)
def kX0_feed (G : GT) (l : Launch) (x1 x2 x3 x4 x5 : Int) (h : Mem) (P : Int → Mem → Prop) : Prop := R32 x1 → R32 x2 → R32 x3 → R32 x4 → R32 x5 → Ct G l yX0_feed cX0_feed 6 (some .int) 0 1 0 0 [rf 1, iv x1, iv x2, iv x3, iv x4, iv x5] h (PI h P)
set_option maxHeartbeats 4000000 in
theorem wX0_feed_0 {G : GT} {X : MX} {h0 h : Mem} {P : Int → Mem → Prop} {x1 x2 x3 x4 x5 : Int} (C : Cx G X cX0_feed 6 RX0 1 0 0 (some .int) "feed") (B0 : EX h0 h ∧ R32 x1 ∧ R32 x2 ∧ R32 x3 ∧ R32 x4 ∧ R32 x5)
    (F : XS h ∧ R32 (h 1 11 + 20) ∧ ((h 1 11 + 20 ≤ 400 → kX0_four G X.2.1 x1 h (fun _ h4 => EX h h4 → kX0_four G X.2.1 x2 h4 (fun _ h10 => EX h4 h10 → kX0_four G X.2.1 x3 h10 (fun _ h16 => EX h10 h16 → kX0_four G X.2.1 x4 h16 (fun _ h22 => EX h16 h22 → kX0_four G X.2.1 x5 h22 (fun _ h28 => EX h22 h28 → P (h28 1 11) h28)))))) ∧ (h 1 11 + 20 > 400 → P (-1) h))) :
    V G X 6 0 0 (QF G X 0 0 0 (PI h0 P)) 0 [(0, rf 1), (1, iv x1), (2, iv x2), (3, iv x3), (4, iv x4), (5, iv x5)] [] h := by
  obtain ⟨B, R1, R2, R3, R4, R5⟩ := B0
  have E : EX h h := EX.rf B.2
  obtain ⟨SX, F⟩ := F
  refine v_aload_n C 0 rfl rfl dX0_feed_0 ?_
  refine gX0_123 C (SX.ext E.1).k1 rfl dX0_feed_1 ?_
  refine v_bipush C rfl dX0_feed_4 ?_
  refine v_iadd C dX0_feed_6 ?_
  refine v_sipush C rfl dX0_feed_7 ?_
  obtain ⟨o1, F⟩ := F
  refine v_icmp_le C 15 o1 ⟨by decide, by decide⟩ dX0_feed_10 (by decide) (fun c2 => ?_) (fun c2 => ?_)
  · have F := F.1 (c2)
    refine v_aload_n C 0 rfl rfl dX0_feed_15 ?_
    refine v_iload_n C 1 rfl rfl dX0_feed_16 ?_
    refine mX0_126 C (SX.ext E.1).k1 (d2 := 0) (kc2 := 0) (ks2 := 0) (by decide) (Nat.le_refl _) (Nat.le_refl _) (Nat.le_of_ble_eq_true rfl) dX0_feed_17 (Ct.mono (F R1) ?_)
    rintro r3 h4 ⟨e5, F⟩
    have F := F e5
    have B7 := B.tr e5
    have E8 := E.tr e5
    refine v_aload_n C 0 rfl rfl dX0_feed_20 ?_
    refine v_iload_n C 2 rfl rfl dX0_feed_21 ?_
    refine mX0_126 C (SX.ext E8.1).k1 (d2 := 0) (kc2 := 0) (ks2 := 0) (by decide) (Nat.le_refl _) (Nat.le_refl _) (Nat.le_of_ble_eq_true rfl) dX0_feed_22 (Ct.mono (F R2) ?_)
    rintro r9 h10 ⟨e11, F⟩
    have F := F e11
    have B13 := B7.tr e11
    have E14 := E8.tr e11
    refine v_aload_n C 0 rfl rfl dX0_feed_25 ?_
    refine v_iload_n C 3 rfl rfl dX0_feed_26 ?_
    refine mX0_126 C (SX.ext E14.1).k1 (d2 := 0) (kc2 := 0) (ks2 := 0) (by decide) (Nat.le_refl _) (Nat.le_refl _) (Nat.le_of_ble_eq_true rfl) dX0_feed_27 (Ct.mono (F R3) ?_)
    rintro r15 h16 ⟨e17, F⟩
    have F := F e17
    have B19 := B13.tr e17
    have E20 := E14.tr e17
    refine v_aload_n C 0 rfl rfl dX0_feed_30 ?_
    refine v_iload C 4 rfl dX0_feed_31 ?_
    refine mX0_126 C (SX.ext E20.1).k1 (d2 := 0) (kc2 := 0) (ks2 := 0) (by decide) (Nat.le_refl _) (Nat.le_refl _) (Nat.le_of_ble_eq_true rfl) dX0_feed_33 (Ct.mono (F R4) ?_)
    rintro r21 h22 ⟨e23, F⟩
    have F := F e23
    have B25 := B19.tr e23
    have E26 := E20.tr e23
    refine v_aload_n C 0 rfl rfl dX0_feed_36 ?_
    refine v_iload C 5 rfl dX0_feed_37 ?_
    refine mX0_126 C (SX.ext E26.1).k1 (d2 := 0) (kc2 := 0) (ks2 := 0) (by decide) (Nat.le_refl _) (Nat.le_refl _) (Nat.le_of_ble_eq_true rfl) dX0_feed_39 (Ct.mono (F R5) ?_)
    rintro r27 h28 ⟨e29, F⟩
    have F := F e29
    have B31 := B25.tr e29
    have E32 := E26.tr e29
    refine v_aload_n C 0 rfl rfl dX0_feed_42 ?_
    refine gX0_123 C (SX.ext E32.1).k1 rfl dX0_feed_43 ?_
    exact v_iret C (Nat.le_refl _) (Nat.le_refl _) dX0_feed_46 ⟨B31, (EX.rI B31 (j := 11) (SX.ext E32.1).k1 rfl), F⟩
  · have F := F.2 (c2)
    refine v_iconst C dX0_feed_13 ?_
    exact v_iret C (Nat.le_refl _) (Nat.le_refl _) dX0_feed_14 ⟨B, ⟨by decide, by decide⟩, F⟩
set_option maxHeartbeats 1000000 in
theorem eX0_feed {G : GT} {l : Launch} {x1 x2 x3 x4 x5 : Int} {h : Mem} {P : Int → Mem → Prop} (F : ∀ X : MX, Cx G X cX0_feed 6 RX0 1 0 0 (some .int) "feed" → X.2.1 = l → (EX h h ∧ R32 x1 ∧ R32 x2 ∧ R32 x3 ∧ R32 x4 ∧ R32 x5) →
    XS h ∧ R32 (h 1 11 + 20) ∧ ((h 1 11 + 20 ≤ 400 → kX0_four G X.2.1 x1 h (fun _ h4 => EX h h4 → kX0_four G X.2.1 x2 h4 (fun _ h10 => EX h4 h10 → kX0_four G X.2.1 x3 h10 (fun _ h16 => EX h10 h16 → kX0_four G X.2.1 x4 h16 (fun _ h22 => EX h16 h22 → kX0_four G X.2.1 x5 h22 (fun _ h28 => EX h22 h28 → P (h28 1 11) h28)))))) ∧ (h 1 11 + 20 > 400 → P (-1) h))) :
    kX0_feed G l x1 x2 x3 x4 x5 h P := by
  intro R1 R2 R3 R4 R5
  refine ct_of (by decide +kernel) (Nat.le_of_ble_eq_true rfl) fun X C e => ?_
  refine v_okz fun O => ?_
  exact wX0_feed_0 C ⟨EX.rf O, R1, R2, R3, R4, R5⟩ (F X C e ⟨EX.rf O, R1, R2, R3, R4, R5⟩)
def kX0_log (G : GT) (l : Launch) (x1 x2 x3 : Int) (h : Mem) (P : Int → Mem → Prop) : Prop := R32 x1 → R32 x2 → R32 x3 → Ct G l yX0_log cX0_log 5 (some .int) 0 1 0 0 [rf 1, iv x1, iv x2, iv x3] h (PI h P)
set_option maxHeartbeats 4000000 in
theorem wX0_log_0 {G : GT} {X : MX} {h0 h : Mem} {P : Int → Mem → Prop} {x1 x2 x3 : Int} (C : Cx G X cX0_log 5 RX0 1 0 0 (some .int) "log") (B0 : EX h0 h ∧ R32 x1 ∧ R32 x2 ∧ R32 x3)
    (F : XS h ∧ ((x1 ≠ (-1) → kX0_in G X.2.1 x1 0 99 h (fun r2 h3 => EX h h3 → ((r2 = 0 → P (-2) h3) ∧ (r2 ≠ 0 → kX0_isThing G X.2.1 x2 h3 (fun r9 h10 => EX h3 h10 → ((r9 = 0 → P (-2) h10) ∧ (r9 ≠ 0 → ((x3 = (-1) → h10 1 0 = 2 ∧ ((h10 2 8 ≠ 10 → R32 (3 * h10 2 8) ∧ ∀ y20 : Int, y20 = 3 * h10 2 8 → 0 ≤ y20 ∧ y20 < 30 ∧ ∀ h23 : Mem, h23 = up h10 12 y20 x1 → 0 ≤ y20 + 1 ∧ y20 + 1 < 30 ∧ ∀ h28 : Mem, h28 = up h23 12 (y20 + 1) x2 → 0 ≤ y20 + 2 ∧ y20 + 2 < 30 ∧ ∀ h33 : Mem, h33 = up h28 12 (y20 + 2) x3 → R32 (h10 2 8 + 1) ∧ ∀ h37 : Mem, h37 = up h33 2 8 (h10 2 8 + 1) → P (h10 2 8 + 1) h37) ∧ (h10 2 8 = 10 → P (-2) h10))) ∧ (x3 ≠ (-1) → kX0_isPainter G X.2.1 x3 h10 (fun r40 h41 => EX h10 h41 → ((r40 = 0 → P (-2) h41) ∧ (r40 ≠ 0 → h41 1 0 = 2 ∧ ((h41 2 8 ≠ 10 → R32 (3 * h41 2 8) ∧ ∀ y50 : Int, y50 = 3 * h41 2 8 → 0 ≤ y50 ∧ y50 < 30 ∧ ∀ h53 : Mem, h53 = up h41 12 y50 x1 → 0 ≤ y50 + 1 ∧ y50 + 1 < 30 ∧ ∀ h58 : Mem, h58 = up h53 12 (y50 + 1) x2 → 0 ≤ y50 + 2 ∧ y50 + 2 < 30 ∧ ∀ h63 : Mem, h63 = up h58 12 (y50 + 2) x3 → R32 (h41 2 8 + 1) ∧ ∀ h67 : Mem, h67 = up h63 2 8 (h41 2 8 + 1) → P (h41 2 8 + 1) h67) ∧ (h41 2 8 = 10 → P (-2) h41)))))))))))))) ∧ (x1 = (-1) → ((h 1 0 = 0 → P 0 h) ∧ (h 1 0 ≠ 0 → h 1 0 = 2 ∧ ∀ h72 : Mem, h72 = up h 2 8 0 → P 0 h72))))) :
    V G X 5 0 0 (QF G X 0 0 0 (PI h0 P)) 0 [(0, rf 1), (1, iv x1), (2, iv x2), (3, iv x3)] [] h := by
  obtain ⟨B, R1, R2, R3⟩ := B0
  have E : EX h h := EX.rf B.2
  obtain ⟨SX, F⟩ := F
  refine v_iload_n C 1 rfl rfl dX0_log_0 ?_
  refine v_iconst C dX0_log_1 ?_
  refine v_icmp_ne C 22 R1 ⟨by decide, by decide⟩ dX0_log_2 (by decide) (fun c1 => ?_) (fun c1 => ?_)
  · have F := F.1 (c1)
    refine v_iload_n C 1 rfl rfl dX0_log_22 ?_
    refine v_i2l C R1 dX0_log_23 ?_
    refine v_lconst C (x := 0) rfl dX0_log_24 ?_
    refine v_ldc2 C (x := 99) q1138 dX0_log_25 ?_
    refine mX0_193 C (d2 := 0) (kc2 := 0) (ks2 := 0) (by decide) (Nat.le_refl _) (Nat.le_refl _) (Nat.le_of_ble_eq_true rfl) dX0_log_28 (Ct.mono (F (R32.l R1) ⟨by decide, by decide⟩ ⟨by decide, by decide⟩) ?_)
    rintro r2 h3 ⟨e4, g5, F⟩
    have F := F e4
    have B6 := B.tr e4
    have E7 := E.tr e4
    refine v_if_eq C 67 (bR g5) dX0_log_31 (by decide) (fun c8 => ?_) (fun c8 => ?_)
    · have F := F.1 (c8)
      refine v_bipush C rfl dX0_log_67 ?_
      exact v_iret C (Nat.le_refl _) (Nat.le_refl _) dX0_log_69 ⟨B6, ⟨by decide, by decide⟩, F⟩
    · have F := F.2 (c8)
      refine v_aload_n C 0 rfl rfl dX0_log_34 ?_
      refine v_iload_n C 2 rfl rfl dX0_log_35 ?_
      refine mX0_212 C (SX.ext E7.1).k1 (d2 := 0) (kc2 := 0) (ks2 := 0) (by decide) (Nat.le_refl _) (Nat.le_refl _) (Nat.le_of_ble_eq_true rfl) dX0_log_36 (Ct.mono (F R2) ?_)
      rintro r9 h10 ⟨e11, g12, F⟩
      have F := F e11
      have B13 := B6.tr e11
      have E14 := E7.tr e11
      refine v_if_eq C 67 (bR g12) dX0_log_39 (by decide) (fun c15 => ?_) (fun c15 => ?_)
      · have F := F.1 (c15)
        refine v_bipush C rfl dX0_log_67 ?_
        exact v_iret C (Nat.le_refl _) (Nat.le_refl _) dX0_log_69 ⟨B13, ⟨by decide, by decide⟩, F⟩
      · have F := F.2 (c15)
        refine v_iload_n C 3 rfl rfl dX0_log_42 ?_
        refine v_iconst C dX0_log_43 ?_
        refine v_icmp_eq C 55 R3 ⟨by decide, by decide⟩ dX0_log_44 (by decide) (fun c16 => ?_) (fun c16 => ?_)
        · have F := F.1 (c16)
          refine v_aload_n C 0 rfl rfl dX0_log_55 ?_
          obtain ⟨o17, F⟩ := F
          refine gX0_149 C (SX.ext E14.1).k1 o17 dX0_log_56 ?_
          refine gX0_352 C ((SX.ext E14.1).t2).k rfl dX0_log_59 ?_
          refine v_bipush C rfl dX0_log_62 ?_
          refine v_icmp_ne C 70 (EX.rI B13 (j := 8) ((SX.ext E14.1).t2).k rfl) ⟨by decide, by decide⟩ dX0_log_64 (by decide) (fun c18 => ?_) (fun c18 => ?_)
          · have F := F.1 (c18)
            refine v_iconst C dX0_log_70 ?_
            refine v_aload_n C 0 rfl rfl dX0_log_71 ?_
            refine gX0_149 C (SX.ext E14.1).k1 o17 dX0_log_72 ?_
            refine gX0_352 C ((SX.ext E14.1).t2).k rfl dX0_log_75 ?_
            refine v_imul C dX0_log_78 ?_
            obtain ⟨o19, F⟩ := F
            obtain ⟨y20, ey20⟩ : ∃ z : Int, z = 3 * h10 2 8 := ⟨_, rfl⟩
            have F := F y20 ey20
            have Ry20 : R32 y20 := by rw [ey20]; exact o19
            refine v_istore C (by decide) dX0_log_79 (lv2 := [(4, iv y20), (0, rf 1), (1, iv x1), (2, iv x2), (3, iv x3)]) (by rw [ey20]; rfl) ?_
            refine v_aload_n C 1 rfl rfl dX0_log_81 ?_
            refine gX0_149 C (SX.ext E14.1).k1 o17 dX0_log_82 ?_
            refine gX0_357 C ((SX.ext E14.1).t2).k ((SX.ext E14.1).t2).f22 dX0_log_85 ?_
            refine v_iload C 0 rfl dX0_log_88 ?_
            refine v_iload_n C 2 rfl rfl dX0_log_90 ?_
            obtain ⟨o21, F⟩ := F
            obtain ⟨o22, F⟩ := F
            refine v_iast C ((SX.ext E14.1).t2).k22 o21 (by rw [((SX.ext E14.1).t2).l22]; exact o22) R1 dX0_log_91 ?_
            obtain ⟨h23, eh23⟩ : ∃ m : Mem, m = up h10 12 y20 x1 := ⟨_, rfl⟩
            have B24 : EX h0 h23 := by rw [eh23]; exact EX_up B13 ((SX.ext E14.1).t2).k22 (by decide) rfl o21 (okI_a (Or.inl rfl) R1)
            have E25 : EX h h23 := by rw [eh23]; exact EX_up E14 ((SX.ext E14.1).t2).k22 (by decide) rfl o21 (okI_a (Or.inl rfl) R1)
            refine v_mem eh23 ?_
            have F := F h23 eh23
            refine v_aload_n C 1 rfl rfl dX0_log_92 ?_
            refine gX0_149 C (SX.ext E25.1).k1 ((show h23 1 0 = h10 1 0 by rw [eh23, up_a (by decide)]).trans o17) dX0_log_93 ?_
            refine gX0_357 C ((SX.ext E25.1).t2).k ((SX.ext E25.1).t2).f22 dX0_log_96 ?_
            refine v_iload C 0 rfl dX0_log_99 ?_
            refine v_iconst C dX0_log_101 ?_
            refine v_iadd C dX0_log_102 ?_
            refine v_iload_n C 3 rfl rfl dX0_log_103 ?_
            obtain ⟨o26, F⟩ := F
            obtain ⟨o27, F⟩ := F
            refine v_iast C ((SX.ext E25.1).t2).k22 o26 (by rw [((SX.ext E25.1).t2).l22]; exact o27) R2 dX0_log_104 ?_
            obtain ⟨h28, eh28⟩ : ∃ m : Mem, m = up h23 12 (y20 + 1) x2 := ⟨_, rfl⟩
            have B29 : EX h0 h28 := by rw [eh28]; exact EX_up B24 ((SX.ext E25.1).t2).k22 (by decide) rfl o26 (okI_a (Or.inl rfl) R2)
            have E30 : EX h h28 := by rw [eh28]; exact EX_up E25 ((SX.ext E25.1).t2).k22 (by decide) rfl o26 (okI_a (Or.inl rfl) R2)
            refine v_mem eh28 ?_
            have F := F h28 eh28
            refine v_aload_n C 1 rfl rfl dX0_log_105 ?_
            refine gX0_149 C (SX.ext E30.1).k1 ((show h28 1 0 = h10 1 0 by rw [eh28, up_a (by decide), eh23, up_a (by decide)]).trans o17) dX0_log_106 ?_
            refine gX0_357 C ((SX.ext E30.1).t2).k ((SX.ext E30.1).t2).f22 dX0_log_109 ?_
            refine v_iload C 0 rfl dX0_log_112 ?_
            refine v_iconst C dX0_log_114 ?_
            refine v_iadd C dX0_log_115 ?_
            refine v_iload_n C 4 rfl rfl dX0_log_116 ?_
            obtain ⟨o31, F⟩ := F
            obtain ⟨o32, F⟩ := F
            refine v_iast C ((SX.ext E30.1).t2).k22 o31 (by rw [((SX.ext E30.1).t2).l22]; exact o32) R3 dX0_log_117 ?_
            obtain ⟨h33, eh33⟩ : ∃ m : Mem, m = up h28 12 (y20 + 2) x3 := ⟨_, rfl⟩
            have B34 : EX h0 h33 := by rw [eh33]; exact EX_up B29 ((SX.ext E30.1).t2).k22 (by decide) rfl o31 (okI_a (Or.inl rfl) R3)
            have E35 : EX h h33 := by rw [eh33]; exact EX_up E30 ((SX.ext E30.1).t2).k22 (by decide) rfl o31 (okI_a (Or.inl rfl) R3)
            refine v_mem eh33 ?_
            have F := F h33 eh33
            refine v_aload_n C 1 rfl rfl dX0_log_118 ?_
            refine gX0_149 C (SX.ext E35.1).k1 ((show h33 1 0 = h10 1 0 by rw [eh33, up_a (by decide), eh28, up_a (by decide), eh23, up_a (by decide)]).trans o17) dX0_log_119 ?_
            refine v_dup C (rf_n1 _) dX0_log_122 ?_
            refine gX0_352 C ((SX.ext E35.1).t2).k (show h33 2 8 = h10 2 8 by rw [eh33, up_a (by decide), eh28, up_a (by decide), eh23, up_a (by decide)]) dX0_log_123 ?_
            refine v_iconst C dX0_log_126 ?_
            refine v_iadd C dX0_log_127 ?_
            obtain ⟨o36, F⟩ := F
            refine pX0_352 C ((SX.ext E35.1).t2).k (okI_i rfl o36) dX0_log_128 ?_
            obtain ⟨h37, eh37⟩ : ∃ m : Mem, m = up h33 2 8 (h10 2 8 + 1) := ⟨_, rfl⟩
            have B38 : EX h0 h37 := by rw [eh37]; exact EX_up B34 ((SX.ext E35.1).t2).k (by decide) rfl (by decide) (okI_i rfl o36)
            have E39 : EX h h37 := by rw [eh37]; exact EX_up E35 ((SX.ext E35.1).t2).k (by decide) rfl (by decide) (okI_i rfl o36)
            refine v_mem eh37 ?_
            have F := F h37 eh37
            refine v_aload_n C 1 rfl rfl dX0_log_131 ?_
            refine gX0_149 C (SX.ext E39.1).k1 ((show h37 1 0 = h10 1 0 by rw [eh37, up_i (by decide), eh33, up_a (by decide), eh28, up_a (by decide), eh23, up_a (by decide)]).trans o17) dX0_log_132 ?_
            refine gX0_352 C ((SX.ext E39.1).t2).k (show h37 2 8 = (h10 2 8 + 1) by rw [eh37, up_s]) dX0_log_135 ?_
            exact v_iret C (Nat.le_refl _) (Nat.le_refl _) dX0_log_138 ⟨B38, o36, F⟩
          · have F := F.2 (c18)
            refine v_bipush C rfl dX0_log_67 ?_
            exact v_iret C (Nat.le_refl _) (Nat.le_refl _) dX0_log_69 ⟨B13, ⟨by decide, by decide⟩, F⟩
        · have F := F.2 (c16)
          refine v_aload_n C 0 rfl rfl dX0_log_47 ?_
          refine v_iload_n C 3 rfl rfl dX0_log_48 ?_
          refine mX0_231 C (SX.ext E14.1).k1 (d2 := 0) (kc2 := 0) (ks2 := 0) (by decide) (Nat.le_refl _) (Nat.le_refl _) (Nat.le_of_ble_eq_true rfl) dX0_log_49 (Ct.mono (F R3) ?_)
          rintro r40 h41 ⟨e42, g43, F⟩
          have F := F e42
          have B44 := B13.tr e42
          have E45 := E14.tr e42
          refine v_if_eq C 67 (bR g43) dX0_log_52 (by decide) (fun c46 => ?_) (fun c46 => ?_)
          · have F := F.1 (c46)
            refine v_bipush C rfl dX0_log_67 ?_
            exact v_iret C (Nat.le_refl _) (Nat.le_refl _) dX0_log_69 ⟨B44, ⟨by decide, by decide⟩, F⟩
          · have F := F.2 (c46)
            refine v_aload_n C 0 rfl rfl dX0_log_55 ?_
            obtain ⟨o47, F⟩ := F
            refine gX0_149 C (SX.ext E45.1).k1 o47 dX0_log_56 ?_
            refine gX0_352 C ((SX.ext E45.1).t2).k rfl dX0_log_59 ?_
            refine v_bipush C rfl dX0_log_62 ?_
            refine v_icmp_ne C 70 (EX.rI B44 (j := 8) ((SX.ext E45.1).t2).k rfl) ⟨by decide, by decide⟩ dX0_log_64 (by decide) (fun c48 => ?_) (fun c48 => ?_)
            · have F := F.1 (c48)
              refine v_iconst C dX0_log_70 ?_
              refine v_aload_n C 0 rfl rfl dX0_log_71 ?_
              refine gX0_149 C (SX.ext E45.1).k1 o47 dX0_log_72 ?_
              refine gX0_352 C ((SX.ext E45.1).t2).k rfl dX0_log_75 ?_
              refine v_imul C dX0_log_78 ?_
              obtain ⟨o49, F⟩ := F
              obtain ⟨y50, ey50⟩ : ∃ z : Int, z = 3 * h41 2 8 := ⟨_, rfl⟩
              have F := F y50 ey50
              have Ry50 : R32 y50 := by rw [ey50]; exact o49
              refine v_istore C (by decide) dX0_log_79 (lv2 := [(4, iv y50), (0, rf 1), (1, iv x1), (2, iv x2), (3, iv x3)]) (by rw [ey50]; rfl) ?_
              refine v_aload_n C 1 rfl rfl dX0_log_81 ?_
              refine gX0_149 C (SX.ext E45.1).k1 o47 dX0_log_82 ?_
              refine gX0_357 C ((SX.ext E45.1).t2).k ((SX.ext E45.1).t2).f22 dX0_log_85 ?_
              refine v_iload C 0 rfl dX0_log_88 ?_
              refine v_iload_n C 2 rfl rfl dX0_log_90 ?_
              obtain ⟨o51, F⟩ := F
              obtain ⟨o52, F⟩ := F
              refine v_iast C ((SX.ext E45.1).t2).k22 o51 (by rw [((SX.ext E45.1).t2).l22]; exact o52) R1 dX0_log_91 ?_
              obtain ⟨h53, eh53⟩ : ∃ m : Mem, m = up h41 12 y50 x1 := ⟨_, rfl⟩
              have B54 : EX h0 h53 := by rw [eh53]; exact EX_up B44 ((SX.ext E45.1).t2).k22 (by decide) rfl o51 (okI_a (Or.inl rfl) R1)
              have E55 : EX h h53 := by rw [eh53]; exact EX_up E45 ((SX.ext E45.1).t2).k22 (by decide) rfl o51 (okI_a (Or.inl rfl) R1)
              refine v_mem eh53 ?_
              have F := F h53 eh53
              refine v_aload_n C 1 rfl rfl dX0_log_92 ?_
              refine gX0_149 C (SX.ext E55.1).k1 ((show h53 1 0 = h41 1 0 by rw [eh53, up_a (by decide)]).trans o47) dX0_log_93 ?_
              refine gX0_357 C ((SX.ext E55.1).t2).k ((SX.ext E55.1).t2).f22 dX0_log_96 ?_
              refine v_iload C 0 rfl dX0_log_99 ?_
              refine v_iconst C dX0_log_101 ?_
              refine v_iadd C dX0_log_102 ?_
              refine v_iload_n C 3 rfl rfl dX0_log_103 ?_
              obtain ⟨o56, F⟩ := F
              obtain ⟨o57, F⟩ := F
              refine v_iast C ((SX.ext E55.1).t2).k22 o56 (by rw [((SX.ext E55.1).t2).l22]; exact o57) R2 dX0_log_104 ?_
              obtain ⟨h58, eh58⟩ : ∃ m : Mem, m = up h53 12 (y50 + 1) x2 := ⟨_, rfl⟩
              have B59 : EX h0 h58 := by rw [eh58]; exact EX_up B54 ((SX.ext E55.1).t2).k22 (by decide) rfl o56 (okI_a (Or.inl rfl) R2)
              have E60 : EX h h58 := by rw [eh58]; exact EX_up E55 ((SX.ext E55.1).t2).k22 (by decide) rfl o56 (okI_a (Or.inl rfl) R2)
              refine v_mem eh58 ?_
              have F := F h58 eh58
              refine v_aload_n C 1 rfl rfl dX0_log_105 ?_
              refine gX0_149 C (SX.ext E60.1).k1 ((show h58 1 0 = h41 1 0 by rw [eh58, up_a (by decide), eh53, up_a (by decide)]).trans o47) dX0_log_106 ?_
              refine gX0_357 C ((SX.ext E60.1).t2).k ((SX.ext E60.1).t2).f22 dX0_log_109 ?_
              refine v_iload C 0 rfl dX0_log_112 ?_
              refine v_iconst C dX0_log_114 ?_
              refine v_iadd C dX0_log_115 ?_
              refine v_iload_n C 4 rfl rfl dX0_log_116 ?_
              obtain ⟨o61, F⟩ := F
              obtain ⟨o62, F⟩ := F
              refine v_iast C ((SX.ext E60.1).t2).k22 o61 (by rw [((SX.ext E60.1).t2).l22]; exact o62) R3 dX0_log_117 ?_
              obtain ⟨h63, eh63⟩ : ∃ m : Mem, m = up h58 12 (y50 + 2) x3 := ⟨_, rfl⟩
              have B64 : EX h0 h63 := by rw [eh63]; exact EX_up B59 ((SX.ext E60.1).t2).k22 (by decide) rfl o61 (okI_a (Or.inl rfl) R3)
              have E65 : EX h h63 := by rw [eh63]; exact EX_up E60 ((SX.ext E60.1).t2).k22 (by decide) rfl o61 (okI_a (Or.inl rfl) R3)
              refine v_mem eh63 ?_
              have F := F h63 eh63
              refine v_aload_n C 1 rfl rfl dX0_log_118 ?_
              refine gX0_149 C (SX.ext E65.1).k1 ((show h63 1 0 = h41 1 0 by rw [eh63, up_a (by decide), eh58, up_a (by decide), eh53, up_a (by decide)]).trans o47) dX0_log_119 ?_
              refine v_dup C (rf_n1 _) dX0_log_122 ?_
              refine gX0_352 C ((SX.ext E65.1).t2).k (show h63 2 8 = h41 2 8 by rw [eh63, up_a (by decide), eh58, up_a (by decide), eh53, up_a (by decide)]) dX0_log_123 ?_
              refine v_iconst C dX0_log_126 ?_
              refine v_iadd C dX0_log_127 ?_
              obtain ⟨o66, F⟩ := F
              refine pX0_352 C ((SX.ext E65.1).t2).k (okI_i rfl o66) dX0_log_128 ?_
              obtain ⟨h67, eh67⟩ : ∃ m : Mem, m = up h63 2 8 (h41 2 8 + 1) := ⟨_, rfl⟩
              have B68 : EX h0 h67 := by rw [eh67]; exact EX_up B64 ((SX.ext E65.1).t2).k (by decide) rfl (by decide) (okI_i rfl o66)
              have E69 : EX h h67 := by rw [eh67]; exact EX_up E65 ((SX.ext E65.1).t2).k (by decide) rfl (by decide) (okI_i rfl o66)
              refine v_mem eh67 ?_
              have F := F h67 eh67
              refine v_aload_n C 1 rfl rfl dX0_log_131 ?_
              refine gX0_149 C (SX.ext E69.1).k1 ((show h67 1 0 = h41 1 0 by rw [eh67, up_i (by decide), eh63, up_a (by decide), eh58, up_a (by decide), eh53, up_a (by decide)]).trans o47) dX0_log_132 ?_
              refine gX0_352 C ((SX.ext E69.1).t2).k (show h67 2 8 = (h41 2 8 + 1) by rw [eh67, up_s]) dX0_log_135 ?_
              exact v_iret C (Nat.le_refl _) (Nat.le_refl _) dX0_log_138 ⟨B68, o66, F⟩
            · have F := F.2 (c48)
              refine v_bipush C rfl dX0_log_67 ?_
              exact v_iret C (Nat.le_refl _) (Nat.le_refl _) dX0_log_69 ⟨B44, ⟨by decide, by decide⟩, F⟩
  · have F := F.2 (c1)
    refine v_aload_n C 0 rfl rfl dX0_log_5 ?_
    refine gX0_149 C (SX.ext E.1).k1 rfl dX0_log_6 ?_
    refine v_ifnull C 20 dX0_log_9 (by decide) (fun c70 => ?_) (fun c70 => ?_)
    · have F := F.1 c70
      refine v_iconst C dX0_log_20 ?_
      exact v_iret C (Nat.le_refl _) (Nat.le_refl _) dX0_log_21 ⟨B, ⟨by decide, by decide⟩, F⟩
    · have F := F.2 c70
      refine v_aload_n C 0 rfl rfl dX0_log_12 ?_
      obtain ⟨o71, F⟩ := F
      refine gX0_149 C (SX.ext E.1).k1 o71 dX0_log_13 ?_
      refine v_iconst C dX0_log_16 ?_
      refine pX0_352 C ((SX.ext E.1).t2).k (okI_i rfl ⟨by decide, by decide⟩) dX0_log_17 ?_
      obtain ⟨h72, eh72⟩ : ∃ m : Mem, m = up h 2 8 0 := ⟨_, rfl⟩
      have B73 : EX h0 h72 := by rw [eh72]; exact EX_up B ((SX.ext E.1).t2).k (by decide) rfl (by decide) (okI_i rfl ⟨by decide, by decide⟩)
      have E74 : EX h h72 := by rw [eh72]; exact EX_up E ((SX.ext E.1).t2).k (by decide) rfl (by decide) (okI_i rfl ⟨by decide, by decide⟩)
      refine v_mem eh72 ?_
      have F := F h72 eh72
      refine v_iconst C dX0_log_20 ?_
      exact v_iret C (Nat.le_refl _) (Nat.le_refl _) dX0_log_21 ⟨B73, ⟨by decide, by decide⟩, F⟩
set_option maxHeartbeats 1000000 in
theorem eX0_log {G : GT} {l : Launch} {x1 x2 x3 : Int} {h : Mem} {P : Int → Mem → Prop} (F : ∀ X : MX, Cx G X cX0_log 5 RX0 1 0 0 (some .int) "log" → X.2.1 = l → (EX h h ∧ R32 x1 ∧ R32 x2 ∧ R32 x3) →
    XS h ∧ ((x1 ≠ (-1) → kX0_in G X.2.1 x1 0 99 h (fun r2 h3 => EX h h3 → ((r2 = 0 → P (-2) h3) ∧ (r2 ≠ 0 → kX0_isThing G X.2.1 x2 h3 (fun r9 h10 => EX h3 h10 → ((r9 = 0 → P (-2) h10) ∧ (r9 ≠ 0 → ((x3 = (-1) → h10 1 0 = 2 ∧ ((h10 2 8 ≠ 10 → R32 (3 * h10 2 8) ∧ ∀ y20 : Int, y20 = 3 * h10 2 8 → 0 ≤ y20 ∧ y20 < 30 ∧ ∀ h23 : Mem, h23 = up h10 12 y20 x1 → 0 ≤ y20 + 1 ∧ y20 + 1 < 30 ∧ ∀ h28 : Mem, h28 = up h23 12 (y20 + 1) x2 → 0 ≤ y20 + 2 ∧ y20 + 2 < 30 ∧ ∀ h33 : Mem, h33 = up h28 12 (y20 + 2) x3 → R32 (h10 2 8 + 1) ∧ ∀ h37 : Mem, h37 = up h33 2 8 (h10 2 8 + 1) → P (h10 2 8 + 1) h37) ∧ (h10 2 8 = 10 → P (-2) h10))) ∧ (x3 ≠ (-1) → kX0_isPainter G X.2.1 x3 h10 (fun r40 h41 => EX h10 h41 → ((r40 = 0 → P (-2) h41) ∧ (r40 ≠ 0 → h41 1 0 = 2 ∧ ((h41 2 8 ≠ 10 → R32 (3 * h41 2 8) ∧ ∀ y50 : Int, y50 = 3 * h41 2 8 → 0 ≤ y50 ∧ y50 < 30 ∧ ∀ h53 : Mem, h53 = up h41 12 y50 x1 → 0 ≤ y50 + 1 ∧ y50 + 1 < 30 ∧ ∀ h58 : Mem, h58 = up h53 12 (y50 + 1) x2 → 0 ≤ y50 + 2 ∧ y50 + 2 < 30 ∧ ∀ h63 : Mem, h63 = up h58 12 (y50 + 2) x3 → R32 (h41 2 8 + 1) ∧ ∀ h67 : Mem, h67 = up h63 2 8 (h41 2 8 + 1) → P (h41 2 8 + 1) h67) ∧ (h41 2 8 = 10 → P (-2) h41)))))))))))))) ∧ (x1 = (-1) → ((h 1 0 = 0 → P 0 h) ∧ (h 1 0 ≠ 0 → h 1 0 = 2 ∧ ∀ h72 : Mem, h72 = up h 2 8 0 → P 0 h72))))) :
    kX0_log G l x1 x2 x3 h P := by
  intro R1 R2 R3
  refine ct_of (by decide +kernel) (Nat.le_of_ble_eq_true rfl) fun X C e => ?_
  refine v_okz fun O => ?_
  exact wX0_log_0 C ⟨EX.rf O, R1, R2, R3⟩ (F X C e ⟨EX.rf O, R1, R2, R3⟩)
def kX0_rain (G : GT) (l : Launch) (x1 : Int) (h : Mem) (P : Int → Mem → Prop) : Prop := R32 x1 → Ct G l yX0_rain cX0_rain 2 (some .int) 0 1 0 0 [rf 1, iv x1] h (PI h P)
set_option maxHeartbeats 4000000 in
theorem wX0_rain_0 {G : GT} {X : MX} {h0 h : Mem} {P : Int → Mem → Prop} {x1 : Int} (C : Cx G X cX0_rain 2 RX0 1 0 0 (some .int) "rain") (B0 : EX h0 h ∧ R32 x1)
    (F : XS h ∧ ((h 1 0 = 0 → P (-1) h) ∧ (h 1 0 ≠ 0 → ((x1 ≥ 0 → h 1 0 = 2 ∧ kX1_isRain G X.2.1 2 x1 h (fun r4 h5 => EX h h5 → ((r4 = 0 → P 0 h5) ∧ (r4 ≠ 0 → P 1 h5)))) ∧ (x1 < 0 → P (-1) h))))) :
    V G X 2 0 0 (QF G X 0 0 0 (PI h0 P)) 0 [(0, rf 1), (1, iv x1)] [] h := by
  obtain ⟨B, R1⟩ := B0
  have E : EX h h := EX.rf B.2
  obtain ⟨SX, F⟩ := F
  refine v_aload_n C 0 rfl rfl dX0_rain_0 ?_
  refine gX0_149 C (SX.ext E.1).k1 rfl dX0_rain_1 ?_
  refine v_ifnull C 11 dX0_rain_4 (by decide) (fun c1 => ?_) (fun c1 => ?_)
  · have F := F.1 c1
    refine v_iconst C dX0_rain_11 ?_
    refine v_goto C 31 dX0_rain_12 (by decide) ?_
    exact v_iret C (Nat.le_refl _) (Nat.le_refl _) dX0_rain_31 ⟨B, ⟨by decide, by decide⟩, F⟩
  · have F := F.2 c1
    refine v_iload_n C 1 rfl rfl dX0_rain_7 ?_
    refine v_if_ge C 15 R1 dX0_rain_8 (by decide) (fun c2 => ?_) (fun c2 => ?_)
    · have F := F.1 (c2)
      refine v_aload_n C 0 rfl rfl dX0_rain_15 ?_
      obtain ⟨o3, F⟩ := F
      refine gX0_149 C (SX.ext E.1).k1 o3 dX0_rain_16 ?_
      refine v_iload_n C 1 rfl rfl dX0_rain_19 ?_
      refine mX0_236 C ((SX.ext E.1).t2).k (d2 := 0) (kc2 := 0) (ks2 := 0) (by decide) (Nat.le_refl _) (Nat.le_refl _) (Nat.le_of_ble_eq_true rfl) dX0_rain_20 (Ct.mono (F R1) ?_)
      rintro r4 h5 ⟨e6, g7, F⟩
      have F := F e6
      have B8 := B.tr e6
      have E9 := E.tr e6
      refine v_if_eq C 30 (bR g7) dX0_rain_23 (by decide) (fun c10 => ?_) (fun c10 => ?_)
      · have F := F.1 (c10)
        refine v_iconst C dX0_rain_30 ?_
        exact v_iret C (Nat.le_refl _) (Nat.le_refl _) dX0_rain_31 ⟨B8, ⟨by decide, by decide⟩, F⟩
      · have F := F.2 (c10)
        refine v_iconst C dX0_rain_26 ?_
        refine v_goto C 31 dX0_rain_27 (by decide) ?_
        exact v_iret C (Nat.le_refl _) (Nat.le_refl _) dX0_rain_31 ⟨B8, ⟨by decide, by decide⟩, F⟩
    · have F := F.2 (c2)
      refine v_iconst C dX0_rain_11 ?_
      refine v_goto C 31 dX0_rain_12 (by decide) ?_
      exact v_iret C (Nat.le_refl _) (Nat.le_refl _) dX0_rain_31 ⟨B, ⟨by decide, by decide⟩, F⟩
set_option maxHeartbeats 1000000 in
theorem eX0_rain {G : GT} {l : Launch} {x1 : Int} {h : Mem} {P : Int → Mem → Prop} (F : ∀ X : MX, Cx G X cX0_rain 2 RX0 1 0 0 (some .int) "rain" → X.2.1 = l → (EX h h ∧ R32 x1) →
    XS h ∧ ((h 1 0 = 0 → P (-1) h) ∧ (h 1 0 ≠ 0 → ((x1 ≥ 0 → h 1 0 = 2 ∧ kX1_isRain G X.2.1 2 x1 h (fun r4 h5 => EX h h5 → ((r4 = 0 → P 0 h5) ∧ (r4 ≠ 0 → P 1 h5)))) ∧ (x1 < 0 → P (-1) h))))) :
    kX0_rain G l x1 h P := by
  intro R1
  refine ct_of (by decide +kernel) (Nat.le_of_ble_eq_true rfl) fun X C e => ?_
  refine v_okz fun O => ?_
  exact wX0_rain_0 C ⟨EX.rf O, R1⟩ (F X C e ⟨EX.rf O, R1⟩)
def kX0_staysDry (G : GT) (l : Launch) (x1 : Int) (h : Mem) (P : Int → Mem → Prop) : Prop := R32 x1 → Ct G l yX0_staysDry cX0_staysDry 3 (some .boolean) 0 1 0 0 [rf 1, iv x1] h (PZ h P)
set_option maxHeartbeats 4000000 in
theorem wX0_staysDry_0 {G : GT} {X : MX} {h0 h : Mem} {P : Int → Mem → Prop} {x1 : Int} (C : Cx G X cX0_staysDry 3 RX0 1 0 0 (some .boolean) "staysDry") (B0 : EX h0 h ∧ R32 x1)
    (F : (EX h0 h ∧ R32 x1 ∧ R32 x1 → V G X 3 0 0 (QF G X 0 0 0 (PZ h0 P)) 2 [(0, rf 1), (1, iv x1), (2, iv x1)] [] h)) :
    V G X 3 0 0 (QF G X 0 0 0 (PZ h0 P)) 0 [(0, rf 1), (1, iv x1)] [] h := by
  obtain ⟨B, R1⟩ := B0
  have E : EX h h := EX.rf B.2
  refine v_iload_n C 1 rfl rfl dX0_staysDry_0 ?_
  refine v_istore_n C rfl (by decide) dX0_staysDry_1 (lv2 := [(2, iv x1), (0, rf 1), (1, iv x1)]) rfl ?_
  refine v_sub (lv2 := [(0, rf 1), (1, iv x1), (2, iv x1)]) [1, 2, 0] rfl ?_
  exact F ⟨B, R1, R1⟩
set_option maxHeartbeats 4000000 in
theorem wX0_staysDry_L2 {G : GT} {X : MX} {h0 h : Mem} {P : Int → Mem → Prop} {x1 x2 : Int} (C : Cx G X cX0_staysDry 3 RX0 1 0 0 (some .boolean) "staysDry") (B0 : EX h0 h ∧ R32 x1 ∧ R32 x2)
    (F : XS h ∧ h 1 0 = 2 ∧ R32 (x1 + h 2 0) ∧ ((x2 ≥ x1 + h 2 0 → P 1 h) ∧ (x2 < x1 + h 2 0 → kX1_isRain G X.2.1 2 x2 h (fun r4 h5 => EX h h5 → ((r4 = 0 → R32 (x2 + 1) ∧ (EX h0 h5 ∧ R32 x1 ∧ R32 (x2 + 1) → V G X 3 0 0 (QF G X 0 0 0 (PZ h0 P)) 2 [(0, rf 1), (1, iv x1), (2, iv (x2 + 1))] [] h5)) ∧ (r4 ≠ 0 → P 0 h5)))))) :
    V G X 3 0 0 (QF G X 0 0 0 (PZ h0 P)) 2 [(0, rf 1), (1, iv x1), (2, iv x2)] [] h := by
  obtain ⟨B, R1, R2⟩ := B0
  have E : EX h h := EX.rf B.2
  obtain ⟨SX, F⟩ := F
  refine v_iload_n C 2 rfl rfl dX0_staysDry_2 ?_
  refine v_iload_n C 1 rfl rfl dX0_staysDry_3 ?_
  refine v_aload_n C 0 rfl rfl dX0_staysDry_4 ?_
  obtain ⟨o1, F⟩ := F
  refine gX0_149 C (SX.ext E.1).k1 o1 dX0_staysDry_5 ?_
  refine gX0_319 C ((SX.ext E.1).t2).k rfl dX0_staysDry_8 ?_
  refine v_iadd C dX0_staysDry_11 ?_
  obtain ⟨o2, F⟩ := F
  refine v_icmp_ge C 34 R2 o2 dX0_staysDry_12 (by decide) (fun c3 => ?_) (fun c3 => ?_)
  · have F := F.1 (c3)
    refine v_iconst C dX0_staysDry_34 ?_
    exact v_zret C (by decide) (Nat.le_refl _) (Nat.le_refl _) dX0_staysDry_35 ⟨B, (by decide), F⟩
  · have F := F.2 (c3)
    refine v_aload_n C 0 rfl rfl dX0_staysDry_15 ?_
    refine gX0_149 C (SX.ext E.1).k1 o1 dX0_staysDry_16 ?_
    refine v_iload_n C 2 rfl rfl dX0_staysDry_19 ?_
    refine mX0_236 C ((SX.ext E.1).t2).k (d2 := 0) (kc2 := 0) (ks2 := 0) (by decide) (Nat.le_refl _) (Nat.le_refl _) (Nat.le_of_ble_eq_true rfl) dX0_staysDry_20 (Ct.mono (F R2) ?_)
    rintro r4 h5 ⟨e6, g7, F⟩
    have F := F e6
    have B8 := B.tr e6
    have E9 := E.tr e6
    refine v_if_eq C 28 (bR g7) dX0_staysDry_23 (by decide) (fun c10 => ?_) (fun c10 => ?_)
    · have F := F.1 (c10)
      obtain ⟨o11, F⟩ := F
      refine v_iinc C 2 rfl (by decide) dX0_staysDry_28 (lv2 := [(2, iv (x2 + 1)), (0, rf 1), (1, iv x1)]) rfl ?_
      refine v_goto C 2 dX0_staysDry_31 (by decide) ?_
      refine v_sub (lv2 := [(0, rf 1), (1, iv x1), (2, iv (x2 + 1))]) [1, 2, 0] rfl ?_
      exact F ⟨B8, R1, o11⟩
    · have F := F.2 (c10)
      refine v_iconst C dX0_staysDry_26 ?_
      exact v_zret C (by decide) (Nat.le_refl _) (Nat.le_refl _) dX0_staysDry_27 ⟨B8, (by decide), F⟩
set_option maxHeartbeats 1000000 in
theorem eX0_staysDry {G : GT} {l : Launch} {x1 : Int} {h : Mem} {P : Int → Mem → Prop} (F : ∀ X : MX, Cx G X cX0_staysDry 3 RX0 1 0 0 (some .boolean) "staysDry" → X.2.1 = l → (EX h h ∧ R32 x1) →
    (EX h h ∧ R32 x1 ∧ R32 x1 → V G X 3 0 0 (QF G X 0 0 0 (PZ h P)) 2 [(0, rf 1), (1, iv x1), (2, iv x1)] [] h)) :
    kX0_staysDry G l x1 h P := by
  intro R1
  refine ct_of (by decide +kernel) (Nat.le_of_ble_eq_true rfl) fun X C e => ?_
  refine v_okz fun O => ?_
  exact wX0_staysDry_0 C ⟨EX.rf O, R1⟩ (F X C e ⟨EX.rf O, R1⟩)
def kX0_byPart (G : GT) (l : Launch) (x1 x2 : Int) (h : Mem) (P : Int → Mem → Prop) : Prop := R32 x1 → R32 x2 → Ct G l yX0_byPart cX0_byPart 3 (some .int) 0 2 0 0 [rf 1, iv x1, iv x2] h (PI h P)
set_option maxHeartbeats 4000000 in
theorem wX0_byPart_0 {G : GT} {X : MX} {h0 h : Mem} {P : Int → Mem → Prop} {x1 x2 : Int} (C : Cx G X cX0_byPart 3 RX0 2 0 0 (some .int) "byPart") (B0 : EX h0 h ∧ R32 x1 ∧ R32 x2)
    (F : XS h ∧ kX0_isThing G X.2.1 x1 h (fun r1 h2 => EX h h2 → ((r1 = 0 → P (-2) h2) ∧ (r1 ≠ 0 → kX0_in G X.2.1 x2 1 100 h2 (fun r8 h9 => EX h2 h9 → ((r8 ≠ 0 → h9 1 0 = 2 ∧ kX1_thingAt G X.2.1 2 x1 (h9 2 11) 2147483647 x2 h9 (fun r16 h17 => EX h9 h17 → P r16 h17)) ∧ (r8 = 0 → P (-2) h9))))))) :
    V G X 3 0 0 (QF G X 0 0 0 (PI h0 P)) 0 [(0, rf 1), (1, iv x1), (2, iv x2)] [] h := by
  obtain ⟨B, R1, R2⟩ := B0
  have E : EX h h := EX.rf B.2
  obtain ⟨SX, F⟩ := F
  refine v_aload_n C 0 rfl rfl dX0_byPart_0 ?_
  refine v_iload_n C 1 rfl rfl dX0_byPart_1 ?_
  refine mX0_212 C (SX.ext E.1).k1 (d2 := 0) (kc2 := 0) (ks2 := 0) (by decide) (Nat.le_refl _) (Nat.le_refl _) (Nat.le_of_ble_eq_true rfl) dX0_byPart_2 (Ct.mono (F R1) ?_)
  rintro r1 h2 ⟨e3, g4, F⟩
  have F := F e3
  have B5 := B.tr e3
  have E6 := E.tr e3
  refine v_if_eq C 20 (bR g4) dX0_byPart_5 (by decide) (fun c7 => ?_) (fun c7 => ?_)
  · have F := F.1 (c7)
    refine v_bipush C rfl dX0_byPart_20 ?_
    exact v_iret C (Nat.le_refl _) (Nat.le_refl _) dX0_byPart_22 ⟨B5, ⟨by decide, by decide⟩, F⟩
  · have F := F.2 (c7)
    refine v_iload_n C 2 rfl rfl dX0_byPart_8 ?_
    refine v_i2l C R2 dX0_byPart_9 ?_
    refine v_lconst C (x := 1) rfl dX0_byPart_10 ?_
    refine v_ldc2 C (x := 100) q1049 dX0_byPart_11 ?_
    refine mX0_193 C (d2 := 0) (kc2 := 0) (ks2 := 0) (by decide) (Nat.le_refl _) (Nat.le_refl _) (Nat.le_of_ble_eq_true rfl) dX0_byPart_14 (Ct.mono (F (R32.l R2) ⟨by decide, by decide⟩ ⟨by decide, by decide⟩) ?_)
    rintro r8 h9 ⟨e10, g11, F⟩
    have F := F e10
    have B12 := B5.tr e10
    have E13 := E6.tr e10
    refine v_if_ne C 23 (bR g11) dX0_byPart_17 (by decide) (fun c14 => ?_) (fun c14 => ?_)
    · have F := F.1 (c14)
      refine v_aload_n C 0 rfl rfl dX0_byPart_23 ?_
      obtain ⟨o15, F⟩ := F
      refine gX0_149 C (SX.ext E13.1).k1 o15 dX0_byPart_24 ?_
      refine v_iload_n C 1 rfl rfl dX0_byPart_27 ?_
      refine v_aload_n C 0 rfl rfl dX0_byPart_28 ?_
      refine gX0_149 C (SX.ext E13.1).k1 o15 dX0_byPart_29 ?_
      refine gX0_257 C ((SX.ext E13.1).t2).k rfl dX0_byPart_32 ?_
      refine v_ldcw C (x := 2147483647) q1125 dX0_byPart_35 ?_
      refine v_iload_n C 2 rfl rfl dX0_byPart_38 ?_
      refine mX0_343 C ((SX.ext E13.1).t2).k (d2 := 1) (kc2 := 0) (ks2 := 0) (by decide) (Nat.le_refl _) (Nat.le_refl _) (Nat.le_of_ble_eq_true rfl) dX0_byPart_39 (Ct.mono (F R1 (EX.rI B12 (j := 11) ((SX.ext E13.1).t2).k rfl) ⟨by decide, by decide⟩ R2) ?_)
      rintro r16 h17 ⟨e18, g19, F⟩
      have F := F e18
      have B20 := B12.tr e18
      have E21 := E13.tr e18
      exact v_iret C (Nat.le_refl _) (Nat.le_refl _) dX0_byPart_42 ⟨B20, g19, F⟩
    · have F := F.2 (c14)
      refine v_bipush C rfl dX0_byPart_20 ?_
      exact v_iret C (Nat.le_refl _) (Nat.le_refl _) dX0_byPart_22 ⟨B12, ⟨by decide, by decide⟩, F⟩
set_option maxHeartbeats 1000000 in
theorem eX0_byPart {G : GT} {l : Launch} {x1 x2 : Int} {h : Mem} {P : Int → Mem → Prop} (F : ∀ X : MX, Cx G X cX0_byPart 3 RX0 2 0 0 (some .int) "byPart" → X.2.1 = l → (EX h h ∧ R32 x1 ∧ R32 x2) →
    XS h ∧ kX0_isThing G X.2.1 x1 h (fun r1 h2 => EX h h2 → ((r1 = 0 → P (-2) h2) ∧ (r1 ≠ 0 → kX0_in G X.2.1 x2 1 100 h2 (fun r8 h9 => EX h2 h9 → ((r8 ≠ 0 → h9 1 0 = 2 ∧ kX1_thingAt G X.2.1 2 x1 (h9 2 11) 2147483647 x2 h9 (fun r16 h17 => EX h9 h17 → P r16 h17)) ∧ (r8 = 0 → P (-2) h9))))))) :
    kX0_byPart G l x1 x2 h P := by
  intro R1 R2
  refine ct_of (by decide +kernel) (Nat.le_of_ble_eq_true rfl) fun X C e => ?_
  refine v_okz fun O => ?_
  exact wX0_byPart_0 C ⟨EX.rf O, R1, R2⟩ (F X C e ⟨EX.rf O, R1, R2⟩)
def kX0_cell (G : GT) (l : Launch) (x1 x2 : Int) (h : Mem) (P : Int → Mem → Prop) : Prop := R32 x1 → R32 x2 → Ct G l yX0_cell cX0_cell 3 (some .int) 0 2 0 0 [rf 1, iv x1, iv x2] h (PI h P)
set_option maxHeartbeats 4000000 in
theorem wX0_cell_0 {G : GT} {X : MX} {h0 h : Mem} {P : Int → Mem → Prop} {x1 x2 : Int} (C : Cx G X cX0_cell 3 RX0 2 0 0 (some .int) "cell") (B0 : EX h0 h ∧ R32 x1 ∧ R32 x2)
    (F : XS h ∧ kX0_isCell G X.2.1 x1 h (fun r1 h2 => EX h h2 → ((r1 ≠ 0 → ((x2 = 0 → h2 1 0 = 2 ∧ 0 ≤ x1 ∧ x1 < 16 ∧ P (h2 6 x1) h2) ∧ (x2 = 1 → h2 1 0 = 2 ∧ 0 ≤ x1 ∧ x1 < 16 ∧ P (h2 13 x1) h2) ∧ (x2 = 2 → h2 1 0 = 2 ∧ kX1_ownerOf G X.2.1 2 x1 h2 (fun r17 h18 => EX h2 h18 → P r17 h18)) ∧ (x2 = 3 → h2 1 0 = 2 ∧ kX1_top G X.2.1 2 x1 h2 (fun r25 h26 => EX h2 h26 → P r25 h26)) ∧ (x2 = 4 → h2 1 0 = 2 ∧ kX1_isWet G X.2.1 2 x1 h2 (fun r33 h34 => EX h2 h34 → ((r33 = 0 → P 0 h34) ∧ (r33 ≠ 0 → P 1 h34)))) ∧ ((x2 < 0 ∨ 4 < x2) → P (-2) h2))) ∧ (r1 = 0 → P (-2) h2)))) :
    V G X 3 0 0 (QF G X 0 0 0 (PI h0 P)) 0 [(0, rf 1), (1, iv x1), (2, iv x2)] [] h := by
  obtain ⟨B, R1, R2⟩ := B0
  have E : EX h h := EX.rf B.2
  obtain ⟨SX, F⟩ := F
  refine v_aload_n C 0 rfl rfl dX0_cell_0 ?_
  refine v_iload_n C 1 rfl rfl dX0_cell_1 ?_
  refine mX0_172 C (SX.ext E.1).k1 (d2 := 0) (kc2 := 0) (ks2 := 0) (by decide) (Nat.le_refl _) (Nat.le_refl _) (Nat.le_of_ble_eq_true rfl) dX0_cell_2 (Ct.mono (F R1) ?_)
  rintro r1 h2 ⟨e3, g4, F⟩
  have F := F e3
  have B5 := B.tr e3
  have E6 := E.tr e3
  refine v_if_ne C 11 (bR g4) dX0_cell_5 (by decide) (fun c7 => ?_) (fun c7 => ?_)
  · have F := F.1 (c7)
    refine v_iload_n C 2 rfl rfl dX0_cell_11 ?_
    by_cases c11 : x2 = 0
    · have F := F.1 c11
      refine v_tableIn C 48 0 ⟨by decide, by decide⟩ c11 dX0_cell_12 (by decide) (by decide) rfl (by decide) ?_
      refine v_aload_n C 0 rfl rfl dX0_cell_48 ?_
      obtain ⟨o8, F⟩ := F
      refine gX0_149 C (SX.ext E6.1).k1 o8 dX0_cell_49 ?_
      refine gX0_176 C ((SX.ext E6.1).t2).k ((SX.ext E6.1).t2).f16 dX0_cell_52 ?_
      refine v_iload_n C 1 rfl rfl dX0_cell_55 ?_
      obtain ⟨o9, F⟩ := F
      obtain ⟨o10, F⟩ := F
      refine v_iald C ((SX.ext E6.1).t2).k16 o9 (by rw [((SX.ext E6.1).t2).l16]; exact o10) rfl dX0_cell_56 ?_
      exact v_iret C (Nat.le_refl _) (Nat.le_refl _) dX0_cell_57 ⟨B5, (EX.rI B5 (j := x1) ((SX.ext E6.1).t2).k16 rfl), F⟩
    by_cases c15 : x2 = 1
    · have F := F.2.1 c15
      refine v_tableIn C 58 1 ⟨by decide, by decide⟩ c15 dX0_cell_12 (by decide) (by decide) rfl (by decide) ?_
      refine v_aload_n C 0 rfl rfl dX0_cell_58 ?_
      obtain ⟨o12, F⟩ := F
      refine gX0_149 C (SX.ext E6.1).k1 o12 dX0_cell_59 ?_
      refine gX0_179 C ((SX.ext E6.1).t2).k ((SX.ext E6.1).t2).f23 dX0_cell_62 ?_
      refine v_iload_n C 1 rfl rfl dX0_cell_65 ?_
      obtain ⟨o13, F⟩ := F
      obtain ⟨o14, F⟩ := F
      refine v_iald C ((SX.ext E6.1).t2).k23 o13 (by rw [((SX.ext E6.1).t2).l23]; exact o14) rfl dX0_cell_66 ?_
      exact v_iret C (Nat.le_refl _) (Nat.le_refl _) dX0_cell_67 ⟨B5, (EX.rI B5 (j := x1) ((SX.ext E6.1).t2).k23 rfl), F⟩
    by_cases c23 : x2 = 2
    · have F := F.2.2.1 c23
      refine v_tableIn C 68 2 ⟨by decide, by decide⟩ c23 dX0_cell_12 (by decide) (by decide) rfl (by decide) ?_
      refine v_aload_n C 0 rfl rfl dX0_cell_68 ?_
      obtain ⟨o16, F⟩ := F
      refine gX0_149 C (SX.ext E6.1).k1 o16 dX0_cell_69 ?_
      refine v_iload_n C 1 rfl rfl dX0_cell_72 ?_
      refine mX0_182 C ((SX.ext E6.1).t2).k (d2 := 1) (kc2 := 0) (ks2 := 0) (by decide) (Nat.le_refl _) (Nat.le_refl _) (Nat.le_of_ble_eq_true rfl) dX0_cell_73 (Ct.mono (F R1) ?_)
      rintro r17 h18 ⟨e19, g20, F⟩
      have F := F e19
      have B21 := B5.tr e19
      have E22 := E6.tr e19
      exact v_iret C (Nat.le_refl _) (Nat.le_refl _) dX0_cell_76 ⟨B21, g20, F⟩
    by_cases c31 : x2 = 3
    · have F := F.2.2.2.1 c31
      refine v_tableIn C 77 3 ⟨by decide, by decide⟩ c31 dX0_cell_12 (by decide) (by decide) rfl (by decide) ?_
      refine v_aload_n C 0 rfl rfl dX0_cell_77 ?_
      obtain ⟨o24, F⟩ := F
      refine gX0_149 C (SX.ext E6.1).k1 o24 dX0_cell_78 ?_
      refine v_iload_n C 1 rfl rfl dX0_cell_81 ?_
      refine mX0_186 C ((SX.ext E6.1).t2).k (d2 := 0) (kc2 := 0) (ks2 := 0) (by decide) (Nat.le_refl _) (Nat.le_refl _) (Nat.le_of_ble_eq_true rfl) dX0_cell_82 (Ct.mono (F R1) ?_)
      rintro r25 h26 ⟨e27, g28, F⟩
      have F := F e27
      have B29 := B5.tr e27
      have E30 := E6.tr e27
      exact v_iret C (Nat.le_refl _) (Nat.le_refl _) dX0_cell_85 ⟨B29, g28, F⟩
    by_cases c40 : x2 = 4
    · have F := F.2.2.2.2.1 c40
      refine v_tableIn C 86 4 ⟨by decide, by decide⟩ c40 dX0_cell_12 (by decide) (by decide) rfl (by decide) ?_
      refine v_aload_n C 0 rfl rfl dX0_cell_86 ?_
      obtain ⟨o32, F⟩ := F
      refine gX0_149 C (SX.ext E6.1).k1 o32 dX0_cell_87 ?_
      refine v_iload_n C 1 rfl rfl dX0_cell_90 ?_
      refine mX0_188 C ((SX.ext E6.1).t2).k (d2 := 0) (kc2 := 0) (ks2 := 0) (by decide) (Nat.le_refl _) (Nat.le_refl _) (Nat.le_of_ble_eq_true rfl) dX0_cell_91 (Ct.mono (F R1) ?_)
      rintro r33 h34 ⟨e35, g36, F⟩
      have F := F e35
      have B37 := B5.tr e35
      have E38 := E6.tr e35
      refine v_if_eq C 101 (bR g36) dX0_cell_94 (by decide) (fun c39 => ?_) (fun c39 => ?_)
      · have F := F.1 (c39)
        refine v_iconst C dX0_cell_101 ?_
        exact v_iret C (Nat.le_refl _) (Nat.le_refl _) dX0_cell_102 ⟨B37, ⟨by decide, by decide⟩, F⟩
      · have F := F.2 (c39)
        refine v_iconst C dX0_cell_97 ?_
        refine v_goto C 102 dX0_cell_98 (by decide) ?_
        exact v_iret C (Nat.le_refl _) (Nat.le_refl _) dX0_cell_102 ⟨B37, ⟨by decide, by decide⟩, F⟩
    have c41 : x2 < 0 ∨ 4 < x2 := by omega
    have F := F.2.2.2.2.2 c41
    refine v_tableOut C 103 R2 c41 dX0_cell_12 (by decide) ?_
    refine v_bipush C rfl dX0_cell_103 ?_
    exact v_iret C (Nat.le_refl _) (Nat.le_refl _) dX0_cell_105 ⟨B5, ⟨by decide, by decide⟩, F⟩
  · have F := F.2 (c7)
    refine v_bipush C rfl dX0_cell_8 ?_
    exact v_iret C (Nat.le_refl _) (Nat.le_refl _) dX0_cell_10 ⟨B5, ⟨by decide, by decide⟩, F⟩
set_option maxHeartbeats 1000000 in
theorem eX0_cell {G : GT} {l : Launch} {x1 x2 : Int} {h : Mem} {P : Int → Mem → Prop} (F : ∀ X : MX, Cx G X cX0_cell 3 RX0 2 0 0 (some .int) "cell" → X.2.1 = l → (EX h h ∧ R32 x1 ∧ R32 x2) →
    XS h ∧ kX0_isCell G X.2.1 x1 h (fun r1 h2 => EX h h2 → ((r1 ≠ 0 → ((x2 = 0 → h2 1 0 = 2 ∧ 0 ≤ x1 ∧ x1 < 16 ∧ P (h2 6 x1) h2) ∧ (x2 = 1 → h2 1 0 = 2 ∧ 0 ≤ x1 ∧ x1 < 16 ∧ P (h2 13 x1) h2) ∧ (x2 = 2 → h2 1 0 = 2 ∧ kX1_ownerOf G X.2.1 2 x1 h2 (fun r17 h18 => EX h2 h18 → P r17 h18)) ∧ (x2 = 3 → h2 1 0 = 2 ∧ kX1_top G X.2.1 2 x1 h2 (fun r25 h26 => EX h2 h26 → P r25 h26)) ∧ (x2 = 4 → h2 1 0 = 2 ∧ kX1_isWet G X.2.1 2 x1 h2 (fun r33 h34 => EX h2 h34 → ((r33 = 0 → P 0 h34) ∧ (r33 ≠ 0 → P 1 h34)))) ∧ ((x2 < 0 ∨ 4 < x2) → P (-2) h2))) ∧ (r1 = 0 → P (-2) h2)))) :
    kX0_cell G l x1 x2 h P := by
  intro R1 R2
  refine ct_of (by decide +kernel) (Nat.le_of_ble_eq_true rfl) fun X C e => ?_
  refine v_okz fun O => ?_
  exact wX0_cell_0 C ⟨EX.rf O, R1, R2⟩ (F X C e ⟨EX.rf O, R1, R2⟩)
def kX0_keepsAct (G : GT) (l : Launch) (h : Mem) (P : Int → Mem → Prop) : Prop := Ct G l yX0_keepsAct cX0_keepsAct 1 none 3 2 0 0 [rf 1] h (PR h P)
set_option maxHeartbeats 4000000 in
theorem wX0_keepsAct_0 {G : GT} {X : MX} {h0 h : Mem} {P : Int → Mem → Prop} (C : Cx G X cX0_keepsAct 1 RX0 2 0 0 none "keepsAct") (B0 : EX h0 h)
    (F : XS h ∧ h 1 0 = 2 ∧ ((h 2 9 ≠ 20 → kX1_lays G X.2.1 2 (h 2 9) h (fun _ h4 => EX h h4 → h4 1 0 = 2 ∧ R32 (h4 2 9 + 1) ∧ ∀ h11 : Mem, h11 = up h4 2 9 (h4 2 9 + 1) → P 0 h11)) ∧ (h 2 9 = 20 → ∀ h14 : Mem, h14 = cpy h 17 182 17 0 3458 → h14 1 0 = 2 ∧ R32 (h14 2 9 - 1) ∧ ∀ h19 : Mem, h19 = up h14 2 9 (h14 2 9 - 1) → kX1_lays G X.2.1 2 (h14 2 9 - 1) h19 (fun _ h23 => EX h19 h23 → h23 1 0 = 2 ∧ R32 (h23 2 9 + 1) ∧ ∀ h30 : Mem, h30 = up h23 2 9 (h23 2 9 + 1) → P 0 h30)))) :
    V G X 1 0 0 (QF G X 3 0 0 (PR h0 P)) 0 [(0, rf 1)] [] h := by
  have B := B0
  have E : EX h h := EX.rf B.2
  obtain ⟨SX, F⟩ := F
  refine v_aload_n C 0 rfl rfl dX0_keepsAct_0 ?_
  obtain ⟨o1, F⟩ := F
  refine gX0_149 C (SX.ext E.1).k1 o1 dX0_keepsAct_1 ?_
  refine gX0_239 C ((SX.ext E.1).t2).k rfl dX0_keepsAct_4 ?_
  refine v_bipush C rfl dX0_keepsAct_7 ?_
  refine v_icmp_ne C 49 (EX.rI B (j := 9) ((SX.ext E.1).t2).k rfl) ⟨by decide, by decide⟩ dX0_keepsAct_9 (by decide) (fun c2 => ?_) (fun c2 => ?_)
  · have F := F.1 (c2)
    refine v_aload_n C 0 rfl rfl dX0_keepsAct_49 ?_
    refine gX0_149 C (SX.ext E.1).k1 o1 dX0_keepsAct_50 ?_
    refine v_aload_n C 0 rfl rfl dX0_keepsAct_53 ?_
    refine gX0_149 C (SX.ext E.1).k1 o1 dX0_keepsAct_54 ?_
    refine gX0_239 C ((SX.ext E.1).t2).k rfl dX0_keepsAct_57 ?_
    refine mX0_251 C ((SX.ext E.1).t2).k (d2 := 1) (kc2 := 0) (ks2 := 0) (by decide) (Nat.le_refl _) (Nat.le_refl _) (Nat.le_of_ble_eq_true rfl) dX0_keepsAct_60 (Ct.mono (F (EX.rI B (j := 9) ((SX.ext E.1).t2).k rfl)) ?_)
    rintro r3 h4 ⟨e5, F⟩
    have F := F e5
    have B7 := B.tr e5
    have E8 := E.tr e5
    refine v_aload_n C 0 rfl rfl dX0_keepsAct_63 ?_
    obtain ⟨o9, F⟩ := F
    refine gX0_149 C (SX.ext E8.1).k1 o9 dX0_keepsAct_64 ?_
    refine v_dup C (rf_n1 _) dX0_keepsAct_67 ?_
    refine gX0_239 C ((SX.ext E8.1).t2).k rfl dX0_keepsAct_68 ?_
    refine v_iconst C dX0_keepsAct_71 ?_
    refine v_iadd C dX0_keepsAct_72 ?_
    obtain ⟨o10, F⟩ := F
    refine pX0_239 C ((SX.ext E8.1).t2).k (okI_i rfl o10) dX0_keepsAct_73 ?_
    obtain ⟨h11, eh11⟩ : ∃ m : Mem, m = up h4 2 9 (h4 2 9 + 1) := ⟨_, rfl⟩
    have B12 : EX h0 h11 := by rw [eh11]; exact EX_up B7 ((SX.ext E8.1).t2).k (by decide) rfl (by decide) (okI_i rfl o10)
    have E13 : EX h h11 := by rw [eh11]; exact EX_up E8 ((SX.ext E8.1).t2).k (by decide) rfl (by decide) (okI_i rfl o10)
    refine v_mem eh11 ?_
    have F := F h11 eh11
    exact v_vret C (Nat.le_refl _) (Nat.le_refl _) dX0_keepsAct_76 ⟨B12, F⟩
  · have F := F.2 (c2)
    refine v_aload_n C 0 rfl rfl dX0_keepsAct_12 ?_
    refine gX0_149 C (SX.ext E.1).k1 o1 dX0_keepsAct_13 ?_
    refine gX0_242 C ((SX.ext E.1).t2).k ((SX.ext E.1).t2).f27 dX0_keepsAct_16 ?_
    refine v_sipush C rfl dX0_keepsAct_19 ?_
    refine v_aload_n C 0 rfl rfl dX0_keepsAct_22 ?_
    refine gX0_149 C (SX.ext E.1).k1 o1 dX0_keepsAct_23 ?_
    refine gX0_242 C ((SX.ext E.1).t2).k ((SX.ext E.1).t2).f27 dX0_keepsAct_26 ?_
    refine v_iconst C dX0_keepsAct_29 ?_
    refine v_sipush C rfl dX0_keepsAct_30 ?_
    refine v_copy C q932 q540 q539 q137 (by decide) (Nat.le_of_ble_eq_true rfl) ((SX.ext E.1).t2).k27 ((SX.ext E.1).t2).k27 (by decide) (by decide) (by decide) (by rw [((SX.ext E.1).t2).l27]; decide) (by rw [((SX.ext E.1).t2).l27]; decide) dX0_keepsAct_33 ?_
    obtain ⟨h14, eh14⟩ : ∃ m : Mem, m = cpy h 17 182 17 0 3458 := ⟨_, rfl⟩
    have B15 : EX h0 h14 := by rw [eh14]; exact EX_cpy B ((SX.ext E.1).t2).k27 ((SX.ext E.1).t2).k27 (by decide)
    have E16 : EX h h14 := by rw [eh14]; exact EX_cpy E ((SX.ext E.1).t2).k27 ((SX.ext E.1).t2).k27 (by decide)
    refine v_mem eh14 ?_
    have F := F h14 eh14
    refine v_aload_n C 0 rfl rfl dX0_keepsAct_36 ?_
    obtain ⟨o17, F⟩ := F
    refine gX0_149 C (SX.ext E16.1).k1 o17 dX0_keepsAct_37 ?_
    refine v_dup C (rf_n1 _) dX0_keepsAct_40 ?_
    refine gX0_239 C ((SX.ext E16.1).t2).k rfl dX0_keepsAct_41 ?_
    refine v_iconst C dX0_keepsAct_44 ?_
    refine v_isub C dX0_keepsAct_45 ?_
    obtain ⟨o18, F⟩ := F
    refine pX0_239 C ((SX.ext E16.1).t2).k (okI_i rfl o18) dX0_keepsAct_46 ?_
    obtain ⟨h19, eh19⟩ : ∃ m : Mem, m = up h14 2 9 (h14 2 9 - 1) := ⟨_, rfl⟩
    have B20 : EX h0 h19 := by rw [eh19]; exact EX_up B15 ((SX.ext E16.1).t2).k (by decide) rfl (by decide) (okI_i rfl o18)
    have E21 : EX h h19 := by rw [eh19]; exact EX_up E16 ((SX.ext E16.1).t2).k (by decide) rfl (by decide) (okI_i rfl o18)
    refine v_mem eh19 ?_
    have F := F h19 eh19
    refine v_aload_n C 0 rfl rfl dX0_keepsAct_49 ?_
    refine gX0_149 C (SX.ext E21.1).k1 ((show h19 1 0 = h14 1 0 by rw [eh19, up_i (by decide)]).trans o17) dX0_keepsAct_50 ?_
    refine v_aload_n C 0 rfl rfl dX0_keepsAct_53 ?_
    refine gX0_149 C (SX.ext E21.1).k1 ((show h19 1 0 = h14 1 0 by rw [eh19, up_i (by decide)]).trans o17) dX0_keepsAct_54 ?_
    refine gX0_239 C ((SX.ext E21.1).t2).k (show h19 2 9 = (h14 2 9 - 1) by rw [eh19, up_s]) dX0_keepsAct_57 ?_
    refine mX0_251 C ((SX.ext E21.1).t2).k (d2 := 1) (kc2 := 0) (ks2 := 0) (by decide) (Nat.le_refl _) (Nat.le_refl _) (Nat.le_of_ble_eq_true rfl) dX0_keepsAct_60 (Ct.mono (F o18) ?_)
    rintro r22 h23 ⟨e24, F⟩
    have F := F e24
    have B26 := B20.tr e24
    have E27 := E21.tr e24
    refine v_aload_n C 0 rfl rfl dX0_keepsAct_63 ?_
    obtain ⟨o28, F⟩ := F
    refine gX0_149 C (SX.ext E27.1).k1 o28 dX0_keepsAct_64 ?_
    refine v_dup C (rf_n1 _) dX0_keepsAct_67 ?_
    refine gX0_239 C ((SX.ext E27.1).t2).k rfl dX0_keepsAct_68 ?_
    refine v_iconst C dX0_keepsAct_71 ?_
    refine v_iadd C dX0_keepsAct_72 ?_
    obtain ⟨o29, F⟩ := F
    refine pX0_239 C ((SX.ext E27.1).t2).k (okI_i rfl o29) dX0_keepsAct_73 ?_
    obtain ⟨h30, eh30⟩ : ∃ m : Mem, m = up h23 2 9 (h23 2 9 + 1) := ⟨_, rfl⟩
    have B31 : EX h0 h30 := by rw [eh30]; exact EX_up B26 ((SX.ext E27.1).t2).k (by decide) rfl (by decide) (okI_i rfl o29)
    have E32 : EX h h30 := by rw [eh30]; exact EX_up E27 ((SX.ext E27.1).t2).k (by decide) rfl (by decide) (okI_i rfl o29)
    refine v_mem eh30 ?_
    have F := F h30 eh30
    exact v_vret C (Nat.le_refl _) (Nat.le_refl _) dX0_keepsAct_76 ⟨B31, F⟩
set_option maxHeartbeats 1000000 in
theorem eX0_keepsAct {G : GT} {l : Launch} {h : Mem} {P : Int → Mem → Prop} (F : ∀ X : MX, Cx G X cX0_keepsAct 1 RX0 2 0 0 none "keepsAct" → X.2.1 = l → (EX h h) →
    XS h ∧ h 1 0 = 2 ∧ ((h 2 9 ≠ 20 → kX1_lays G X.2.1 2 (h 2 9) h (fun _ h4 => EX h h4 → h4 1 0 = 2 ∧ R32 (h4 2 9 + 1) ∧ ∀ h11 : Mem, h11 = up h4 2 9 (h4 2 9 + 1) → P 0 h11)) ∧ (h 2 9 = 20 → ∀ h14 : Mem, h14 = cpy h 17 182 17 0 3458 → h14 1 0 = 2 ∧ R32 (h14 2 9 - 1) ∧ ∀ h19 : Mem, h19 = up h14 2 9 (h14 2 9 - 1) → kX1_lays G X.2.1 2 (h14 2 9 - 1) h19 (fun _ h23 => EX h19 h23 → h23 1 0 = 2 ∧ R32 (h23 2 9 + 1) ∧ ∀ h30 : Mem, h30 = up h23 2 9 (h23 2 9 + 1) → P 0 h30)))) :
    kX0_keepsAct G l h P := by
  refine ct_of (by decide +kernel) (Nat.le_of_ble_eq_true rfl) fun X C e => ?_
  refine v_okz fun O => ?_
  exact wX0_keepsAct_0 C (EX.rf O) (F X C e (EX.rf O))
def kX0_then (G : GT) (l : Launch) (x1 x2 : Int) (h : Mem) (P : Int → Mem → Prop) : Prop := R32 x1 → R32 x2 → Ct G l yX0_then cX0_then 3 (some .int) 0 2 0 0 [rf 1, iv x1, iv x2] h (PI h P)
set_option maxHeartbeats 4000000 in
theorem wX0_then_0 {G : GT} {X : MX} {h0 h : Mem} {P : Int → Mem → Prop} {x1 x2 : Int} (C : Cx G X cX0_then 3 RX0 2 0 0 (some .int) "then") (B0 : EX h0 h ∧ R32 x1 ∧ R32 x2)
    (F : XS h ∧ kX0_isThing G X.2.1 x1 h (fun r1 h2 => EX h h2 → ((r1 = 0 → P (-2) h2) ∧ (r1 ≠ 0 → h2 1 0 = 2 ∧ kX0_in G X.2.1 x2 0 (h2 2 11) h2 (fun r9 h10 => EX h2 h10 → ((r9 ≠ 0 → h10 1 0 = 2 ∧ kX1_thingAt G X.2.1 2 x1 x2 x2 (h10 2 1) h10 (fun r17 h18 => EX h10 h18 → P r17 h18)) ∧ (r9 = 0 → P (-2) h10))))))) :
    V G X 3 0 0 (QF G X 0 0 0 (PI h0 P)) 0 [(0, rf 1), (1, iv x1), (2, iv x2)] [] h := by
  obtain ⟨B, R1, R2⟩ := B0
  have E : EX h h := EX.rf B.2
  obtain ⟨SX, F⟩ := F
  refine v_aload_n C 0 rfl rfl dX0_then_0 ?_
  refine v_iload_n C 1 rfl rfl dX0_then_1 ?_
  refine mX0_212 C (SX.ext E.1).k1 (d2 := 0) (kc2 := 0) (ks2 := 0) (by decide) (Nat.le_refl _) (Nat.le_refl _) (Nat.le_of_ble_eq_true rfl) dX0_then_2 (Ct.mono (F R1) ?_)
  rintro r1 h2 ⟨e3, g4, F⟩
  have F := F e3
  have B5 := B.tr e3
  have E6 := E.tr e3
  refine v_if_eq C 25 (bR g4) dX0_then_5 (by decide) (fun c7 => ?_) (fun c7 => ?_)
  · have F := F.1 (c7)
    refine v_bipush C rfl dX0_then_25 ?_
    exact v_iret C (Nat.le_refl _) (Nat.le_refl _) dX0_then_27 ⟨B5, ⟨by decide, by decide⟩, F⟩
  · have F := F.2 (c7)
    refine v_iload_n C 2 rfl rfl dX0_then_8 ?_
    refine v_i2l C R2 dX0_then_9 ?_
    refine v_lconst C (x := 0) rfl dX0_then_10 ?_
    refine v_aload_n C 0 rfl rfl dX0_then_11 ?_
    obtain ⟨o8, F⟩ := F
    refine gX0_149 C (SX.ext E6.1).k1 o8 dX0_then_12 ?_
    refine gX0_257 C ((SX.ext E6.1).t2).k rfl dX0_then_15 ?_
    refine v_i2l C (EX.rI B5 (j := 11) ((SX.ext E6.1).t2).k rfl) dX0_then_18 ?_
    refine mX0_193 C (d2 := 0) (kc2 := 0) (ks2 := 0) (by decide) (Nat.le_refl _) (Nat.le_refl _) (Nat.le_of_ble_eq_true rfl) dX0_then_19 (Ct.mono (F (R32.l R2) ⟨by decide, by decide⟩ (R32.l (EX.rI B5 (j := 11) ((SX.ext E6.1).t2).k rfl))) ?_)
    rintro r9 h10 ⟨e11, g12, F⟩
    have F := F e11
    have B13 := B5.tr e11
    have E14 := E6.tr e11
    refine v_if_ne C 28 (bR g12) dX0_then_22 (by decide) (fun c15 => ?_) (fun c15 => ?_)
    · have F := F.1 (c15)
      refine v_aload_n C 0 rfl rfl dX0_then_28 ?_
      obtain ⟨o16, F⟩ := F
      refine gX0_149 C (SX.ext E14.1).k1 o16 dX0_then_29 ?_
      refine v_iload_n C 1 rfl rfl dX0_then_32 ?_
      refine v_iload_n C 2 rfl rfl dX0_then_33 ?_
      refine v_iload_n C 2 rfl rfl dX0_then_34 ?_
      refine v_aload_n C 0 rfl rfl dX0_then_35 ?_
      refine gX0_149 C (SX.ext E14.1).k1 o16 dX0_then_36 ?_
      refine gX0_340 C ((SX.ext E14.1).t2).k rfl dX0_then_39 ?_
      refine mX0_343 C ((SX.ext E14.1).t2).k (d2 := 1) (kc2 := 0) (ks2 := 0) (by decide) (Nat.le_refl _) (Nat.le_refl _) (Nat.le_of_ble_eq_true rfl) dX0_then_42 (Ct.mono (F R1 R2 R2 (EX.rI B13 (j := 1) ((SX.ext E14.1).t2).k rfl)) ?_)
      rintro r17 h18 ⟨e19, g20, F⟩
      have F := F e19
      have B21 := B13.tr e19
      have E22 := E14.tr e19
      exact v_iret C (Nat.le_refl _) (Nat.le_refl _) dX0_then_45 ⟨B21, g20, F⟩
    · have F := F.2 (c15)
      refine v_bipush C rfl dX0_then_25 ?_
      exact v_iret C (Nat.le_refl _) (Nat.le_refl _) dX0_then_27 ⟨B13, ⟨by decide, by decide⟩, F⟩
set_option maxHeartbeats 1000000 in
theorem eX0_then {G : GT} {l : Launch} {x1 x2 : Int} {h : Mem} {P : Int → Mem → Prop} (F : ∀ X : MX, Cx G X cX0_then 3 RX0 2 0 0 (some .int) "then" → X.2.1 = l → (EX h h ∧ R32 x1 ∧ R32 x2) →
    XS h ∧ kX0_isThing G X.2.1 x1 h (fun r1 h2 => EX h h2 → ((r1 = 0 → P (-2) h2) ∧ (r1 ≠ 0 → h2 1 0 = 2 ∧ kX0_in G X.2.1 x2 0 (h2 2 11) h2 (fun r9 h10 => EX h2 h10 → ((r9 ≠ 0 → h10 1 0 = 2 ∧ kX1_thingAt G X.2.1 2 x1 x2 x2 (h10 2 1) h10 (fun r17 h18 => EX h10 h18 → P r17 h18)) ∧ (r9 = 0 → P (-2) h10))))))) :
    kX0_then G l x1 x2 h P := by
  intro R1 R2
  refine ct_of (by decide +kernel) (Nat.le_of_ble_eq_true rfl) fun X C e => ?_
  refine v_okz fun O => ?_
  exact wX0_then_0 C ⟨EX.rf O, R1, R2⟩ (F X C e ⟨EX.rf O, R1, R2⟩)
def kX0_undo (G : GT) (l : Launch) (h : Mem) (P : Int → Mem → Prop) : Prop := Ct G l yX0_undo cX0_undo 1 (some .int) 0 2 0 0 [rf 1] h (PI h P)
set_option maxHeartbeats 4000000 in
theorem wX0_undo_0 {G : GT} {X : MX} {h0 h : Mem} {P : Int → Mem → Prop} (C : Cx G X cX0_undo 1 RX0 2 0 0 (some .int) "undo") (B0 : EX h0 h)
    (F : XS h ∧ ((h 1 0 = 0 → P (-2) h) ∧ (h 1 0 ≠ 0 → h 1 0 = 2 ∧ ((h 2 9 ≠ 0 → R32 (h 2 9 - 1) ∧ ∀ h5 : Mem, h5 = up h 2 9 (h 2 9 - 1) → kX1_takes G X.2.1 2 (h 2 9 - 1) h5 (fun _ h9 => EX h5 h9 → h9 1 0 = 2 ∧ P (h9 2 9) h9)) ∧ (h 2 9 = 0 → P (-2) h))))) :
    V G X 1 0 0 (QF G X 0 0 0 (PI h0 P)) 0 [(0, rf 1)] [] h := by
  have B := B0
  have E : EX h h := EX.rf B.2
  obtain ⟨SX, F⟩ := F
  refine v_aload_n C 0 rfl rfl dX0_undo_0 ?_
  refine gX0_149 C (SX.ext E.1).k1 rfl dX0_undo_1 ?_
  refine v_ifnull C 17 dX0_undo_4 (by decide) (fun c1 => ?_) (fun c1 => ?_)
  · have F := F.1 c1
    refine v_bipush C rfl dX0_undo_17 ?_
    exact v_iret C (Nat.le_refl _) (Nat.le_refl _) dX0_undo_19 ⟨B, ⟨by decide, by decide⟩, F⟩
  · have F := F.2 c1
    refine v_aload_n C 0 rfl rfl dX0_undo_7 ?_
    obtain ⟨o2, F⟩ := F
    refine gX0_149 C (SX.ext E.1).k1 o2 dX0_undo_8 ?_
    refine gX0_239 C ((SX.ext E.1).t2).k rfl dX0_undo_11 ?_
    refine v_if_ne C 20 (EX.rI B (j := 9) ((SX.ext E.1).t2).k rfl) dX0_undo_14 (by decide) (fun c3 => ?_) (fun c3 => ?_)
    · have F := F.1 (c3)
      refine v_aload_n C 0 rfl rfl dX0_undo_20 ?_
      refine gX0_149 C (SX.ext E.1).k1 o2 dX0_undo_21 ?_
      refine v_dup C (rf_n1 _) dX0_undo_24 ?_
      refine gX0_239 C ((SX.ext E.1).t2).k rfl dX0_undo_25 ?_
      refine v_iconst C dX0_undo_28 ?_
      refine v_isub C dX0_undo_29 ?_
      obtain ⟨o4, F⟩ := F
      refine pX0_239 C ((SX.ext E.1).t2).k (okI_i rfl o4) dX0_undo_30 ?_
      obtain ⟨h5, eh5⟩ : ∃ m : Mem, m = up h 2 9 (h 2 9 - 1) := ⟨_, rfl⟩
      have B6 : EX h0 h5 := by rw [eh5]; exact EX_up B ((SX.ext E.1).t2).k (by decide) rfl (by decide) (okI_i rfl o4)
      have E7 : EX h h5 := by rw [eh5]; exact EX_up E ((SX.ext E.1).t2).k (by decide) rfl (by decide) (okI_i rfl o4)
      refine v_mem eh5 ?_
      have F := F h5 eh5
      refine v_aload_n C 0 rfl rfl dX0_undo_33 ?_
      refine gX0_149 C (SX.ext E7.1).k1 ((show h5 1 0 = h 1 0 by rw [eh5, up_i (by decide)]).trans o2) dX0_undo_34 ?_
      refine v_aload_n C 0 rfl rfl dX0_undo_37 ?_
      refine gX0_149 C (SX.ext E7.1).k1 ((show h5 1 0 = h 1 0 by rw [eh5, up_i (by decide)]).trans o2) dX0_undo_38 ?_
      refine gX0_239 C ((SX.ext E7.1).t2).k (show h5 2 9 = (h 2 9 - 1) by rw [eh5, up_s]) dX0_undo_41 ?_
      refine mX0_254 C ((SX.ext E7.1).t2).k (d2 := 1) (kc2 := 0) (ks2 := 0) (by decide) (Nat.le_refl _) (Nat.le_refl _) (Nat.le_of_ble_eq_true rfl) dX0_undo_44 (Ct.mono (F o4) ?_)
      rintro r8 h9 ⟨e10, F⟩
      have F := F e10
      have B12 := B6.tr e10
      have E13 := E7.tr e10
      refine v_aload_n C 0 rfl rfl dX0_undo_47 ?_
      obtain ⟨o14, F⟩ := F
      refine gX0_149 C (SX.ext E13.1).k1 o14 dX0_undo_48 ?_
      refine gX0_239 C ((SX.ext E13.1).t2).k rfl dX0_undo_51 ?_
      exact v_iret C (Nat.le_refl _) (Nat.le_refl _) dX0_undo_54 ⟨B12, (EX.rI B12 (j := 9) ((SX.ext E13.1).t2).k rfl), F⟩
    · have F := F.2 (c3)
      refine v_bipush C rfl dX0_undo_17 ?_
      exact v_iret C (Nat.le_refl _) (Nat.le_refl _) dX0_undo_19 ⟨B, ⟨by decide, by decide⟩, F⟩
set_option maxHeartbeats 1000000 in
theorem eX0_undo {G : GT} {l : Launch} {h : Mem} {P : Int → Mem → Prop} (F : ∀ X : MX, Cx G X cX0_undo 1 RX0 2 0 0 (some .int) "undo" → X.2.1 = l → (EX h h) →
    XS h ∧ ((h 1 0 = 0 → P (-2) h) ∧ (h 1 0 ≠ 0 → h 1 0 = 2 ∧ ((h 2 9 ≠ 0 → R32 (h 2 9 - 1) ∧ ∀ h5 : Mem, h5 = up h 2 9 (h 2 9 - 1) → kX1_takes G X.2.1 2 (h 2 9 - 1) h5 (fun _ h9 => EX h5 h9 → h9 1 0 = 2 ∧ P (h9 2 9) h9)) ∧ (h 2 9 = 0 → P (-2) h))))) :
    kX0_undo G l h P := by
  refine ct_of (by decide +kernel) (Nat.le_of_ble_eq_true rfl) fun X C e => ?_
  refine v_okz fun O => ?_
  exact wX0_undo_0 C (EX.rf O) (F X C e (EX.rf O))
def kX0_when (G : GT) (l : Launch) (h : Mem) (P : Int → Mem → Prop) : Prop := Ct G l yX0_when cX0_when 2 (some .int) 0 2 0 0 [rf 1] h (PI h P)
set_option maxHeartbeats 4000000 in
theorem wX0_when_0 {G : GT} {X : MX} {h0 h : Mem} {P : Int → Mem → Prop} (C : Cx G X cX0_when 2 RX0 2 0 0 (some .int) "when") (B0 : EX h0 h)
    (F : XS h ∧ ((h 1 0 ≠ 0 → h 1 0 = 2 ∧ ∀ y3 : Int, y3 = h 2 11 → (EX h0 h ∧ R32 y3 → V G X 2 0 0 (QF G X 0 0 0 (PI h0 P)) 17 [(0, rf 1), (1, iv y3)] [] h)) ∧ (h 1 0 = 0 → P (-1) h))) :
    V G X 2 0 0 (QF G X 0 0 0 (PI h0 P)) 0 [(0, rf 1)] [] h := by
  have B := B0
  have E : EX h h := EX.rf B.2
  obtain ⟨SX, F⟩ := F
  refine v_aload_n C 0 rfl rfl dX0_when_0 ?_
  refine gX0_149 C (SX.ext E.1).k1 rfl dX0_when_1 ?_
  refine v_ifnonnull C 9 dX0_when_4 (by decide) (fun c1 => ?_) (fun c1 => ?_)
  · have F := F.1 c1
    refine v_aload_n C 0 rfl rfl dX0_when_9 ?_
    obtain ⟨o2, F⟩ := F
    refine gX0_149 C (SX.ext E.1).k1 o2 dX0_when_10 ?_
    refine gX0_257 C ((SX.ext E.1).t2).k rfl dX0_when_13 ?_
    obtain ⟨y3, ey3⟩ : ∃ z : Int, z = h 2 11 := ⟨_, rfl⟩
    have F := F y3 ey3
    have Ry3 : R32 y3 := by rw [ey3]; exact (EX.rI B (j := 11) ((SX.ext E.1).t2).k rfl)
    refine v_istore_n C rfl (by decide) dX0_when_16 (lv2 := [(1, iv y3), (0, rf 1)]) (by rw [ey3]; rfl) ?_
    refine v_sub (lv2 := [(0, rf 1), (1, iv y3)]) [1, 0] rfl ?_
    exact F ⟨B, Ry3⟩
  · have F := F.2 c1
    refine v_iconst C dX0_when_7 ?_
    exact v_iret C (Nat.le_refl _) (Nat.le_refl _) dX0_when_8 ⟨B, ⟨by decide, by decide⟩, F⟩
set_option maxHeartbeats 4000000 in
theorem wX0_when_L17 {G : GT} {X : MX} {h0 h : Mem} {P : Int → Mem → Prop} {x1 : Int} (C : Cx G X cX0_when 2 RX0 2 0 0 (some .int) "when") (B0 : EX h0 h ∧ R32 x1)
    (F : XS h ∧ h 1 0 = 2 ∧ R32 (h 2 11 + 60) ∧ ((x1 ≥ h 2 11 + 60 → P (-2) h) ∧ (x1 < h 2 11 + 60 → kX0_staysDry G X.2.1 x1 h (fun r4 h5 => EX h h5 → ((r4 = 0 → R32 (x1 + 1) ∧ (EX h0 h5 ∧ R32 (x1 + 1) → V G X 2 0 0 (QF G X 0 0 0 (PI h0 P)) 17 [(0, rf 1), (1, iv (x1 + 1))] [] h5)) ∧ (r4 ≠ 0 → P x1 h5)))))) :
    V G X 2 0 0 (QF G X 0 0 0 (PI h0 P)) 17 [(0, rf 1), (1, iv x1)] [] h := by
  obtain ⟨B, R1⟩ := B0
  have E : EX h h := EX.rf B.2
  obtain ⟨SX, F⟩ := F
  refine v_iload_n C 1 rfl rfl dX0_when_17 ?_
  refine v_aload_n C 0 rfl rfl dX0_when_18 ?_
  obtain ⟨o1, F⟩ := F
  refine gX0_149 C (SX.ext E.1).k1 o1 dX0_when_19 ?_
  refine gX0_257 C ((SX.ext E.1).t2).k rfl dX0_when_22 ?_
  refine v_bipush C rfl dX0_when_25 ?_
  refine v_iadd C dX0_when_27 ?_
  obtain ⟨o2, F⟩ := F
  refine v_icmp_ge C 47 R1 o2 dX0_when_28 (by decide) (fun c3 => ?_) (fun c3 => ?_)
  · have F := F.1 (c3)
    refine v_bipush C rfl dX0_when_47 ?_
    exact v_iret C (Nat.le_refl _) (Nat.le_refl _) dX0_when_49 ⟨B, ⟨by decide, by decide⟩, F⟩
  · have F := F.2 (c3)
    refine v_aload_n C 0 rfl rfl dX0_when_31 ?_
    refine v_iload_n C 1 rfl rfl dX0_when_32 ?_
    refine mX0_322 C (SX.ext E.1).k1 (d2 := 1) (kc2 := 0) (ks2 := 0) (by decide) (Nat.le_refl _) (Nat.le_refl _) (Nat.le_of_ble_eq_true rfl) dX0_when_33 (Ct.mono (F R1) ?_)
    rintro r4 h5 ⟨e6, g7, F⟩
    have F := F e6
    have B8 := B.tr e6
    have E9 := E.tr e6
    refine v_if_eq C 41 (bR g7) dX0_when_36 (by decide) (fun c10 => ?_) (fun c10 => ?_)
    · have F := F.1 (c10)
      obtain ⟨o11, F⟩ := F
      refine v_iinc C 1 rfl (by decide) dX0_when_41 (lv2 := [(1, iv (x1 + 1)), (0, rf 1)]) rfl ?_
      refine v_goto C 17 dX0_when_44 (by decide) ?_
      refine v_sub (lv2 := [(0, rf 1), (1, iv (x1 + 1))]) [1, 0] rfl ?_
      exact F ⟨B8, o11⟩
    · have F := F.2 (c10)
      refine v_iload_n C 1 rfl rfl dX0_when_39 ?_
      exact v_iret C (Nat.le_refl _) (Nat.le_refl _) dX0_when_40 ⟨B8, R1, F⟩
set_option maxHeartbeats 1000000 in
theorem eX0_when {G : GT} {l : Launch} {h : Mem} {P : Int → Mem → Prop} (F : ∀ X : MX, Cx G X cX0_when 2 RX0 2 0 0 (some .int) "when" → X.2.1 = l → (EX h h) →
    XS h ∧ ((h 1 0 ≠ 0 → h 1 0 = 2 ∧ ∀ y3 : Int, y3 = h 2 11 → (EX h h ∧ R32 y3 → V G X 2 0 0 (QF G X 0 0 0 (PI h P)) 17 [(0, rf 1), (1, iv y3)] [] h)) ∧ (h 1 0 = 0 → P (-1) h))) :
    kX0_when G l h P := by
  refine ct_of (by decide +kernel) (Nat.le_of_ble_eq_true rfl) fun X C e => ?_
  refine v_okz fun O => ?_
  exact wX0_when_0 C (EX.rf O) (F X C e (EX.rf O))
def kX0_areLogsSo (G : GT) (l : Launch) (x1 : Int) (h : Mem) (P : Int → Mem → Prop) : Prop := Ct G l yX0_areLogsSo cX0_areLogsSo 3 (some .boolean) 0 3 0 0 [rf 1, rf x1] h (PZ h P)
set_option maxHeartbeats 4000000 in
theorem wX0_areLogsSo_0 {G : GT} {X : MX} {h0 h : Mem} {P : Int → Mem → Prop} {x1 : Int} (C : Cx G X cX0_areLogsSo 3 RX0 3 0 0 (some .boolean) "areLogsSo") (B0 : EX h0 h)
    (F : (EX h0 h ∧ R32 0 → V G X 3 0 0 (QF G X 0 0 0 (PZ h0 P)) 2 [(0, rf 1), (1, rf x1), (2, iv 0)] [] h)) :
    V G X 3 0 0 (QF G X 0 0 0 (PZ h0 P)) 0 [(0, rf 1), (1, rf x1)] [] h := by
  have B := B0
  have E : EX h h := EX.rf B.2
  refine v_iconst C dX0_areLogsSo_0 ?_
  refine v_istore_n C rfl (by decide) dX0_areLogsSo_1 (lv2 := [(2, iv 0), (0, rf 1), (1, rf x1)]) rfl ?_
  refine v_sub (lv2 := [(0, rf 1), (1, rf x1), (2, iv 0)]) [1, 2, 0] rfl ?_
  exact F ⟨B, ⟨by decide, by decide⟩⟩
set_option maxHeartbeats 4000000 in
theorem wX0_areLogsSo_L2 {G : GT} {X : MX} {h0 h : Mem} {P : Int → Mem → Prop} {x1 x2 : Int} (C : Cx G X cX0_areLogsSo 3 RX0 3 0 0 (some .boolean) "areLogsSo") (B0 : EX h0 h ∧ R32 x2)
    (F : XS h ∧ TownS h x1 ∧ h 1 0 = 2 ∧ R32 (3 * h 2 8) ∧ ((x2 ≥ 3 * h 2 8 → P 1 h) ∧ (x2 < 3 * h 2 8 → 0 ≤ x2 ∧ x2 < 30 ∧ ((h 12 x2 ≠ h x1 11 → R32 (x2 + 3) ∧ (EX h0 h ∧ R32 (x2 + 3) → V G X 3 0 0 (QF G X 0 0 0 (PZ h0 P)) 2 [(0, rf 1), (1, rf x1), (2, iv (x2 + 3))] [] h)) ∧ (h 12 x2 = h x1 11 → 0 ≤ x2 + 1 ∧ x2 + 1 < 30 ∧ kX1_whose G X.2.1 x1 (h 12 (x2 + 1)) h (fun r10 h11 => EX h h11 → h11 1 0 = 2 ∧ 0 ≤ x2 + 2 ∧ x2 + 2 < 30 ∧ ((r10 = h11 12 (x2 + 2) → R32 (x2 + 3) ∧ (EX h0 h11 ∧ R32 (x2 + 3) → V G X 3 0 0 (QF G X 0 0 0 (PZ h0 P)) 2 [(0, rf 1), (1, rf x1), (2, iv (x2 + 3))] [] h11)) ∧ (r10 ≠ h11 12 (x2 + 2) → P 0 h11)))))))) :
    V G X 3 0 0 (QF G X 0 0 0 (PZ h0 P)) 2 [(0, rf 1), (1, rf x1), (2, iv x2)] [] h := by
  obtain ⟨B, R2⟩ := B0
  have E : EX h h := EX.rf B.2
  obtain ⟨SX, F⟩ := F
  obtain ⟨S_x1, F⟩ := F
  refine v_iload_n C 2 rfl rfl dX0_areLogsSo_2 ?_
  refine v_iconst C dX0_areLogsSo_3 ?_
  refine v_aload_n C 0 rfl rfl dX0_areLogsSo_4 ?_
  obtain ⟨o1, F⟩ := F
  refine gX0_149 C (SX.ext E.1).k1 o1 dX0_areLogsSo_5 ?_
  refine gX0_352 C ((SX.ext E.1).t2).k rfl dX0_areLogsSo_8 ?_
  refine v_imul C dX0_areLogsSo_11 ?_
  obtain ⟨o2, F⟩ := F
  refine v_icmp_ge C 68 R2 o2 dX0_areLogsSo_12 (by decide) (fun c3 => ?_) (fun c3 => ?_)
  · have F := F.1 (c3)
    refine v_iconst C dX0_areLogsSo_68 ?_
    exact v_zret C (by decide) (Nat.le_refl _) (Nat.le_refl _) dX0_areLogsSo_69 ⟨B, (by decide), F⟩
  · have F := F.2 (c3)
    refine v_aload_n C 0 rfl rfl dX0_areLogsSo_15 ?_
    refine gX0_149 C (SX.ext E.1).k1 o1 dX0_areLogsSo_16 ?_
    refine gX0_357 C ((SX.ext E.1).t2).k ((SX.ext E.1).t2).f22 dX0_areLogsSo_19 ?_
    refine v_iload_n C 2 rfl rfl dX0_areLogsSo_22 ?_
    obtain ⟨o4, F⟩ := F
    obtain ⟨o5, F⟩ := F
    refine v_iald C ((SX.ext E.1).t2).k22 o4 (by rw [((SX.ext E.1).t2).l22]; exact o5) rfl dX0_areLogsSo_23 ?_
    refine v_aload_n C 1 rfl rfl dX0_areLogsSo_24 ?_
    refine gX0_257 C (S_x1.ext E.1).k rfl dX0_areLogsSo_25 ?_
    refine v_icmp_ne C 62 (EX.rI B (j := x2) ((SX.ext E.1).t2).k22 rfl) (EX.rI B (j := 11) (S_x1.ext E.1).k rfl) dX0_areLogsSo_28 (by decide) (fun c6 => ?_) (fun c6 => ?_)
    · have F := F.1 (c6)
      obtain ⟨o7, F⟩ := F
      refine v_iinc C 2 rfl (by decide) dX0_areLogsSo_62 (lv2 := [(2, iv (x2 + 3)), (0, rf 1), (1, rf x1)]) rfl ?_
      refine v_goto C 2 dX0_areLogsSo_65 (by decide) ?_
      refine v_sub (lv2 := [(0, rf 1), (1, rf x1), (2, iv (x2 + 3))]) [1, 2, 0] rfl ?_
      exact F ⟨B, o7⟩
    · have F := F.2 (c6)
      refine v_aload_n C 1 rfl rfl dX0_areLogsSo_31 ?_
      refine v_aload_n C 0 rfl rfl dX0_areLogsSo_32 ?_
      refine gX0_149 C (SX.ext E.1).k1 o1 dX0_areLogsSo_33 ?_
      refine gX0_357 C ((SX.ext E.1).t2).k ((SX.ext E.1).t2).f22 dX0_areLogsSo_36 ?_
      refine v_iload_n C 2 rfl rfl dX0_areLogsSo_39 ?_
      refine v_iconst C dX0_areLogsSo_40 ?_
      refine v_iadd C dX0_areLogsSo_41 ?_
      obtain ⟨o8, F⟩ := F
      obtain ⟨o9, F⟩ := F
      refine v_iald C ((SX.ext E.1).t2).k22 o8 (by rw [((SX.ext E.1).t2).l22]; exact o9) rfl dX0_areLogsSo_42 ?_
      refine mX0_223 C (S_x1.ext E.1).k (d2 := 2) (kc2 := 0) (ks2 := 0) (by decide) (Nat.le_refl _) (Nat.le_refl _) (Nat.le_of_ble_eq_true rfl) dX0_areLogsSo_43 (Ct.mono (F (EX.rI B (j := x2 + 1) ((SX.ext E.1).t2).k22 rfl)) ?_)
      rintro r10 h11 ⟨e12, g13, F⟩
      have F := F e12
      have B14 := B.tr e12
      have E15 := E.tr e12
      refine v_aload_n C 0 rfl rfl dX0_areLogsSo_46 ?_
      obtain ⟨o16, F⟩ := F
      refine gX0_149 C (SX.ext E15.1).k1 o16 dX0_areLogsSo_47 ?_
      refine gX0_357 C ((SX.ext E15.1).t2).k ((SX.ext E15.1).t2).f22 dX0_areLogsSo_50 ?_
      refine v_iload_n C 2 rfl rfl dX0_areLogsSo_53 ?_
      refine v_iconst C dX0_areLogsSo_54 ?_
      refine v_iadd C dX0_areLogsSo_55 ?_
      obtain ⟨o17, F⟩ := F
      obtain ⟨o18, F⟩ := F
      refine v_iald C ((SX.ext E15.1).t2).k22 o17 (by rw [((SX.ext E15.1).t2).l22]; exact o18) rfl dX0_areLogsSo_56 ?_
      refine v_icmp_eq C 62 g13 (EX.rI B14 (j := x2 + 2) ((SX.ext E15.1).t2).k22 rfl) dX0_areLogsSo_57 (by decide) (fun c19 => ?_) (fun c19 => ?_)
      · have F := F.1 (c19)
        obtain ⟨o20, F⟩ := F
        refine v_iinc C 2 rfl (by decide) dX0_areLogsSo_62 (lv2 := [(2, iv (x2 + 3)), (0, rf 1), (1, rf x1)]) rfl ?_
        refine v_goto C 2 dX0_areLogsSo_65 (by decide) ?_
        refine v_sub (lv2 := [(0, rf 1), (1, rf x1), (2, iv (x2 + 3))]) [1, 2, 0] rfl ?_
        exact F ⟨B14, o20⟩
      · have F := F.2 (c19)
        refine v_iconst C dX0_areLogsSo_60 ?_
        exact v_zret C (by decide) (Nat.le_refl _) (Nat.le_refl _) dX0_areLogsSo_61 ⟨B14, (by decide), F⟩
set_option maxHeartbeats 1000000 in
theorem eX0_areLogsSo {G : GT} {l : Launch} {x1 : Int} {h : Mem} {P : Int → Mem → Prop} (F : ∀ X : MX, Cx G X cX0_areLogsSo 3 RX0 3 0 0 (some .boolean) "areLogsSo" → X.2.1 = l → (EX h h) →
    (EX h h ∧ R32 0 → V G X 3 0 0 (QF G X 0 0 0 (PZ h P)) 2 [(0, rf 1), (1, rf x1), (2, iv 0)] [] h)) :
    kX0_areLogsSo G l x1 h P := by
  refine ct_of (by decide +kernel) (Nat.le_of_ble_eq_true rfl) fun X C e => ?_
  refine v_okz fun O => ?_
  exact wX0_areLogsSo_0 C (EX.rf O) (F X C e (EX.rf O))
def kX0_back (G : GT) (l : Launch) (x1 : Int) (h : Mem) (P : Int → Mem → Prop) : Prop := R32 x1 → Ct G l yX0_back cX0_back 2 (some .int) 0 3 0 0 [rf 1, iv x1] h (PI h P)
set_option maxHeartbeats 4000000 in
theorem wX0_back_0 {G : GT} {X : MX} {h0 h : Mem} {P : Int → Mem → Prop} {x1 : Int} (C : Cx G X cX0_back 2 RX0 3 0 0 (some .int) "back") (B0 : EX h0 h ∧ R32 x1)
    (F : XS h ∧ kX0_in G X.2.1 x1 0 3 h (fun r1 h2 => EX h h2 → ((r1 = 0 → P (-1) h2) ∧ (r1 ≠ 0 → 0 ≤ x1 ∧ x1 < 4 ∧ ((h2 176 x1 ≠ 0 → h2 (h2 176 x1) (-1) = 14 ∧ ((h2 (h2 176 x1) 1 = 0 → ∀ h13 : Mem, h13 = up h2 1 0 0 → h13 (h2 176 x1) (-1) = 14 ∧ ∀ h17 : Mem, h17 = up h13 1 7 (h2 (h2 176 x1) 2) → h17 (h2 176 x1) (-1) = 14 ∧ ∀ h21 : Mem, h21 = up h17 1 8 (h2 (h2 176 x1) 3) → P 0 h21) ∧ (h2 (h2 176 x1) 1 ≠ 0 → kX1_copies G X.2.1 2 (h2 (h2 176 x1) 0) h2 (fun r25 h26 => EX h2 h26 → r25 = 2 ∧ ∀ h31 : Mem, h31 = up h26 1 0 2 → h31 (h26 176 x1) (-1) = 14 ∧ ∀ h35 : Mem, h35 = up h31 1 7 (h26 (h26 176 x1) 2) → h35 (h26 176 x1) (-1) = 14 ∧ ∀ h39 : Mem, h39 = up h35 1 8 (h26 (h26 176 x1) 3) → P (h26 2 11) h39)))) ∧ (h2 176 x1 = 0 → P (-1) h2)))))) :
    V G X 2 0 0 (QF G X 0 0 0 (PI h0 P)) 0 [(0, rf 1), (1, iv x1)] [] h := by
  obtain ⟨B, R1⟩ := B0
  have E : EX h h := EX.rf B.2
  obtain ⟨SX, F⟩ := F
  refine v_iload_n C 1 rfl rfl dX0_back_0 ?_
  refine v_i2l C R1 dX0_back_1 ?_
  refine v_lconst C (x := 0) rfl dX0_back_2 ?_
  refine v_ldc2 C (x := 3) q1190 dX0_back_3 ?_
  refine mX0_193 C (d2 := 0) (kc2 := 0) (ks2 := 0) (by decide) (Nat.le_refl _) (Nat.le_refl _) (Nat.le_of_ble_eq_true rfl) dX0_back_6 (Ct.mono (F (R32.l R1) ⟨by decide, by decide⟩ ⟨by decide, by decide⟩) ?_)
  rintro r1 h2 ⟨e3, g4, F⟩
  have F := F e3
  have B5 := B.tr e3
  have E6 := E.tr e3
  refine v_if_eq C 21 (bR g4) dX0_back_9 (by decide) (fun c7 => ?_) (fun c7 => ?_)
  · have F := F.1 (c7)
    refine v_iconst C dX0_back_21 ?_
    exact v_iret C (Nat.le_refl _) (Nat.le_refl _) dX0_back_22 ⟨B5, ⟨by decide, by decide⟩, F⟩
  · have F := F.2 (c7)
    refine v_aload_n C 0 rfl rfl dX0_back_12 ?_
    refine gX0_119 C (SX.ext E6.1).k1 (SX.ext E6.1).f24 dX0_back_13 ?_
    refine v_iload_n C 1 rfl rfl dX0_back_16 ?_
    obtain ⟨o8, F⟩ := F
    obtain ⟨o9, F⟩ := F
    refine v_aald C 7 (by decide) (by decide) (SX.ext E6.1).k176 o8 (by rw [(SX.ext E6.1).l176]; exact o9) rfl dX0_back_17 ?_
    refine v_ifnonnull C 23 dX0_back_18 (by decide) (fun c10 => ?_) (fun c10 => ?_)
    · have F := F.1 c10
      refine v_aload_n C 0 rfl rfl dX0_back_23 ?_
      refine v_aload_n C 0 rfl rfl dX0_back_24 ?_
      refine gX0_119 C (SX.ext E6.1).k1 (SX.ext E6.1).f24 dX0_back_25 ?_
      refine v_iload_n C 1 rfl rfl dX0_back_28 ?_
      refine v_aald C 7 (by decide) (by decide) (SX.ext E6.1).k176 o8 (by rw [(SX.ext E6.1).l176]; exact o9) rfl dX0_back_29 ?_
      obtain ⟨o11, F⟩ := F
      refine gX0_404 C o11 rfl dX0_back_30 ?_
      refine v_if_eq C 55 (EX.rI B5 (j := 1) o11 rfl) dX0_back_33 (by decide) (fun c12 => ?_) (fun c12 => ?_)
      · have F := F.1 (c12)
        refine v_null C dX0_back_55 ?_
        refine pX0_149 C (SX.ext E6.1).k1 (okI_r rfl rfl) dX0_back_56 ?_
        obtain ⟨h13, eh13⟩ : ∃ m : Mem, m = up h2 1 0 0 := ⟨_, rfl⟩
        have B14 : EX h0 h13 := by rw [eh13]; exact EX_up B5 (SX.ext E6.1).k1 (by decide) rfl (by decide) (okI_r rfl rfl)
        have E15 : EX h h13 := by rw [eh13]; exact EX_up E6 (SX.ext E6.1).k1 (by decide) rfl (by decide) (okI_r rfl rfl)
        refine v_mem eh13 ?_
        have F := F h13 eh13
        refine v_aload_n C 0 rfl rfl dX0_back_59 ?_
        refine v_aload_n C 0 rfl rfl dX0_back_60 ?_
        refine gX0_119 C (SX.ext E15.1).k1 (SX.ext E15.1).f24 dX0_back_61 ?_
        refine v_iload_n C 1 rfl rfl dX0_back_64 ?_
        refine v_aald C 7 (by decide) (by decide) (SX.ext E15.1).k176 o8 (by rw [(SX.ext E15.1).l176]; exact o9) (show h13 176 x1 = h2 176 x1 by rw [eh13, up_a (by decide)]) dX0_back_65 ?_
        obtain ⟨o16, F⟩ := F
        refine gX0_408 C o16 (show h13 (h2 176 x1) 2 = h2 (h2 176 x1) 2 by rw [eh13, up_i (by decide)]) dX0_back_66 ?_
        refine pX0_373 C (SX.ext E15.1).k1 (okI_i rfl (R32.of (show h13 (h2 176 x1) 2 = h2 (h2 176 x1) 2 by rw [eh13, up_i (by decide)]) (EX.rI B14 (j := 2) o16 rfl))) dX0_back_69 ?_
        obtain ⟨h17, eh17⟩ : ∃ m : Mem, m = up h13 1 7 (h2 (h2 176 x1) 2) := ⟨_, rfl⟩
        have B18 : EX h0 h17 := by rw [eh17]; exact EX_up B14 (SX.ext E15.1).k1 (by decide) rfl (by decide) (okI_i rfl (R32.of (show h13 (h2 176 x1) 2 = h2 (h2 176 x1) 2 by rw [eh13, up_i (by decide)]) (EX.rI B14 (j := 2) o16 rfl)))
        have E19 : EX h h17 := by rw [eh17]; exact EX_up E15 (SX.ext E15.1).k1 (by decide) rfl (by decide) (okI_i rfl (R32.of (show h13 (h2 176 x1) 2 = h2 (h2 176 x1) 2 by rw [eh13, up_i (by decide)]) (EX.rI B14 (j := 2) o16 rfl)))
        refine v_mem eh17 ?_
        have F := F h17 eh17
        refine v_aload_n C 0 rfl rfl dX0_back_72 ?_
        refine v_aload_n C 0 rfl rfl dX0_back_73 ?_
        refine gX0_119 C (SX.ext E19.1).k1 (SX.ext E19.1).f24 dX0_back_74 ?_
        refine v_iload_n C 1 rfl rfl dX0_back_77 ?_
        refine v_aald C 7 (by decide) (by decide) (SX.ext E19.1).k176 o8 (by rw [(SX.ext E19.1).l176]; exact o9) (show h17 176 x1 = h2 176 x1 by rw [eh17, up_a (by decide), eh13, up_a (by decide)]) dX0_back_78 ?_
        obtain ⟨o20, F⟩ := F
        refine gX0_409 C o20 (show h17 (h2 176 x1) 3 = h2 (h2 176 x1) 3 by rw [eh17, up_i (by decide), eh13, up_i (by decide)]) dX0_back_79 ?_
        refine pX0_35 C (SX.ext E19.1).k1 (okI_i rfl (R32.of (show h17 (h2 176 x1) 3 = h2 (h2 176 x1) 3 by rw [eh17, up_i (by decide), eh13, up_i (by decide)]) (EX.rI B18 (j := 3) o20 rfl))) dX0_back_82 ?_
        obtain ⟨h21, eh21⟩ : ∃ m : Mem, m = up h17 1 8 (h2 (h2 176 x1) 3) := ⟨_, rfl⟩
        have B22 : EX h0 h21 := by rw [eh21]; exact EX_up B18 (SX.ext E19.1).k1 (by decide) rfl (by decide) (okI_i rfl (R32.of (show h17 (h2 176 x1) 3 = h2 (h2 176 x1) 3 by rw [eh17, up_i (by decide), eh13, up_i (by decide)]) (EX.rI B18 (j := 3) o20 rfl)))
        have E23 : EX h h21 := by rw [eh21]; exact EX_up E19 (SX.ext E19.1).k1 (by decide) rfl (by decide) (okI_i rfl (R32.of (show h17 (h2 176 x1) 3 = h2 (h2 176 x1) 3 by rw [eh17, up_i (by decide), eh13, up_i (by decide)]) (EX.rI B18 (j := 3) o20 rfl)))
        refine v_mem eh21 ?_
        have F := F h21 eh21
        refine v_aload_n C 0 rfl rfl dX0_back_85 ?_
        refine gX0_149 C (SX.ext E23.1).k1 (show h21 1 0 = 0 by rw [eh21, up_i (by decide), eh17, up_i (by decide), eh13, up_s]) dX0_back_86 ?_
        refine v_ifnonnull C 96 dX0_back_89 (by decide) (fun c => absurd c (by decide)) (fun _ => ?_)
        refine v_iconst C dX0_back_92 ?_
        refine v_goto C 103 dX0_back_93 (by decide) ?_
        exact v_iret C (Nat.le_refl _) (Nat.le_refl _) dX0_back_103 ⟨B22, ⟨by decide, by decide⟩, F⟩
      · have F := F.2 (c12)
        refine v_aload_n C 0 rfl rfl dX0_back_36 ?_
        refine gX0_12 C (SX.ext E6.1).k1 (SX.ext E6.1).f1 dX0_back_37 ?_
        refine v_aload_n C 0 rfl rfl dX0_back_40 ?_
        refine gX0_119 C (SX.ext E6.1).k1 (SX.ext E6.1).f24 dX0_back_41 ?_
        refine v_iload_n C 1 rfl rfl dX0_back_44 ?_
        refine v_aald C 7 (by decide) (by decide) (SX.ext E6.1).k176 o8 (by rw [(SX.ext E6.1).l176]; exact o9) rfl dX0_back_45 ?_
        refine gX0_410 C o11 rfl dX0_back_46 ?_
        refine mX0_145 C ((SX.ext E6.1).t2).k (d2 := 2) (kc2 := 0) (ks2 := 0) (by decide) (Nat.le_refl _) (Nat.le_refl _) (Nat.le_of_ble_eq_true rfl) dX0_back_49 (Ct.mono (F) ?_)
        rintro r25 h26 ⟨e27, F⟩
        replace F := F e27
        have B29 := B5.tr e27
        have E30 := E6.tr e27
        obtain ⟨r25q, F⟩ := F
        subst r25q
        refine v_goto C 56 dX0_back_52 (by decide) ?_
        refine pX0_149 C (SX.ext E30.1).k1 (okI_r rfl rfl) dX0_back_56 ?_
        obtain ⟨h31, eh31⟩ : ∃ m : Mem, m = up h26 1 0 2 := ⟨_, rfl⟩
        have B32 : EX h0 h31 := by rw [eh31]; exact EX_up B29 (SX.ext E30.1).k1 (by decide) rfl (by decide) (okI_r rfl rfl)
        have E33 : EX h h31 := by rw [eh31]; exact EX_up E30 (SX.ext E30.1).k1 (by decide) rfl (by decide) (okI_r rfl rfl)
        refine v_mem eh31 ?_
        have F := F h31 eh31
        refine v_aload_n C 0 rfl rfl dX0_back_59 ?_
        refine v_aload_n C 0 rfl rfl dX0_back_60 ?_
        refine gX0_119 C (SX.ext E33.1).k1 (SX.ext E33.1).f24 dX0_back_61 ?_
        refine v_iload_n C 1 rfl rfl dX0_back_64 ?_
        refine v_aald C 7 (by decide) (by decide) (SX.ext E33.1).k176 o8 (by rw [(SX.ext E33.1).l176]; exact o9) (show h31 176 x1 = h26 176 x1 by rw [eh31, up_a (by decide)]) dX0_back_65 ?_
        obtain ⟨o34, F⟩ := F
        refine gX0_408 C o34 (show h31 (h26 176 x1) 2 = h26 (h26 176 x1) 2 by rw [eh31, up_i (by decide)]) dX0_back_66 ?_
        refine pX0_373 C (SX.ext E33.1).k1 (okI_i rfl (R32.of (show h31 (h26 176 x1) 2 = h26 (h26 176 x1) 2 by rw [eh31, up_i (by decide)]) (EX.rI B32 (j := 2) o34 rfl))) dX0_back_69 ?_
        obtain ⟨h35, eh35⟩ : ∃ m : Mem, m = up h31 1 7 (h26 (h26 176 x1) 2) := ⟨_, rfl⟩
        have B36 : EX h0 h35 := by rw [eh35]; exact EX_up B32 (SX.ext E33.1).k1 (by decide) rfl (by decide) (okI_i rfl (R32.of (show h31 (h26 176 x1) 2 = h26 (h26 176 x1) 2 by rw [eh31, up_i (by decide)]) (EX.rI B32 (j := 2) o34 rfl)))
        have E37 : EX h h35 := by rw [eh35]; exact EX_up E33 (SX.ext E33.1).k1 (by decide) rfl (by decide) (okI_i rfl (R32.of (show h31 (h26 176 x1) 2 = h26 (h26 176 x1) 2 by rw [eh31, up_i (by decide)]) (EX.rI B32 (j := 2) o34 rfl)))
        refine v_mem eh35 ?_
        have F := F h35 eh35
        refine v_aload_n C 0 rfl rfl dX0_back_72 ?_
        refine v_aload_n C 0 rfl rfl dX0_back_73 ?_
        refine gX0_119 C (SX.ext E37.1).k1 (SX.ext E37.1).f24 dX0_back_74 ?_
        refine v_iload_n C 1 rfl rfl dX0_back_77 ?_
        refine v_aald C 7 (by decide) (by decide) (SX.ext E37.1).k176 o8 (by rw [(SX.ext E37.1).l176]; exact o9) (show h35 176 x1 = h26 176 x1 by rw [eh35, up_a (by decide), eh31, up_a (by decide)]) dX0_back_78 ?_
        obtain ⟨o38, F⟩ := F
        refine gX0_409 C o38 (show h35 (h26 176 x1) 3 = h26 (h26 176 x1) 3 by rw [eh35, up_i (by decide), eh31, up_i (by decide)]) dX0_back_79 ?_
        refine pX0_35 C (SX.ext E37.1).k1 (okI_i rfl (R32.of (show h35 (h26 176 x1) 3 = h26 (h26 176 x1) 3 by rw [eh35, up_i (by decide), eh31, up_i (by decide)]) (EX.rI B36 (j := 3) o38 rfl))) dX0_back_82 ?_
        obtain ⟨h39, eh39⟩ : ∃ m : Mem, m = up h35 1 8 (h26 (h26 176 x1) 3) := ⟨_, rfl⟩
        have B40 : EX h0 h39 := by rw [eh39]; exact EX_up B36 (SX.ext E37.1).k1 (by decide) rfl (by decide) (okI_i rfl (R32.of (show h35 (h26 176 x1) 3 = h26 (h26 176 x1) 3 by rw [eh35, up_i (by decide), eh31, up_i (by decide)]) (EX.rI B36 (j := 3) o38 rfl)))
        have E41 : EX h h39 := by rw [eh39]; exact EX_up E37 (SX.ext E37.1).k1 (by decide) rfl (by decide) (okI_i rfl (R32.of (show h35 (h26 176 x1) 3 = h26 (h26 176 x1) 3 by rw [eh35, up_i (by decide), eh31, up_i (by decide)]) (EX.rI B36 (j := 3) o38 rfl)))
        refine v_mem eh39 ?_
        have F := F h39 eh39
        refine v_aload_n C 0 rfl rfl dX0_back_85 ?_
        refine gX0_149 C (SX.ext E41.1).k1 (show h39 1 0 = 2 by rw [eh39, up_i (by decide), eh35, up_i (by decide), eh31, up_s]) dX0_back_86 ?_
        refine v_ifnonnull C 96 dX0_back_89 (by decide) (fun _ => ?_) (fun c => absurd c (by decide))
        refine v_aload_n C 0 rfl rfl dX0_back_96 ?_
        refine gX0_149 C (SX.ext E41.1).k1 (show h39 1 0 = 2 by rw [eh39, up_i (by decide), eh35, up_i (by decide), eh31, up_s]) dX0_back_97 ?_
        refine gX0_257 C ((SX.ext E41.1).t2).k (show h39 2 11 = h26 2 11 by rw [eh39, up_i (by decide), eh35, up_i (by decide), eh31, up_i (by decide)]) dX0_back_100 ?_
        exact v_iret C (Nat.le_refl _) (Nat.le_refl _) dX0_back_103 ⟨B40, (R32.of (show h39 2 11 = h26 2 11 by rw [eh39, up_i (by decide), eh35, up_i (by decide), eh31, up_i (by decide)]) (EX.rI B40 (j := 11) ((SX.ext E41.1).t2).k rfl)), F⟩
    · have F := F.2 c10
      refine v_iconst C dX0_back_21 ?_
      exact v_iret C (Nat.le_refl _) (Nat.le_refl _) dX0_back_22 ⟨B5, ⟨by decide, by decide⟩, F⟩
set_option maxHeartbeats 1000000 in
theorem eX0_back {G : GT} {l : Launch} {x1 : Int} {h : Mem} {P : Int → Mem → Prop} (F : ∀ X : MX, Cx G X cX0_back 2 RX0 3 0 0 (some .int) "back" → X.2.1 = l → (EX h h ∧ R32 x1) →
    XS h ∧ kX0_in G X.2.1 x1 0 3 h (fun r1 h2 => EX h h2 → ((r1 = 0 → P (-1) h2) ∧ (r1 ≠ 0 → 0 ≤ x1 ∧ x1 < 4 ∧ ((h2 176 x1 ≠ 0 → h2 (h2 176 x1) (-1) = 14 ∧ ((h2 (h2 176 x1) 1 = 0 → ∀ h13 : Mem, h13 = up h2 1 0 0 → h13 (h2 176 x1) (-1) = 14 ∧ ∀ h17 : Mem, h17 = up h13 1 7 (h2 (h2 176 x1) 2) → h17 (h2 176 x1) (-1) = 14 ∧ ∀ h21 : Mem, h21 = up h17 1 8 (h2 (h2 176 x1) 3) → P 0 h21) ∧ (h2 (h2 176 x1) 1 ≠ 0 → kX1_copies G X.2.1 2 (h2 (h2 176 x1) 0) h2 (fun r25 h26 => EX h2 h26 → r25 = 2 ∧ ∀ h31 : Mem, h31 = up h26 1 0 2 → h31 (h26 176 x1) (-1) = 14 ∧ ∀ h35 : Mem, h35 = up h31 1 7 (h26 (h26 176 x1) 2) → h35 (h26 176 x1) (-1) = 14 ∧ ∀ h39 : Mem, h39 = up h35 1 8 (h26 (h26 176 x1) 3) → P (h26 2 11) h39)))) ∧ (h2 176 x1 = 0 → P (-1) h2)))))) :
    kX0_back G l x1 h P := by
  intro R1
  refine ct_of (by decide +kernel) (Nat.le_of_ble_eq_true rfl) fun X C e => ?_
  refine v_okz fun O => ?_
  exact wX0_back_0 C ⟨EX.rf O, R1⟩ (F X C e ⟨EX.rf O, R1⟩)
def kX0_image (G : GT) (l : Launch) (kc ks : Nat) (x1 : Int) (h : Mem) (P : Int → Mem → Prop) : Prop := R32 x1 → Ct G l yX0_image cX0_image 3 (some .int) 0 3 kc ks [rf 1, iv x1] h (PI h P)
set_option maxHeartbeats 4000000 in
theorem wX0_image_0 {G : GT} {X : MX} {h0 h : Mem} {P : Int → Mem → Prop} {kc ks uc us : Nat} {x1 : Int} (C : Cx G X cX0_image 3 RX0 3 kc ks (some .int) "image") (B0 : EX h0 h ∧ R32 x1)
    (F : XS h ∧ kX0_in G X.2.1 x1 0 3 h (fun r1 h2 => EX h h2 → ((r1 ≠ 0 → 0 ≤ x1 ∧ x1 < 4 ∧ ((h2 176 x1 ≠ 0 → ((h2 1 0 = 0 → h2 (h2 176 x1) (-1) = 14 ∧ ∀ h13 : Mem, h13 = up h2 (h2 176 x1) 1 0 → ∀ h16 : Mem, h16 = up h13 (h2 176 x1) 2 (h2 1 7) → ∀ h19 : Mem, h19 = up h16 (h2 176 x1) 3 (h2 1 8) → ((h2 1 0 ≠ 0 → h2 1 0 = 2 ∧ h19 (h2 (h2 176 x1) 0) (-1) = 2 ∧ kX1_copies G X.2.1 (h2 (h2 176 x1) 0) 2 h19 (fun r25 h26 => EX h19 h26 → r25 = h2 (h2 176 x1) 0 ∧ h26 1 0 = 2 ∧ P (h26 2 11) h26)) ∧ (h2 1 0 = 0 → P 0 h19))) ∧ (h2 1 0 ≠ 0 → h2 (h2 176 x1) (-1) = 14 ∧ ∀ h33 : Mem, h33 = up h2 (h2 176 x1) 1 1 → ∀ h36 : Mem, h36 = up h33 (h2 176 x1) 2 (h2 1 7) → ∀ h39 : Mem, h39 = up h36 (h2 176 x1) 3 (h2 1 8) → ((h2 1 0 ≠ 0 → h2 1 0 = 2 ∧ h39 (h2 (h2 176 x1) 0) (-1) = 2 ∧ kX1_copies G X.2.1 (h2 (h2 176 x1) 0) 2 h39 (fun r45 h46 => EX h39 h46 → r45 = h2 (h2 176 x1) 0 ∧ h46 1 0 = 2 ∧ P (h46 2 11) h46)) ∧ (h2 1 0 = 0 → P 0 h39))))) ∧ (h2 176 x1 = 0 → 0 + 1 ≤ kc ∧ 0 + 4 ≤ ks ∧ ∀ h54 : Mem, h54 = alloc h2 14 0 → ∀ a55 : Int, a55 = h2 0 0 → ∃ c58 s59 : Nat, 0 + 1 + c58 ≤ kc ∧ 0 + 4 + s59 ≤ ks ∧ kX15_init G X.2.1 c58 s59 a55 h54 (fun _ h63 => BX a55 h54 h63 → h63 a55 (-1) = 14 ∧ ∀ h69 : Mem, h69 = up h63 176 x1 a55 → ((h63 1 0 = 0 → h69 a55 (-1) = 14 ∧ ∀ h74 : Mem, h74 = up h69 a55 1 0 → ∀ h77 : Mem, h77 = up h74 a55 2 (h63 1 7) → ∀ h80 : Mem, h80 = up h77 a55 3 (h63 1 8) → ((h63 1 0 ≠ 0 → h63 1 0 = 2 ∧ h80 (h69 a55 0) (-1) = 2 ∧ kX1_copies G X.2.1 (h69 a55 0) 2 h80 (fun r86 h87 => EX h80 h87 → r86 = h69 a55 0 ∧ h87 1 0 = 2 ∧ P (h87 2 11) h87)) ∧ (h63 1 0 = 0 → P 0 h80))) ∧ (h63 1 0 ≠ 0 → h69 a55 (-1) = 14 ∧ ∀ h94 : Mem, h94 = up h69 a55 1 1 → ∀ h97 : Mem, h97 = up h94 a55 2 (h63 1 7) → ∀ h100 : Mem, h100 = up h97 a55 3 (h63 1 8) → ((h63 1 0 ≠ 0 → h63 1 0 = 2 ∧ h100 (h69 a55 0) (-1) = 2 ∧ kX1_copies G X.2.1 (h69 a55 0) 2 h100 (fun r106 h107 => EX h100 h107 → r106 = h69 a55 0 ∧ h107 1 0 = 2 ∧ P (h107 2 11) h107)) ∧ (h63 1 0 = 0 → P 0 h100)))))))) ∧ (r1 = 0 → P (-1) h2)))) :
    V G X 3 0 0 (QF G X 0 kc ks (PI h0 P)) 0 [(0, rf 1), (1, iv x1)] [] h := by
  obtain ⟨B, R1⟩ := B0
  have E : EX h h := EX.rf B.2
  obtain ⟨SX, F⟩ := F
  refine v_iload_n C 1 rfl rfl dX0_image_0 ?_
  refine v_i2l C R1 dX0_image_1 ?_
  refine v_lconst C (x := 0) rfl dX0_image_2 ?_
  refine v_ldc2 C (x := 3) q1190 dX0_image_3 ?_
  refine mX0_193 C (d2 := 0) (kc2 := 0) (ks2 := 0) (by decide) (Nat.zero_le _) (Nat.zero_le _) (Nat.le_of_ble_eq_true rfl) dX0_image_6 (Ct.mono (F (R32.l R1) ⟨by decide, by decide⟩ ⟨by decide, by decide⟩) ?_)
  rintro r1 h2 ⟨e3, g4, F⟩
  have F := F e3
  have B5 := B.tr e3
  have E6 := E.tr e3
  refine v_if_ne C 14 (bR g4) dX0_image_9 (by decide) (fun c7 => ?_) (fun c7 => ?_)
  · have F := F.1 (c7)
    refine v_aload_n C 0 rfl rfl dX0_image_14 ?_
    refine gX0_119 C (SX.ext E6.1).k1 (SX.ext E6.1).f24 dX0_image_15 ?_
    refine v_iload_n C 1 rfl rfl dX0_image_18 ?_
    obtain ⟨o8, F⟩ := F
    obtain ⟨o9, F⟩ := F
    refine v_aald C 7 (by decide) (by decide) (SX.ext E6.1).k176 o8 (by rw [(SX.ext E6.1).l176]; exact o9) rfl dX0_image_19 ?_
    refine v_ifnonnull C 36 dX0_image_20 (by decide) (fun c10 => ?_) (fun c10 => ?_)
    · have F := F.1 c10
      refine v_aload_n C 0 rfl rfl dX0_image_36 ?_
      refine gX0_119 C (SX.ext E6.1).k1 (SX.ext E6.1).f24 dX0_image_37 ?_
      refine v_iload_n C 1 rfl rfl dX0_image_40 ?_
      refine v_aald C 7 (by decide) (by decide) (SX.ext E6.1).k176 o8 (by rw [(SX.ext E6.1).l176]; exact o9) rfl dX0_image_41 ?_
      refine v_astore_n C rfl (by decide) dX0_image_42 (lv2 := [(2, rf (h2 176 x1)), (0, rf 1), (1, iv x1)]) rfl ?_
      refine v_aload_n C 0 rfl rfl dX0_image_43 ?_
      refine v_aload_n C 1 rfl rfl dX0_image_44 ?_
      refine gX0_149 C (SX.ext E6.1).k1 rfl dX0_image_45 ?_
      refine v_ifnull C 55 dX0_image_48 (by decide) (fun c11 => ?_) (fun c11 => ?_)
      · have F := F.1 c11
        refine v_iconst C dX0_image_55 ?_
        obtain ⟨o12, F⟩ := F
        refine pX0_404 C o12 (by decide) (okI_i rfl ⟨by decide, by decide⟩) dX0_image_56 ?_
        obtain ⟨h13, eh13⟩ : ∃ m : Mem, m = up h2 (h2 176 x1) 1 0 := ⟨_, rfl⟩
        have B14 : EX h0 h13 := by rw [eh13]; exact EX_up B5 o12 (by decide) rfl (by decide) (okI_i rfl ⟨by decide, by decide⟩)
        have E15 : EX h h13 := by rw [eh13]; exact EX_up E6 o12 (by decide) rfl (by decide) (okI_i rfl ⟨by decide, by decide⟩)
        refine v_mem eh13 ?_
        have F := F h13 eh13
        refine v_aload_n C 0 rfl rfl dX0_image_59 ?_
        refine v_aload_n C 1 rfl rfl dX0_image_60 ?_
        refine gX0_373 C (SX.ext E15.1).k1 (show h13 1 7 = h2 1 7 by rw [eh13, up_i (by decide)]) dX0_image_61 ?_
        refine pX0_408 C (ck_up eh13 (by decide) o12) (okI_i rfl (R32.of (show h13 1 7 = h2 1 7 by rw [eh13, up_i (by decide)]) (EX.rI B14 (j := 7) (SX.ext E15.1).k1 rfl))) dX0_image_64 ?_
        obtain ⟨h16, eh16⟩ : ∃ m : Mem, m = up h13 (h2 176 x1) 2 (h2 1 7) := ⟨_, rfl⟩
        have B17 : EX h0 h16 := by rw [eh16]; exact EX_up B14 (ck_up eh13 (by decide) o12) (by decide) rfl (by decide) (okI_i rfl (R32.of (show h13 1 7 = h2 1 7 by rw [eh13, up_i (by decide)]) (EX.rI B14 (j := 7) (SX.ext E15.1).k1 rfl)))
        have E18 : EX h h16 := by rw [eh16]; exact EX_up E15 (ck_up eh13 (by decide) o12) (by decide) rfl (by decide) (okI_i rfl (R32.of (show h13 1 7 = h2 1 7 by rw [eh13, up_i (by decide)]) (EX.rI B14 (j := 7) (SX.ext E15.1).k1 rfl)))
        refine v_mem eh16 ?_
        have F := F h16 eh16
        refine v_aload_n C 0 rfl rfl dX0_image_67 ?_
        refine v_aload_n C 1 rfl rfl dX0_image_68 ?_
        refine gX0_35 C (SX.ext E18.1).k1 (show h16 1 8 = h2 1 8 by rw [eh16, up_i (by decide), eh13, up_i (by decide)]) dX0_image_69 ?_
        refine pX0_409 C (ck_up eh16 (by decide) (ck_up eh13 (by decide) o12)) (okI_i rfl (R32.of (show h16 1 8 = h2 1 8 by rw [eh16, up_i (by decide), eh13, up_i (by decide)]) (EX.rI B17 (j := 8) (SX.ext E18.1).k1 rfl))) dX0_image_72 ?_
        obtain ⟨h19, eh19⟩ : ∃ m : Mem, m = up h16 (h2 176 x1) 3 (h2 1 8) := ⟨_, rfl⟩
        have B20 : EX h0 h19 := by rw [eh19]; exact EX_up B17 (ck_up eh16 (by decide) (ck_up eh13 (by decide) o12)) (by decide) rfl (by decide) (okI_i rfl (R32.of (show h16 1 8 = h2 1 8 by rw [eh16, up_i (by decide), eh13, up_i (by decide)]) (EX.rI B17 (j := 8) (SX.ext E18.1).k1 rfl)))
        have E21 : EX h h19 := by rw [eh19]; exact EX_up E18 (ck_up eh16 (by decide) (ck_up eh13 (by decide) o12)) (by decide) rfl (by decide) (okI_i rfl (R32.of (show h16 1 8 = h2 1 8 by rw [eh16, up_i (by decide), eh13, up_i (by decide)]) (EX.rI B17 (j := 8) (SX.ext E18.1).k1 rfl)))
        refine v_mem eh19 ?_
        have F := F h19 eh19
        refine v_aload_n C 1 rfl rfl dX0_image_75 ?_
        refine gX0_149 C (SX.ext E21.1).k1 (show h19 1 0 = h2 1 0 by rw [eh19, up_i (by decide), eh16, up_i (by decide), eh13, up_i (by decide)]) dX0_image_76 ?_
        refine v_ifnonnull C 84 dX0_image_79 (by decide) (fun c22 => ?_) (fun c22 => ?_)
        · have F := F.1 c22
          refine v_aload_n C 0 rfl rfl dX0_image_84 ?_
          refine gX0_410 C (ck_up eh19 (by decide) (ck_up eh16 (by decide) (ck_up eh13 (by decide) o12))) (show h19 (h2 176 x1) 0 = h2 (h2 176 x1) 0 by rw [eh19, up_i (by decide), eh16, up_i (by decide), eh13, up_i (by decide)]) dX0_image_85 ?_
          refine v_aload_n C 1 rfl rfl dX0_image_88 ?_
          obtain ⟨o23, F⟩ := F
          refine gX0_149 C (SX.ext E21.1).k1 ((show h19 1 0 = h2 1 0 by rw [eh19, up_i (by decide), eh16, up_i (by decide), eh13, up_i (by decide)]).trans o23) dX0_image_89 ?_
          obtain ⟨o24, F⟩ := F
          refine mX0_145 C o24 (d2 := 2) (kc2 := 0) (ks2 := 0) (by decide) (Nat.zero_le _) (Nat.zero_le _) (Nat.le_of_ble_eq_true rfl) dX0_image_92 (Ct.mono (F) ?_)
          rintro r25 h26 ⟨e27, F⟩
          replace F := F e27
          have B29 := B20.tr e27
          have E30 := E21.tr e27
          obtain ⟨r25q, F⟩ := F
          subst r25q
          refine v_pop C (rf_n1 _) dX0_image_95 ?_
          refine v_aload_n C 1 rfl rfl dX0_image_96 ?_
          obtain ⟨o31, F⟩ := F
          refine gX0_149 C (SX.ext E30.1).k1 o31 dX0_image_97 ?_
          refine gX0_257 C ((SX.ext E30.1).t2).k rfl dX0_image_100 ?_
          exact v_iret C (Nat.zero_le _) (Nat.zero_le _) dX0_image_103 ⟨B29, (EX.rI B29 (j := 11) ((SX.ext E30.1).t2).k rfl), F⟩
        · have F := F.2 c22
          refine v_iconst C dX0_image_82 ?_
          exact v_iret C (Nat.zero_le _) (Nat.zero_le _) dX0_image_83 ⟨B20, ⟨by decide, by decide⟩, F⟩
      · have F := F.2 c11
        refine v_iconst C dX0_image_51 ?_
        refine v_goto C 56 dX0_image_52 (by decide) ?_
        obtain ⟨o32, F⟩ := F
        refine pX0_404 C o32 (by decide) (okI_i rfl ⟨by decide, by decide⟩) dX0_image_56 ?_
        obtain ⟨h33, eh33⟩ : ∃ m : Mem, m = up h2 (h2 176 x1) 1 1 := ⟨_, rfl⟩
        have B34 : EX h0 h33 := by rw [eh33]; exact EX_up B5 o32 (by decide) rfl (by decide) (okI_i rfl ⟨by decide, by decide⟩)
        have E35 : EX h h33 := by rw [eh33]; exact EX_up E6 o32 (by decide) rfl (by decide) (okI_i rfl ⟨by decide, by decide⟩)
        refine v_mem eh33 ?_
        have F := F h33 eh33
        refine v_aload_n C 0 rfl rfl dX0_image_59 ?_
        refine v_aload_n C 1 rfl rfl dX0_image_60 ?_
        refine gX0_373 C (SX.ext E35.1).k1 (show h33 1 7 = h2 1 7 by rw [eh33, up_i (by decide)]) dX0_image_61 ?_
        refine pX0_408 C (ck_up eh33 (by decide) o32) (okI_i rfl (R32.of (show h33 1 7 = h2 1 7 by rw [eh33, up_i (by decide)]) (EX.rI B34 (j := 7) (SX.ext E35.1).k1 rfl))) dX0_image_64 ?_
        obtain ⟨h36, eh36⟩ : ∃ m : Mem, m = up h33 (h2 176 x1) 2 (h2 1 7) := ⟨_, rfl⟩
        have B37 : EX h0 h36 := by rw [eh36]; exact EX_up B34 (ck_up eh33 (by decide) o32) (by decide) rfl (by decide) (okI_i rfl (R32.of (show h33 1 7 = h2 1 7 by rw [eh33, up_i (by decide)]) (EX.rI B34 (j := 7) (SX.ext E35.1).k1 rfl)))
        have E38 : EX h h36 := by rw [eh36]; exact EX_up E35 (ck_up eh33 (by decide) o32) (by decide) rfl (by decide) (okI_i rfl (R32.of (show h33 1 7 = h2 1 7 by rw [eh33, up_i (by decide)]) (EX.rI B34 (j := 7) (SX.ext E35.1).k1 rfl)))
        refine v_mem eh36 ?_
        have F := F h36 eh36
        refine v_aload_n C 0 rfl rfl dX0_image_67 ?_
        refine v_aload_n C 1 rfl rfl dX0_image_68 ?_
        refine gX0_35 C (SX.ext E38.1).k1 (show h36 1 8 = h2 1 8 by rw [eh36, up_i (by decide), eh33, up_i (by decide)]) dX0_image_69 ?_
        refine pX0_409 C (ck_up eh36 (by decide) (ck_up eh33 (by decide) o32)) (okI_i rfl (R32.of (show h36 1 8 = h2 1 8 by rw [eh36, up_i (by decide), eh33, up_i (by decide)]) (EX.rI B37 (j := 8) (SX.ext E38.1).k1 rfl))) dX0_image_72 ?_
        obtain ⟨h39, eh39⟩ : ∃ m : Mem, m = up h36 (h2 176 x1) 3 (h2 1 8) := ⟨_, rfl⟩
        have B40 : EX h0 h39 := by rw [eh39]; exact EX_up B37 (ck_up eh36 (by decide) (ck_up eh33 (by decide) o32)) (by decide) rfl (by decide) (okI_i rfl (R32.of (show h36 1 8 = h2 1 8 by rw [eh36, up_i (by decide), eh33, up_i (by decide)]) (EX.rI B37 (j := 8) (SX.ext E38.1).k1 rfl)))
        have E41 : EX h h39 := by rw [eh39]; exact EX_up E38 (ck_up eh36 (by decide) (ck_up eh33 (by decide) o32)) (by decide) rfl (by decide) (okI_i rfl (R32.of (show h36 1 8 = h2 1 8 by rw [eh36, up_i (by decide), eh33, up_i (by decide)]) (EX.rI B37 (j := 8) (SX.ext E38.1).k1 rfl)))
        refine v_mem eh39 ?_
        have F := F h39 eh39
        refine v_aload_n C 1 rfl rfl dX0_image_75 ?_
        refine gX0_149 C (SX.ext E41.1).k1 (show h39 1 0 = h2 1 0 by rw [eh39, up_i (by decide), eh36, up_i (by decide), eh33, up_i (by decide)]) dX0_image_76 ?_
        refine v_ifnonnull C 84 dX0_image_79 (by decide) (fun c42 => ?_) (fun c42 => ?_)
        · have F := F.1 c42
          refine v_aload_n C 0 rfl rfl dX0_image_84 ?_
          refine gX0_410 C (ck_up eh39 (by decide) (ck_up eh36 (by decide) (ck_up eh33 (by decide) o32))) (show h39 (h2 176 x1) 0 = h2 (h2 176 x1) 0 by rw [eh39, up_i (by decide), eh36, up_i (by decide), eh33, up_i (by decide)]) dX0_image_85 ?_
          refine v_aload_n C 1 rfl rfl dX0_image_88 ?_
          obtain ⟨o43, F⟩ := F
          refine gX0_149 C (SX.ext E41.1).k1 ((show h39 1 0 = h2 1 0 by rw [eh39, up_i (by decide), eh36, up_i (by decide), eh33, up_i (by decide)]).trans o43) dX0_image_89 ?_
          obtain ⟨o44, F⟩ := F
          refine mX0_145 C o44 (d2 := 2) (kc2 := 0) (ks2 := 0) (by decide) (Nat.zero_le _) (Nat.zero_le _) (Nat.le_of_ble_eq_true rfl) dX0_image_92 (Ct.mono (F) ?_)
          rintro r45 h46 ⟨e47, F⟩
          replace F := F e47
          have B49 := B40.tr e47
          have E50 := E41.tr e47
          obtain ⟨r45q, F⟩ := F
          subst r45q
          refine v_pop C (rf_n1 _) dX0_image_95 ?_
          refine v_aload_n C 1 rfl rfl dX0_image_96 ?_
          obtain ⟨o51, F⟩ := F
          refine gX0_149 C (SX.ext E50.1).k1 o51 dX0_image_97 ?_
          refine gX0_257 C ((SX.ext E50.1).t2).k rfl dX0_image_100 ?_
          exact v_iret C (Nat.zero_le _) (Nat.zero_le _) dX0_image_103 ⟨B49, (EX.rI B49 (j := 11) ((SX.ext E50.1).t2).k rfl), F⟩
        · have F := F.2 c42
          refine v_iconst C dX0_image_82 ?_
          exact v_iret C (Nat.zero_le _) (Nat.zero_le _) dX0_image_83 ⟨B40, ⟨by decide, by decide⟩, F⟩
    · have F := F.2 c10
      refine v_aload_n C 0 rfl rfl dX0_image_23 ?_
      refine gX0_119 C (SX.ext E6.1).k1 (SX.ext E6.1).f24 dX0_image_24 ?_
      refine v_iload_n C 1 rfl rfl dX0_image_27 ?_
      obtain ⟨o52, o53, F⟩ := F
      refine nX0_117 C o52 o53 dX0_image_28 ?_
      obtain ⟨h54, eh54⟩ : ∃ m : Mem, m = alloc h2 14 0 := ⟨_, rfl⟩
      obtain ⟨a55, ea55⟩ : ∃ z : Int, z = h2 0 0 := ⟨_, rfl⟩
      have La55 : h0 0 0 ≤ a55 := by rw [ea55]; exact B5.1.1
      have Ma55 : h 0 0 ≤ a55 := by rw [ea55]; exact E6.1.1
      have Na55 : a55 ≠ 0 := by have z := B5.pos; rw [ea55]; omega
      have B56 : EX h0 h54 := by rw [eh54]; exact EX_alloc B5 (by decide) (by decide) (by decide) (by decide)
      have E57 : EX h h54 := by rw [eh54]; exact EX_alloc E6 (by decide) (by decide) (by decide) (by decide)
      refine v_mem eh54 ?_
      refine v_topi ea55.symm ?_
      have F := F h54 eh54 a55 ea55
      refine v_dup C (rf_n1 _) dX0_image_31 ?_
      obtain ⟨c58, s59, o60, o61, F⟩ := F
      refine mX0_403 C Na55 (d2 := 2) (kc2 := c58) (ks2 := s59) (by decide) o60 o61 (Nat.le_of_ble_eq_true rfl) dX0_image_32 (Ct.mono (F) ?_)
      rintro r62 h63 ⟨e64, F⟩
      have F := F e64
      have B66 := e64.2 _ B56 La55
      have E67 := e64.2 _ E57 Ma55
      obtain ⟨o68, F⟩ := F
      refine v_aast C 7 (ci := 13) rfl (by decide) (SX.ext E67.1).k176 o8 (by rw [(SX.ext E67.1).l176]; exact o9) rfl o68 dX0_image_35 ?_
      obtain ⟨h69, eh69⟩ : ∃ m : Mem, m = up h63 176 x1 a55 := ⟨_, rfl⟩
      have B70 : EX h0 h69 := by rw [eh69]; exact EX_up B66 (SX.ext E67.1).k176 (by decide) rfl o8 (okI_r rfl rfl)
      have E71 : EX h h69 := by rw [eh69]; exact EX_up E67 (SX.ext E67.1).k176 (by decide) rfl o8 (okI_r rfl rfl)
      refine v_mem eh69 ?_
      have F := F h69 eh69
      refine v_aload_n C 0 rfl rfl dX0_image_36 ?_
      refine gX0_119 C (SX.ext E71.1).k1 (SX.ext E71.1).f24 dX0_image_37 ?_
      refine v_iload_n C 1 rfl rfl dX0_image_40 ?_
      refine v_aald C 7 (by decide) (by decide) (SX.ext E71.1).k176 o8 (by rw [(SX.ext E71.1).l176]; exact o9) (show h69 176 x1 = a55 by rw [eh69, up_s]) dX0_image_41 ?_
      refine v_astore_n C rfl (by decide) dX0_image_42 (lv2 := [(2, rf a55), (0, rf 1), (1, iv x1)]) rfl ?_
      refine v_aload_n C 0 rfl rfl dX0_image_43 ?_
      refine v_aload_n C 1 rfl rfl dX0_image_44 ?_
      refine gX0_149 C (SX.ext E71.1).k1 (show h69 1 0 = h63 1 0 by rw [eh69, up_a (by decide)]) dX0_image_45 ?_
      refine v_ifnull C 55 dX0_image_48 (by decide) (fun c72 => ?_) (fun c72 => ?_)
      · have F := F.1 c72
        refine v_iconst C dX0_image_55 ?_
        obtain ⟨o73, F⟩ := F
        refine pX0_404 C o73 (by decide) (okI_i rfl ⟨by decide, by decide⟩) dX0_image_56 ?_
        obtain ⟨h74, eh74⟩ : ∃ m : Mem, m = up h69 a55 1 0 := ⟨_, rfl⟩
        have B75 : EX h0 h74 := by rw [eh74]; exact EX_up B70 o73 (by decide) rfl (by decide) (okI_i rfl ⟨by decide, by decide⟩)
        have E76 : EX h h74 := by rw [eh74]; exact EX_up E71 o73 (by decide) rfl (by decide) (okI_i rfl ⟨by decide, by decide⟩)
        refine v_mem eh74 ?_
        have F := F h74 eh74
        refine v_aload_n C 0 rfl rfl dX0_image_59 ?_
        refine v_aload_n C 1 rfl rfl dX0_image_60 ?_
        refine gX0_373 C (SX.ext E76.1).k1 (show h74 1 7 = h63 1 7 by rw [eh74, up_i (by decide), eh69, up_a (by decide)]) dX0_image_61 ?_
        refine pX0_408 C (ck_up eh74 (by decide) o73) (okI_i rfl (R32.of (show h74 1 7 = h63 1 7 by rw [eh74, up_i (by decide), eh69, up_a (by decide)]) (EX.rI B75 (j := 7) (SX.ext E76.1).k1 rfl))) dX0_image_64 ?_
        obtain ⟨h77, eh77⟩ : ∃ m : Mem, m = up h74 a55 2 (h63 1 7) := ⟨_, rfl⟩
        have B78 : EX h0 h77 := by rw [eh77]; exact EX_up B75 (ck_up eh74 (by decide) o73) (by decide) rfl (by decide) (okI_i rfl (R32.of (show h74 1 7 = h63 1 7 by rw [eh74, up_i (by decide), eh69, up_a (by decide)]) (EX.rI B75 (j := 7) (SX.ext E76.1).k1 rfl)))
        have E79 : EX h h77 := by rw [eh77]; exact EX_up E76 (ck_up eh74 (by decide) o73) (by decide) rfl (by decide) (okI_i rfl (R32.of (show h74 1 7 = h63 1 7 by rw [eh74, up_i (by decide), eh69, up_a (by decide)]) (EX.rI B75 (j := 7) (SX.ext E76.1).k1 rfl)))
        refine v_mem eh77 ?_
        have F := F h77 eh77
        refine v_aload_n C 0 rfl rfl dX0_image_67 ?_
        refine v_aload_n C 1 rfl rfl dX0_image_68 ?_
        refine gX0_35 C (SX.ext E79.1).k1 (show h77 1 8 = h63 1 8 by rw [eh77, up_i (by decide), eh74, up_i (by decide), eh69, up_a (by decide)]) dX0_image_69 ?_
        refine pX0_409 C (ck_up eh77 (by decide) (ck_up eh74 (by decide) o73)) (okI_i rfl (R32.of (show h77 1 8 = h63 1 8 by rw [eh77, up_i (by decide), eh74, up_i (by decide), eh69, up_a (by decide)]) (EX.rI B78 (j := 8) (SX.ext E79.1).k1 rfl))) dX0_image_72 ?_
        obtain ⟨h80, eh80⟩ : ∃ m : Mem, m = up h77 a55 3 (h63 1 8) := ⟨_, rfl⟩
        have B81 : EX h0 h80 := by rw [eh80]; exact EX_up B78 (ck_up eh77 (by decide) (ck_up eh74 (by decide) o73)) (by decide) rfl (by decide) (okI_i rfl (R32.of (show h77 1 8 = h63 1 8 by rw [eh77, up_i (by decide), eh74, up_i (by decide), eh69, up_a (by decide)]) (EX.rI B78 (j := 8) (SX.ext E79.1).k1 rfl)))
        have E82 : EX h h80 := by rw [eh80]; exact EX_up E79 (ck_up eh77 (by decide) (ck_up eh74 (by decide) o73)) (by decide) rfl (by decide) (okI_i rfl (R32.of (show h77 1 8 = h63 1 8 by rw [eh77, up_i (by decide), eh74, up_i (by decide), eh69, up_a (by decide)]) (EX.rI B78 (j := 8) (SX.ext E79.1).k1 rfl)))
        refine v_mem eh80 ?_
        have F := F h80 eh80
        refine v_aload_n C 1 rfl rfl dX0_image_75 ?_
        refine gX0_149 C (SX.ext E82.1).k1 (show h80 1 0 = h63 1 0 by rw [eh80, up_i (by decide), eh77, up_i (by decide), eh74, up_i (by decide), eh69, up_a (by decide)]) dX0_image_76 ?_
        refine v_ifnonnull C 84 dX0_image_79 (by decide) (fun c83 => ?_) (fun c83 => ?_)
        · have F := F.1 c83
          refine v_aload_n C 0 rfl rfl dX0_image_84 ?_
          refine gX0_410 C (ck_up eh80 (by decide) (ck_up eh77 (by decide) (ck_up eh74 (by decide) o73))) (show h80 a55 0 = h69 a55 0 by rw [eh80, up_i (by decide), eh77, up_i (by decide), eh74, up_i (by decide)]) dX0_image_85 ?_
          refine v_aload_n C 1 rfl rfl dX0_image_88 ?_
          obtain ⟨o84, F⟩ := F
          refine gX0_149 C (SX.ext E82.1).k1 ((show h80 1 0 = h63 1 0 by rw [eh80, up_i (by decide), eh77, up_i (by decide), eh74, up_i (by decide), eh69, up_a (by decide)]).trans o84) dX0_image_89 ?_
          obtain ⟨o85, F⟩ := F
          refine mX0_145 C o85 (d2 := 2) (kc2 := 0) (ks2 := 0) (by decide) o60 o61 (Nat.le_of_ble_eq_true rfl) dX0_image_92 (Ct.mono (F) ?_)
          rintro r86 h87 ⟨e88, F⟩
          replace F := F e88
          have B90 := B81.tr e88
          have E91 := E82.tr e88
          obtain ⟨r86q, F⟩ := F
          subst r86q
          refine v_pop C (rf_n1 _) dX0_image_95 ?_
          refine v_aload_n C 1 rfl rfl dX0_image_96 ?_
          obtain ⟨o92, F⟩ := F
          refine gX0_149 C (SX.ext E91.1).k1 o92 dX0_image_97 ?_
          refine gX0_257 C ((SX.ext E91.1).t2).k rfl dX0_image_100 ?_
          exact v_iret C o60 o61 dX0_image_103 ⟨B90, (EX.rI B90 (j := 11) ((SX.ext E91.1).t2).k rfl), F⟩
        · have F := F.2 c83
          refine v_iconst C dX0_image_82 ?_
          exact v_iret C o60 o61 dX0_image_83 ⟨B81, ⟨by decide, by decide⟩, F⟩
      · have F := F.2 c72
        refine v_iconst C dX0_image_51 ?_
        refine v_goto C 56 dX0_image_52 (by decide) ?_
        obtain ⟨o93, F⟩ := F
        refine pX0_404 C o93 (by decide) (okI_i rfl ⟨by decide, by decide⟩) dX0_image_56 ?_
        obtain ⟨h94, eh94⟩ : ∃ m : Mem, m = up h69 a55 1 1 := ⟨_, rfl⟩
        have B95 : EX h0 h94 := by rw [eh94]; exact EX_up B70 o93 (by decide) rfl (by decide) (okI_i rfl ⟨by decide, by decide⟩)
        have E96 : EX h h94 := by rw [eh94]; exact EX_up E71 o93 (by decide) rfl (by decide) (okI_i rfl ⟨by decide, by decide⟩)
        refine v_mem eh94 ?_
        have F := F h94 eh94
        refine v_aload_n C 0 rfl rfl dX0_image_59 ?_
        refine v_aload_n C 1 rfl rfl dX0_image_60 ?_
        refine gX0_373 C (SX.ext E96.1).k1 (show h94 1 7 = h63 1 7 by rw [eh94, up_i (by decide), eh69, up_a (by decide)]) dX0_image_61 ?_
        refine pX0_408 C (ck_up eh94 (by decide) o93) (okI_i rfl (R32.of (show h94 1 7 = h63 1 7 by rw [eh94, up_i (by decide), eh69, up_a (by decide)]) (EX.rI B95 (j := 7) (SX.ext E96.1).k1 rfl))) dX0_image_64 ?_
        obtain ⟨h97, eh97⟩ : ∃ m : Mem, m = up h94 a55 2 (h63 1 7) := ⟨_, rfl⟩
        have B98 : EX h0 h97 := by rw [eh97]; exact EX_up B95 (ck_up eh94 (by decide) o93) (by decide) rfl (by decide) (okI_i rfl (R32.of (show h94 1 7 = h63 1 7 by rw [eh94, up_i (by decide), eh69, up_a (by decide)]) (EX.rI B95 (j := 7) (SX.ext E96.1).k1 rfl)))
        have E99 : EX h h97 := by rw [eh97]; exact EX_up E96 (ck_up eh94 (by decide) o93) (by decide) rfl (by decide) (okI_i rfl (R32.of (show h94 1 7 = h63 1 7 by rw [eh94, up_i (by decide), eh69, up_a (by decide)]) (EX.rI B95 (j := 7) (SX.ext E96.1).k1 rfl)))
        refine v_mem eh97 ?_
        have F := F h97 eh97
        refine v_aload_n C 0 rfl rfl dX0_image_67 ?_
        refine v_aload_n C 1 rfl rfl dX0_image_68 ?_
        refine gX0_35 C (SX.ext E99.1).k1 (show h97 1 8 = h63 1 8 by rw [eh97, up_i (by decide), eh94, up_i (by decide), eh69, up_a (by decide)]) dX0_image_69 ?_
        refine pX0_409 C (ck_up eh97 (by decide) (ck_up eh94 (by decide) o93)) (okI_i rfl (R32.of (show h97 1 8 = h63 1 8 by rw [eh97, up_i (by decide), eh94, up_i (by decide), eh69, up_a (by decide)]) (EX.rI B98 (j := 8) (SX.ext E99.1).k1 rfl))) dX0_image_72 ?_
        obtain ⟨h100, eh100⟩ : ∃ m : Mem, m = up h97 a55 3 (h63 1 8) := ⟨_, rfl⟩
        have B101 : EX h0 h100 := by rw [eh100]; exact EX_up B98 (ck_up eh97 (by decide) (ck_up eh94 (by decide) o93)) (by decide) rfl (by decide) (okI_i rfl (R32.of (show h97 1 8 = h63 1 8 by rw [eh97, up_i (by decide), eh94, up_i (by decide), eh69, up_a (by decide)]) (EX.rI B98 (j := 8) (SX.ext E99.1).k1 rfl)))
        have E102 : EX h h100 := by rw [eh100]; exact EX_up E99 (ck_up eh97 (by decide) (ck_up eh94 (by decide) o93)) (by decide) rfl (by decide) (okI_i rfl (R32.of (show h97 1 8 = h63 1 8 by rw [eh97, up_i (by decide), eh94, up_i (by decide), eh69, up_a (by decide)]) (EX.rI B98 (j := 8) (SX.ext E99.1).k1 rfl)))
        refine v_mem eh100 ?_
        have F := F h100 eh100
        refine v_aload_n C 1 rfl rfl dX0_image_75 ?_
        refine gX0_149 C (SX.ext E102.1).k1 (show h100 1 0 = h63 1 0 by rw [eh100, up_i (by decide), eh97, up_i (by decide), eh94, up_i (by decide), eh69, up_a (by decide)]) dX0_image_76 ?_
        refine v_ifnonnull C 84 dX0_image_79 (by decide) (fun c103 => ?_) (fun c103 => ?_)
        · have F := F.1 c103
          refine v_aload_n C 0 rfl rfl dX0_image_84 ?_
          refine gX0_410 C (ck_up eh100 (by decide) (ck_up eh97 (by decide) (ck_up eh94 (by decide) o93))) (show h100 a55 0 = h69 a55 0 by rw [eh100, up_i (by decide), eh97, up_i (by decide), eh94, up_i (by decide)]) dX0_image_85 ?_
          refine v_aload_n C 1 rfl rfl dX0_image_88 ?_
          obtain ⟨o104, F⟩ := F
          refine gX0_149 C (SX.ext E102.1).k1 ((show h100 1 0 = h63 1 0 by rw [eh100, up_i (by decide), eh97, up_i (by decide), eh94, up_i (by decide), eh69, up_a (by decide)]).trans o104) dX0_image_89 ?_
          obtain ⟨o105, F⟩ := F
          refine mX0_145 C o105 (d2 := 2) (kc2 := 0) (ks2 := 0) (by decide) o60 o61 (Nat.le_of_ble_eq_true rfl) dX0_image_92 (Ct.mono (F) ?_)
          rintro r106 h107 ⟨e108, F⟩
          replace F := F e108
          have B110 := B101.tr e108
          have E111 := E102.tr e108
          obtain ⟨r106q, F⟩ := F
          subst r106q
          refine v_pop C (rf_n1 _) dX0_image_95 ?_
          refine v_aload_n C 1 rfl rfl dX0_image_96 ?_
          obtain ⟨o112, F⟩ := F
          refine gX0_149 C (SX.ext E111.1).k1 o112 dX0_image_97 ?_
          refine gX0_257 C ((SX.ext E111.1).t2).k rfl dX0_image_100 ?_
          exact v_iret C o60 o61 dX0_image_103 ⟨B110, (EX.rI B110 (j := 11) ((SX.ext E111.1).t2).k rfl), F⟩
        · have F := F.2 c103
          refine v_iconst C dX0_image_82 ?_
          exact v_iret C o60 o61 dX0_image_83 ⟨B101, ⟨by decide, by decide⟩, F⟩
  · have F := F.2 (c7)
    refine v_iconst C dX0_image_12 ?_
    exact v_iret C (Nat.zero_le _) (Nat.zero_le _) dX0_image_13 ⟨B5, ⟨by decide, by decide⟩, F⟩
set_option maxHeartbeats 1000000 in
theorem eX0_image {G : GT} {l : Launch} {kc ks : Nat} {x1 : Int} {h : Mem} {P : Int → Mem → Prop} (F : ∀ X : MX, Cx G X cX0_image 3 RX0 3 kc ks (some .int) "image" → X.2.1 = l → (EX h h ∧ R32 x1) →
    XS h ∧ kX0_in G X.2.1 x1 0 3 h (fun r1 h2 => EX h h2 → ((r1 ≠ 0 → 0 ≤ x1 ∧ x1 < 4 ∧ ((h2 176 x1 ≠ 0 → ((h2 1 0 = 0 → h2 (h2 176 x1) (-1) = 14 ∧ ∀ h13 : Mem, h13 = up h2 (h2 176 x1) 1 0 → ∀ h16 : Mem, h16 = up h13 (h2 176 x1) 2 (h2 1 7) → ∀ h19 : Mem, h19 = up h16 (h2 176 x1) 3 (h2 1 8) → ((h2 1 0 ≠ 0 → h2 1 0 = 2 ∧ h19 (h2 (h2 176 x1) 0) (-1) = 2 ∧ kX1_copies G X.2.1 (h2 (h2 176 x1) 0) 2 h19 (fun r25 h26 => EX h19 h26 → r25 = h2 (h2 176 x1) 0 ∧ h26 1 0 = 2 ∧ P (h26 2 11) h26)) ∧ (h2 1 0 = 0 → P 0 h19))) ∧ (h2 1 0 ≠ 0 → h2 (h2 176 x1) (-1) = 14 ∧ ∀ h33 : Mem, h33 = up h2 (h2 176 x1) 1 1 → ∀ h36 : Mem, h36 = up h33 (h2 176 x1) 2 (h2 1 7) → ∀ h39 : Mem, h39 = up h36 (h2 176 x1) 3 (h2 1 8) → ((h2 1 0 ≠ 0 → h2 1 0 = 2 ∧ h39 (h2 (h2 176 x1) 0) (-1) = 2 ∧ kX1_copies G X.2.1 (h2 (h2 176 x1) 0) 2 h39 (fun r45 h46 => EX h39 h46 → r45 = h2 (h2 176 x1) 0 ∧ h46 1 0 = 2 ∧ P (h46 2 11) h46)) ∧ (h2 1 0 = 0 → P 0 h39))))) ∧ (h2 176 x1 = 0 → 0 + 1 ≤ kc ∧ 0 + 4 ≤ ks ∧ ∀ h54 : Mem, h54 = alloc h2 14 0 → ∀ a55 : Int, a55 = h2 0 0 → ∃ c58 s59 : Nat, 0 + 1 + c58 ≤ kc ∧ 0 + 4 + s59 ≤ ks ∧ kX15_init G X.2.1 c58 s59 a55 h54 (fun _ h63 => BX a55 h54 h63 → h63 a55 (-1) = 14 ∧ ∀ h69 : Mem, h69 = up h63 176 x1 a55 → ((h63 1 0 = 0 → h69 a55 (-1) = 14 ∧ ∀ h74 : Mem, h74 = up h69 a55 1 0 → ∀ h77 : Mem, h77 = up h74 a55 2 (h63 1 7) → ∀ h80 : Mem, h80 = up h77 a55 3 (h63 1 8) → ((h63 1 0 ≠ 0 → h63 1 0 = 2 ∧ h80 (h69 a55 0) (-1) = 2 ∧ kX1_copies G X.2.1 (h69 a55 0) 2 h80 (fun r86 h87 => EX h80 h87 → r86 = h69 a55 0 ∧ h87 1 0 = 2 ∧ P (h87 2 11) h87)) ∧ (h63 1 0 = 0 → P 0 h80))) ∧ (h63 1 0 ≠ 0 → h69 a55 (-1) = 14 ∧ ∀ h94 : Mem, h94 = up h69 a55 1 1 → ∀ h97 : Mem, h97 = up h94 a55 2 (h63 1 7) → ∀ h100 : Mem, h100 = up h97 a55 3 (h63 1 8) → ((h63 1 0 ≠ 0 → h63 1 0 = 2 ∧ h100 (h69 a55 0) (-1) = 2 ∧ kX1_copies G X.2.1 (h69 a55 0) 2 h100 (fun r106 h107 => EX h100 h107 → r106 = h69 a55 0 ∧ h107 1 0 = 2 ∧ P (h107 2 11) h107)) ∧ (h63 1 0 = 0 → P 0 h100)))))))) ∧ (r1 = 0 → P (-1) h2)))) :
    kX0_image G l kc ks x1 h P := by
  intro R1
  refine ct_of (by decide +kernel) (Nat.le_of_ble_eq_true rfl) fun X C e => ?_
  refine v_okz fun O => ?_
  exact wX0_image_0 (uc := 0) (us := 0) C ⟨EX.rf O, R1⟩ (F X C e ⟨EX.rf O, R1⟩)
def kX0_paint (G : GT) (l : Launch) (x1 x2 : Int) (h : Mem) (P : Int → Mem → Prop) : Prop := R32 x1 → R32 x2 → Ct G l yX0_paint cX0_paint 3 (some .int) 0 3 0 0 [rf 1, iv x1, iv x2] h (PI h P)
set_option maxHeartbeats 4000000 in
theorem wX0_paint_0 {G : GT} {X : MX} {h0 h : Mem} {P : Int → Mem → Prop} {x1 x2 : Int} (C : Cx G X cX0_paint 3 RX0 3 0 0 (some .int) "paint") (B0 : EX h0 h ∧ R32 x1 ∧ R32 x2)
    (F : XS h ∧ kX0_isCell G X.2.1 x1 h (fun r1 h2 => EX h h2 → ((r1 = 0 → P (-1) h2) ∧ (r1 ≠ 0 → kX0_isPainter G X.2.1 x2 h2 (fun r8 h9 => EX h2 h9 → ((r8 = 0 → P (-1) h9) ∧ (r8 ≠ 0 → h9 1 0 = 2 ∧ kX1_canPaint G X.2.1 2 x1 x2 h9 (fun r16 h17 => EX h9 h17 → ((r16 ≠ 0 → kX0_keepsAct G X.2.1 h17 (fun _ h24 => EX h17 h24 → h24 1 0 = 2 ∧ kX1_paints G X.2.1 2 x1 x2 h24 (fun _ h31 => EX h24 h31 → h31 1 0 = 2 ∧ 0 ≤ x1 ∧ x1 < 16 ∧ P (h31 13 x1) h31))) ∧ (r16 = 0 → P (-1) h17)))))))))) :
    V G X 3 0 0 (QF G X 0 0 0 (PI h0 P)) 0 [(0, rf 1), (1, iv x1), (2, iv x2)] [] h := by
  obtain ⟨B, R1, R2⟩ := B0
  have E : EX h h := EX.rf B.2
  obtain ⟨SX, F⟩ := F
  refine v_aload_n C 0 rfl rfl dX0_paint_0 ?_
  refine v_iload_n C 1 rfl rfl dX0_paint_1 ?_
  refine mX0_172 C (SX.ext E.1).k1 (d2 := 0) (kc2 := 0) (ks2 := 0) (by decide) (Nat.le_refl _) (Nat.le_refl _) (Nat.le_of_ble_eq_true rfl) dX0_paint_2 (Ct.mono (F R1) ?_)
  rintro r1 h2 ⟨e3, g4, F⟩
  have F := F e3
  have B5 := B.tr e3
  have E6 := E.tr e3
  refine v_if_eq C 28 (bR g4) dX0_paint_5 (by decide) (fun c7 => ?_) (fun c7 => ?_)
  · have F := F.1 (c7)
    refine v_iconst C dX0_paint_28 ?_
    exact v_iret C (Nat.le_refl _) (Nat.le_refl _) dX0_paint_29 ⟨B5, ⟨by decide, by decide⟩, F⟩
  · have F := F.2 (c7)
    refine v_aload_n C 0 rfl rfl dX0_paint_8 ?_
    refine v_iload_n C 2 rfl rfl dX0_paint_9 ?_
    refine mX0_231 C (SX.ext E6.1).k1 (d2 := 0) (kc2 := 0) (ks2 := 0) (by decide) (Nat.le_refl _) (Nat.le_refl _) (Nat.le_of_ble_eq_true rfl) dX0_paint_10 (Ct.mono (F R2) ?_)
    rintro r8 h9 ⟨e10, g11, F⟩
    have F := F e10
    have B12 := B5.tr e10
    have E13 := E6.tr e10
    refine v_if_eq C 28 (bR g11) dX0_paint_13 (by decide) (fun c14 => ?_) (fun c14 => ?_)
    · have F := F.1 (c14)
      refine v_iconst C dX0_paint_28 ?_
      exact v_iret C (Nat.le_refl _) (Nat.le_refl _) dX0_paint_29 ⟨B12, ⟨by decide, by decide⟩, F⟩
    · have F := F.2 (c14)
      refine v_aload_n C 0 rfl rfl dX0_paint_16 ?_
      obtain ⟨o15, F⟩ := F
      refine gX0_149 C (SX.ext E13.1).k1 o15 dX0_paint_17 ?_
      refine v_iload_n C 1 rfl rfl dX0_paint_20 ?_
      refine v_iload_n C 2 rfl rfl dX0_paint_21 ?_
      refine mX0_270 C ((SX.ext E13.1).t2).k (d2 := 2) (kc2 := 0) (ks2 := 0) (by decide) (Nat.le_refl _) (Nat.le_refl _) (Nat.le_of_ble_eq_true rfl) dX0_paint_22 (Ct.mono (F R1 R2) ?_)
      rintro r16 h17 ⟨e18, g19, F⟩
      have F := F e18
      have B20 := B12.tr e18
      have E21 := E13.tr e18
      refine v_if_ne C 30 (bR g19) dX0_paint_25 (by decide) (fun c22 => ?_) (fun c22 => ?_)
      · have F := F.1 (c22)
        refine v_aload_n C 0 rfl rfl dX0_paint_30 ?_
        refine mX0_260 C (SX.ext E21.1).k1 (d2 := 2) (kc2 := 0) (ks2 := 0) (by decide) (Nat.le_refl _) (Nat.le_refl _) (Nat.le_of_ble_eq_true rfl) dX0_paint_31 (Ct.mono (F) ?_)
        rintro r23 h24 ⟨e25, F⟩
        have F := F e25
        have B27 := B20.tr e25
        have E28 := E21.tr e25
        refine v_aload_n C 0 rfl rfl dX0_paint_34 ?_
        obtain ⟨o29, F⟩ := F
        refine gX0_149 C (SX.ext E28.1).k1 o29 dX0_paint_35 ?_
        refine v_iload_n C 1 rfl rfl dX0_paint_38 ?_
        refine v_iload_n C 2 rfl rfl dX0_paint_39 ?_
        refine mX0_273 C ((SX.ext E28.1).t2).k (d2 := 1) (kc2 := 0) (ks2 := 0) (by decide) (Nat.le_refl _) (Nat.le_refl _) (Nat.le_of_ble_eq_true rfl) dX0_paint_40 (Ct.mono (F R1 R2) ?_)
        rintro r30 h31 ⟨e32, F⟩
        have F := F e32
        have B34 := B27.tr e32
        have E35 := E28.tr e32
        refine v_aload_n C 0 rfl rfl dX0_paint_43 ?_
        obtain ⟨o36, F⟩ := F
        refine gX0_149 C (SX.ext E35.1).k1 o36 dX0_paint_44 ?_
        refine gX0_179 C ((SX.ext E35.1).t2).k ((SX.ext E35.1).t2).f23 dX0_paint_47 ?_
        refine v_iload_n C 1 rfl rfl dX0_paint_50 ?_
        obtain ⟨o37, F⟩ := F
        obtain ⟨o38, F⟩ := F
        refine v_iald C ((SX.ext E35.1).t2).k23 o37 (by rw [((SX.ext E35.1).t2).l23]; exact o38) rfl dX0_paint_51 ?_
        exact v_iret C (Nat.le_refl _) (Nat.le_refl _) dX0_paint_52 ⟨B34, (EX.rI B34 (j := x1) ((SX.ext E35.1).t2).k23 rfl), F⟩
      · have F := F.2 (c22)
        refine v_iconst C dX0_paint_28 ?_
        exact v_iret C (Nat.le_refl _) (Nat.le_refl _) dX0_paint_29 ⟨B20, ⟨by decide, by decide⟩, F⟩
set_option maxHeartbeats 1000000 in
theorem eX0_paint {G : GT} {l : Launch} {x1 x2 : Int} {h : Mem} {P : Int → Mem → Prop} (F : ∀ X : MX, Cx G X cX0_paint 3 RX0 3 0 0 (some .int) "paint" → X.2.1 = l → (EX h h ∧ R32 x1 ∧ R32 x2) →
    XS h ∧ kX0_isCell G X.2.1 x1 h (fun r1 h2 => EX h h2 → ((r1 = 0 → P (-1) h2) ∧ (r1 ≠ 0 → kX0_isPainter G X.2.1 x2 h2 (fun r8 h9 => EX h2 h9 → ((r8 = 0 → P (-1) h9) ∧ (r8 ≠ 0 → h9 1 0 = 2 ∧ kX1_canPaint G X.2.1 2 x1 x2 h9 (fun r16 h17 => EX h9 h17 → ((r16 ≠ 0 → kX0_keepsAct G X.2.1 h17 (fun _ h24 => EX h17 h24 → h24 1 0 = 2 ∧ kX1_paints G X.2.1 2 x1 x2 h24 (fun _ h31 => EX h24 h31 → h31 1 0 = 2 ∧ 0 ≤ x1 ∧ x1 < 16 ∧ P (h31 13 x1) h31))) ∧ (r16 = 0 → P (-1) h17)))))))))) :
    kX0_paint G l x1 x2 h P := by
  intro R1 R2
  refine ct_of (by decide +kernel) (Nat.le_of_ble_eq_true rfl) fun X C e => ?_
  refine v_okz fun O => ?_
  exact wX0_paint_0 C ⟨EX.rf O, R1, R2⟩ (F X C e ⟨EX.rf O, R1, R2⟩)
def kX0_painter (G : GT) (l : Launch) (x1 x2 : Int) (h : Mem) (P : Int → Mem → Prop) : Prop := R32 x1 → R32 x2 → Ct G l yX0_painter cX0_painter 5 (some .int) 0 3 0 0 [rf 1, iv x1, iv x2] h (PI h P)
set_option maxHeartbeats 4000000 in
theorem wX0_painter_0 {G : GT} {X : MX} {h0 h : Mem} {P : Int → Mem → Prop} {x1 x2 : Int} (C : Cx G X cX0_painter 5 RX0 3 0 0 (some .int) "painter") (B0 : EX h0 h ∧ R32 x1 ∧ R32 x2)
    (F : XS h ∧ kX0_isPainter G X.2.1 x1 h (fun r1 h2 => EX h h2 → ((r1 ≠ 0 → ((x2 = 0 → h2 1 0 = 2 ∧ 0 ≤ x1 ∧ x1 < 4 ∧ P (h2 7 x1) h2) ∧ (x2 = 1 → h2 1 0 = 2 ∧ 0 ≤ x1 ∧ x1 < 4 ∧ P (h2 16 x1) h2) ∧ (x2 = 2 → (EX h0 h2 ∧ R32 x1 ∧ R32 0 ∧ R32 0 → V G X 5 0 0 (QF G X 0 0 0 (PI h0 P)) 67 [(0, rf 1), (1, iv x1), (3, iv 0), (4, iv 0)] [] h2)) ∧ (x2 = 3 → (EX h0 h2 ∧ R32 x1 ∧ R32 0 ∧ R32 0 → V G X 5 0 0 (QF G X 0 0 0 (PI h0 P)) 114 [(0, rf 1), (1, iv x1), (3, iv 0), (4, iv 0)] [] h2)) ∧ ((x2 < 0 ∨ 3 < x2) → P (-1) h2))) ∧ (r1 = 0 → P (-1) h2)))) :
    V G X 5 0 0 (QF G X 0 0 0 (PI h0 P)) 0 [(0, rf 1), (1, iv x1), (2, iv x2)] [] h := by
  obtain ⟨B, R1, R2⟩ := B0
  have E : EX h h := EX.rf B.2
  obtain ⟨SX, F⟩ := F
  refine v_aload_n C 0 rfl rfl dX0_painter_0 ?_
  refine v_iload_n C 1 rfl rfl dX0_painter_1 ?_
  refine mX0_231 C (SX.ext E.1).k1 (d2 := 0) (kc2 := 0) (ks2 := 0) (by decide) (Nat.le_refl _) (Nat.le_refl _) (Nat.le_of_ble_eq_true rfl) dX0_painter_2 (Ct.mono (F R1) ?_)
  rintro r1 h2 ⟨e3, g4, F⟩
  have F := F e3
  have B5 := B.tr e3
  have E6 := E.tr e3
  refine v_if_ne C 10 (bR g4) dX0_painter_5 (by decide) (fun c7 => ?_) (fun c7 => ?_)
  · have F := F.1 (c7)
    refine v_iconst C dX0_painter_10 ?_
    refine v_istore_n C rfl (by decide) dX0_painter_11 (lv2 := [(3, iv 0), (0, rf 1), (1, iv x1), (2, iv x2)]) rfl ?_
    refine v_iload_n C 3 rfl rfl dX0_painter_12 ?_
    by_cases c11 : x2 = 0
    · have F := F.1 c11
      refine v_tableIn C 44 0 ⟨by decide, by decide⟩ c11 dX0_painter_13 (by decide) (by decide) rfl (by decide) ?_
      refine v_aload_n C 1 rfl rfl dX0_painter_44 ?_
      obtain ⟨o8, F⟩ := F
      refine gX0_149 C (SX.ext E6.1).k1 o8 dX0_painter_45 ?_
      refine gX0_200 C ((SX.ext E6.1).t2).k ((SX.ext E6.1).t2).f17 dX0_painter_48 ?_
      refine v_iload_n C 2 rfl rfl dX0_painter_51 ?_
      obtain ⟨o9, F⟩ := F
      obtain ⟨o10, F⟩ := F
      refine v_iald C ((SX.ext E6.1).t2).k17 o9 (by rw [((SX.ext E6.1).t2).l17]; exact o10) rfl dX0_painter_52 ?_
      exact v_iret C (Nat.le_refl _) (Nat.le_refl _) dX0_painter_53 ⟨B5, (EX.rI B5 (j := x1) ((SX.ext E6.1).t2).k17 rfl), F⟩
    by_cases c15 : x2 = 1
    · have F := F.2.1 c15
      refine v_tableIn C 54 1 ⟨by decide, by decide⟩ c15 dX0_painter_13 (by decide) (by decide) rfl (by decide) ?_
      refine v_aload_n C 1 rfl rfl dX0_painter_54 ?_
      obtain ⟨o12, F⟩ := F
      refine gX0_149 C (SX.ext E6.1).k1 o12 dX0_painter_55 ?_
      refine gX0_234 C ((SX.ext E6.1).t2).k ((SX.ext E6.1).t2).f26 dX0_painter_58 ?_
      refine v_iload_n C 2 rfl rfl dX0_painter_61 ?_
      obtain ⟨o13, F⟩ := F
      obtain ⟨o14, F⟩ := F
      refine v_iald C ((SX.ext E6.1).t2).k26 o13 (by rw [((SX.ext E6.1).t2).l26]; exact o14) rfl dX0_painter_62 ?_
      exact v_iret C (Nat.le_refl _) (Nat.le_refl _) dX0_painter_63 ⟨B5, (EX.rI B5 (j := x1) ((SX.ext E6.1).t2).k26 rfl), F⟩
    by_cases c16 : x2 = 2
    · have F := F.2.2.1 c16
      refine v_tableIn C 64 2 ⟨by decide, by decide⟩ c16 dX0_painter_13 (by decide) (by decide) rfl (by decide) ?_
      refine v_iconst C dX0_painter_64 ?_
      refine v_istore C (by decide) dX0_painter_65 (lv2 := [(4, iv 0), (3, iv 0), (0, rf 1), (1, iv x1), (2, iv x2)]) rfl ?_
      refine v_sub (lv2 := [(0, rf 1), (1, iv x1), (3, iv 0), (4, iv 0)]) [2, 3, 1, 0] rfl ?_
      exact F ⟨B5, R1, ⟨by decide, by decide⟩, ⟨by decide, by decide⟩⟩
    by_cases c17 : x2 = 3
    · have F := F.2.2.2.1 c17
      refine v_tableIn C 111 3 ⟨by decide, by decide⟩ c17 dX0_painter_13 (by decide) (by decide) rfl (by decide) ?_
      refine v_iconst C dX0_painter_111 ?_
      refine v_istore C (by decide) dX0_painter_112 (lv2 := [(4, iv 0), (3, iv 0), (0, rf 1), (1, iv x1), (2, iv x2)]) rfl ?_
      refine v_sub (lv2 := [(0, rf 1), (1, iv x1), (3, iv 0), (4, iv 0)]) [2, 3, 1, 0] rfl ?_
      exact F ⟨B5, R1, ⟨by decide, by decide⟩, ⟨by decide, by decide⟩⟩
    have c18 : x2 < 0 ∨ 3 < x2 := by omega
    have F := F.2.2.2.2 c18
    refine v_tableOut C 158 R2 c18 dX0_painter_13 (by decide) ?_
    refine v_iconst C dX0_painter_158 ?_
    exact v_iret C (Nat.le_refl _) (Nat.le_refl _) dX0_painter_159 ⟨B5, ⟨by decide, by decide⟩, F⟩
  · have F := F.2 (c7)
    refine v_iconst C dX0_painter_8 ?_
    exact v_iret C (Nat.le_refl _) (Nat.le_refl _) dX0_painter_9 ⟨B5, ⟨by decide, by decide⟩, F⟩
set_option maxHeartbeats 4000000 in
theorem wX0_painter_L67 {G : GT} {X : MX} {h0 h : Mem} {P : Int → Mem → Prop} {x1 x3 x4 : Int} (C : Cx G X cX0_painter 5 RX0 3 0 0 (some .int) "painter") (B0 : EX h0 h ∧ R32 x1 ∧ R32 x3 ∧ R32 x4)
    (F : XS h ∧ h 1 0 = 2 ∧ ((x4 ≥ h 2 4 → P x3 h) ∧ (x4 < h 2 4 → kX1_ownerOf G X.2.1 2 x4 h (fun r3 h4 => EX h h4 → ((r3 ≠ x1 → ∀ y10 : Int, y10 = bOr x3 0 → R32 (x4 + 1) ∧ (EX h0 h4 ∧ R32 x1 ∧ R32 y10 ∧ R32 (x4 + 1) → V G X 5 0 0 (QF G X 0 0 0 (PI h0 P)) 67 [(0, rf 1), (1, iv x1), (3, iv y10), (4, iv (x4 + 1))] [] h4)) ∧ (r3 = x1 → ∀ y12 : Int, y12 = bOr x3 (bShl 1 x4) → R32 (x4 + 1) ∧ (EX h0 h4 ∧ R32 x1 ∧ R32 y12 ∧ R32 (x4 + 1) → V G X 5 0 0 (QF G X 0 0 0 (PI h0 P)) 67 [(0, rf 1), (1, iv x1), (3, iv y12), (4, iv (x4 + 1))] [] h4))))))) :
    V G X 5 0 0 (QF G X 0 0 0 (PI h0 P)) 67 [(0, rf 1), (1, iv x1), (3, iv x3), (4, iv x4)] [] h := by
  obtain ⟨B, R1, R3, R4⟩ := B0
  have E : EX h h := EX.rf B.2
  obtain ⟨SX, F⟩ := F
  refine v_iload C 3 rfl dX0_painter_67 ?_
  refine v_aload_n C 0 rfl rfl dX0_painter_69 ?_
  obtain ⟨o1, F⟩ := F
  refine gX0_149 C (SX.ext E.1).k1 o1 dX0_painter_70 ?_
  refine gX0_152 C ((SX.ext E.1).t2).k rfl dX0_painter_73 ?_
  refine v_icmp_ge C 109 R4 (EX.rI B (j := 4) ((SX.ext E.1).t2).k rfl) dX0_painter_76 (by decide) (fun c2 => ?_) (fun c2 => ?_)
  · have F := F.1 (c2)
    refine v_iload_n C 2 rfl rfl dX0_painter_109 ?_
    exact v_iret C (Nat.le_refl _) (Nat.le_refl _) dX0_painter_110 ⟨B, R3, F⟩
  · have F := F.2 (c2)
    refine v_iload_n C 2 rfl rfl dX0_painter_79 ?_
    refine v_aload_n C 0 rfl rfl dX0_painter_80 ?_
    refine gX0_149 C (SX.ext E.1).k1 o1 dX0_painter_81 ?_
    refine v_iload C 3 rfl dX0_painter_84 ?_
    refine mX0_182 C ((SX.ext E.1).t2).k (d2 := 1) (kc2 := 0) (ks2 := 0) (by decide) (Nat.le_refl _) (Nat.le_refl _) (Nat.le_of_ble_eq_true rfl) dX0_painter_86 (Ct.mono (F R4) ?_)
    rintro r3 h4 ⟨e5, g6, F⟩
    have F := F e5
    have B7 := B.tr e5
    have E8 := E.tr e5
    refine v_iload_n C 1 rfl rfl dX0_painter_89 ?_
    refine v_icmp_ne C 100 g6 R1 dX0_painter_90 (by decide) (fun c9 => ?_) (fun c9 => ?_)
    · have F := F.1 (c9)
      refine v_iconst C dX0_painter_100 ?_
      refine v_ior C dX0_painter_101 ?_
      obtain ⟨y10, ey10⟩ : ∃ z : Int, z = bOr x3 0 := ⟨_, rfl⟩
      have F := F y10 ey10
      have Ry10 : R32 y10 := by rw [ey10]; exact (R32_toInt _)
      refine v_istore_n C rfl (by decide) dX0_painter_102 (lv2 := [(3, iv y10), (0, rf 1), (1, iv x1), (4, iv x4)]) (by rw [ey10]; rfl) ?_
      obtain ⟨o11, F⟩ := F
      refine v_iinc C 3 rfl (by decide) dX0_painter_103 (lv2 := [(4, iv (x4 + 1)), (3, iv y10), (0, rf 1), (1, iv x1)]) rfl ?_
      refine v_goto C 67 dX0_painter_106 (by decide) ?_
      refine v_sub (lv2 := [(0, rf 1), (1, iv x1), (3, iv y10), (4, iv (x4 + 1))]) [2, 3, 1, 0] rfl ?_
      exact F ⟨B7, R1, Ry10, o11⟩
    · have F := F.2 (c9)
      refine v_iconst C dX0_painter_93 ?_
      refine v_iload C 3 rfl dX0_painter_94 ?_
      refine v_ishl C dX0_painter_96 ?_
      refine v_goto C 101 dX0_painter_97 (by decide) ?_
      refine v_ior C dX0_painter_101 ?_
      obtain ⟨y12, ey12⟩ : ∃ z : Int, z = bOr x3 (bShl 1 x4) := ⟨_, rfl⟩
      have F := F y12 ey12
      have Ry12 : R32 y12 := by rw [ey12]; exact (R32_toInt _)
      refine v_istore_n C rfl (by decide) dX0_painter_102 (lv2 := [(3, iv y12), (0, rf 1), (1, iv x1), (4, iv x4)]) (by rw [ey12]; rfl) ?_
      obtain ⟨o13, F⟩ := F
      refine v_iinc C 3 rfl (by decide) dX0_painter_103 (lv2 := [(4, iv (x4 + 1)), (3, iv y12), (0, rf 1), (1, iv x1)]) rfl ?_
      refine v_goto C 67 dX0_painter_106 (by decide) ?_
      refine v_sub (lv2 := [(0, rf 1), (1, iv x1), (3, iv y12), (4, iv (x4 + 1))]) [2, 3, 1, 0] rfl ?_
      exact F ⟨B7, R1, Ry12, o13⟩
set_option maxHeartbeats 4000000 in
theorem wX0_painter_L114 {G : GT} {X : MX} {h0 h : Mem} {P : Int → Mem → Prop} {x1 x3 x4 : Int} (C : Cx G X cX0_painter 5 RX0 3 0 0 (some .int) "painter") (B0 : EX h0 h ∧ R32 x1 ∧ R32 x3 ∧ R32 x4)
    (F : XS h ∧ h 1 0 = 2 ∧ ((x4 ≥ h 2 3 → P x3 h) ∧ (x4 < h 2 3 → kX1_whose G X.2.1 2 x4 h (fun r3 h4 => EX h h4 → ((r3 ≠ x1 → ∀ y10 : Int, y10 = bOr x3 0 → R32 (x4 + 1) ∧ (EX h0 h4 ∧ R32 x1 ∧ R32 y10 ∧ R32 (x4 + 1) → V G X 5 0 0 (QF G X 0 0 0 (PI h0 P)) 114 [(0, rf 1), (1, iv x1), (3, iv y10), (4, iv (x4 + 1))] [] h4)) ∧ (r3 = x1 → ∀ y12 : Int, y12 = bOr x3 (bShl 1 x4) → R32 (x4 + 1) ∧ (EX h0 h4 ∧ R32 x1 ∧ R32 y12 ∧ R32 (x4 + 1) → V G X 5 0 0 (QF G X 0 0 0 (PI h0 P)) 114 [(0, rf 1), (1, iv x1), (3, iv y12), (4, iv (x4 + 1))] [] h4))))))) :
    V G X 5 0 0 (QF G X 0 0 0 (PI h0 P)) 114 [(0, rf 1), (1, iv x1), (3, iv x3), (4, iv x4)] [] h := by
  obtain ⟨B, R1, R3, R4⟩ := B0
  have E : EX h h := EX.rf B.2
  obtain ⟨SX, F⟩ := F
  refine v_iload C 3 rfl dX0_painter_114 ?_
  refine v_aload_n C 0 rfl rfl dX0_painter_116 ?_
  obtain ⟨o1, F⟩ := F
  refine gX0_149 C (SX.ext E.1).k1 o1 dX0_painter_117 ?_
  refine gX0_166 C ((SX.ext E.1).t2).k rfl dX0_painter_120 ?_
  refine v_icmp_ge C 156 R4 (EX.rI B (j := 3) ((SX.ext E.1).t2).k rfl) dX0_painter_123 (by decide) (fun c2 => ?_) (fun c2 => ?_)
  · have F := F.1 (c2)
    refine v_iload_n C 2 rfl rfl dX0_painter_156 ?_
    exact v_iret C (Nat.le_refl _) (Nat.le_refl _) dX0_painter_157 ⟨B, R3, F⟩
  · have F := F.2 (c2)
    refine v_iload_n C 2 rfl rfl dX0_painter_126 ?_
    refine v_aload_n C 0 rfl rfl dX0_painter_127 ?_
    refine gX0_149 C (SX.ext E.1).k1 o1 dX0_painter_128 ?_
    refine v_iload C 3 rfl dX0_painter_131 ?_
    refine mX0_223 C ((SX.ext E.1).t2).k (d2 := 2) (kc2 := 0) (ks2 := 0) (by decide) (Nat.le_refl _) (Nat.le_refl _) (Nat.le_of_ble_eq_true rfl) dX0_painter_133 (Ct.mono (F R4) ?_)
    rintro r3 h4 ⟨e5, g6, F⟩
    have F := F e5
    have B7 := B.tr e5
    have E8 := E.tr e5
    refine v_iload_n C 1 rfl rfl dX0_painter_136 ?_
    refine v_icmp_ne C 147 g6 R1 dX0_painter_137 (by decide) (fun c9 => ?_) (fun c9 => ?_)
    · have F := F.1 (c9)
      refine v_iconst C dX0_painter_147 ?_
      refine v_ior C dX0_painter_148 ?_
      obtain ⟨y10, ey10⟩ : ∃ z : Int, z = bOr x3 0 := ⟨_, rfl⟩
      have F := F y10 ey10
      have Ry10 : R32 y10 := by rw [ey10]; exact (R32_toInt _)
      refine v_istore_n C rfl (by decide) dX0_painter_149 (lv2 := [(3, iv y10), (0, rf 1), (1, iv x1), (4, iv x4)]) (by rw [ey10]; rfl) ?_
      obtain ⟨o11, F⟩ := F
      refine v_iinc C 3 rfl (by decide) dX0_painter_150 (lv2 := [(4, iv (x4 + 1)), (3, iv y10), (0, rf 1), (1, iv x1)]) rfl ?_
      refine v_goto C 114 dX0_painter_153 (by decide) ?_
      refine v_sub (lv2 := [(0, rf 1), (1, iv x1), (3, iv y10), (4, iv (x4 + 1))]) [2, 3, 1, 0] rfl ?_
      exact F ⟨B7, R1, Ry10, o11⟩
    · have F := F.2 (c9)
      refine v_iconst C dX0_painter_140 ?_
      refine v_iload C 3 rfl dX0_painter_141 ?_
      refine v_ishl C dX0_painter_143 ?_
      refine v_goto C 148 dX0_painter_144 (by decide) ?_
      refine v_ior C dX0_painter_148 ?_
      obtain ⟨y12, ey12⟩ : ∃ z : Int, z = bOr x3 (bShl 1 x4) := ⟨_, rfl⟩
      have F := F y12 ey12
      have Ry12 : R32 y12 := by rw [ey12]; exact (R32_toInt _)
      refine v_istore_n C rfl (by decide) dX0_painter_149 (lv2 := [(3, iv y12), (0, rf 1), (1, iv x1), (4, iv x4)]) (by rw [ey12]; rfl) ?_
      obtain ⟨o13, F⟩ := F
      refine v_iinc C 3 rfl (by decide) dX0_painter_150 (lv2 := [(4, iv (x4 + 1)), (3, iv y12), (0, rf 1), (1, iv x1)]) rfl ?_
      refine v_goto C 114 dX0_painter_153 (by decide) ?_
      refine v_sub (lv2 := [(0, rf 1), (1, iv x1), (3, iv y12), (4, iv (x4 + 1))]) [2, 3, 1, 0] rfl ?_
      exact F ⟨B7, R1, Ry12, o13⟩
set_option maxHeartbeats 1000000 in
theorem eX0_painter {G : GT} {l : Launch} {x1 x2 : Int} {h : Mem} {P : Int → Mem → Prop} (F : ∀ X : MX, Cx G X cX0_painter 5 RX0 3 0 0 (some .int) "painter" → X.2.1 = l → (EX h h ∧ R32 x1 ∧ R32 x2) →
    XS h ∧ kX0_isPainter G X.2.1 x1 h (fun r1 h2 => EX h h2 → ((r1 ≠ 0 → ((x2 = 0 → h2 1 0 = 2 ∧ 0 ≤ x1 ∧ x1 < 4 ∧ P (h2 7 x1) h2) ∧ (x2 = 1 → h2 1 0 = 2 ∧ 0 ≤ x1 ∧ x1 < 4 ∧ P (h2 16 x1) h2) ∧ (x2 = 2 → (EX h h2 ∧ R32 x1 ∧ R32 0 ∧ R32 0 → V G X 5 0 0 (QF G X 0 0 0 (PI h P)) 67 [(0, rf 1), (1, iv x1), (3, iv 0), (4, iv 0)] [] h2)) ∧ (x2 = 3 → (EX h h2 ∧ R32 x1 ∧ R32 0 ∧ R32 0 → V G X 5 0 0 (QF G X 0 0 0 (PI h P)) 114 [(0, rf 1), (1, iv x1), (3, iv 0), (4, iv 0)] [] h2)) ∧ ((x2 < 0 ∨ 3 < x2) → P (-1) h2))) ∧ (r1 = 0 → P (-1) h2)))) :
    kX0_painter G l x1 x2 h P := by
  intro R1 R2
  refine ct_of (by decide +kernel) (Nat.le_of_ble_eq_true rfl) fun X C e => ?_
  refine v_okz fun O => ?_
  exact wX0_painter_0 C ⟨EX.rf O, R1, R2⟩ (F X C e ⟨EX.rf O, R1, R2⟩)
def kX0_paintsDrawn (G : GT) (l : Launch) (x1 : Int) (h : Mem) (P : Int → Mem → Prop) : Prop := Ct G l yX0_paintsDrawn cX0_paintsDrawn 4 (some .boolean) 0 3 0 0 [rf 1, rf x1] h (PZ h P)
set_option maxHeartbeats 4000000 in
theorem wX0_paintsDrawn_0 {G : GT} {X : MX} {h0 h : Mem} {P : Int → Mem → Prop} {x1 : Int} (C : Cx G X cX0_paintsDrawn 4 RX0 3 0 0 (some .boolean) "paintsDrawn") (B0 : EX h0 h)
    (F : TownS h x1 ∧ XS h ∧ ((h x1 5 = 0 → P 0 h) ∧ (h x1 5 ≠ 0 → ((h x1 4 ≠ 0 → kX0_draw G X.2.1 (h x1 5) h (fun r3 h4 => EX h h4 → kX0_draw G X.2.1 (h4 x1 4) h4 (fun r9 h10 => EX h4 h10 → kX1_canPaint G X.2.1 x1 r9 r3 h10 (fun r15 h16 => EX h10 h16 → ((r15 ≠ 0 → kX1_paints G X.2.1 x1 r9 r3 h16 (fun _ h23 => EX h16 h23 → P 1 h23)) ∧ (r15 = 0 → P 0 h16)))))) ∧ (h x1 4 = 0 → P 0 h))))) :
    V G X 4 0 0 (QF G X 0 0 0 (PZ h0 P)) 0 [(0, rf 1), (1, rf x1)] [] h := by
  have B := B0
  have E : EX h h := EX.rf B.2
  obtain ⟨S_x1, F⟩ := F
  obtain ⟨SX, F⟩ := F
  refine v_aload_n C 1 rfl rfl dX0_paintsDrawn_0 ?_
  refine gX0_169 C (S_x1.ext E.1).k rfl dX0_paintsDrawn_1 ?_
  refine v_if_eq C 14 (EX.rI B (j := 5) (S_x1.ext E.1).k rfl) dX0_paintsDrawn_4 (by decide) (fun c1 => ?_) (fun c1 => ?_)
  · have F := F.1 (c1)
    refine v_iconst C dX0_paintsDrawn_14 ?_
    exact v_zret C (by decide) (Nat.le_refl _) (Nat.le_refl _) dX0_paintsDrawn_15 ⟨B, (by decide), F⟩
  · have F := F.2 (c1)
    refine v_aload_n C 1 rfl rfl dX0_paintsDrawn_7 ?_
    refine gX0_152 C (S_x1.ext E.1).k rfl dX0_paintsDrawn_8 ?_
    refine v_if_ne C 16 (EX.rI B (j := 4) (S_x1.ext E.1).k rfl) dX0_paintsDrawn_11 (by decide) (fun c2 => ?_) (fun c2 => ?_)
    · have F := F.1 (c2)
      refine v_aload_n C 0 rfl rfl dX0_paintsDrawn_16 ?_
      refine v_aload_n C 1 rfl rfl dX0_paintsDrawn_17 ?_
      refine gX0_169 C (S_x1.ext E.1).k rfl dX0_paintsDrawn_18 ?_
      refine mX0_386 C (SX.ext E.1).k1 (d2 := 0) (kc2 := 0) (ks2 := 0) (by decide) (Nat.le_refl _) (Nat.le_refl _) (Nat.le_of_ble_eq_true rfl) dX0_paintsDrawn_21 (Ct.mono (F (EX.rI B (j := 5) (S_x1.ext E.1).k rfl)) ?_)
      rintro r3 h4 ⟨e5, g6, F⟩
      have F := F e5
      have B7 := B.tr e5
      have E8 := E.tr e5
      refine v_istore_n C rfl (by decide) dX0_paintsDrawn_24 (lv2 := [(2, iv r3), (0, rf 1), (1, rf x1)]) rfl ?_
      refine v_aload_n C 1 rfl rfl dX0_paintsDrawn_25 ?_
      refine v_aload_n C 2 rfl rfl dX0_paintsDrawn_26 ?_
      refine gX0_152 C (S_x1.ext E8.1).k rfl dX0_paintsDrawn_27 ?_
      refine mX0_386 C (SX.ext E8.1).k1 (d2 := 0) (kc2 := 0) (ks2 := 0) (by decide) (Nat.le_refl _) (Nat.le_refl _) (Nat.le_of_ble_eq_true rfl) dX0_paintsDrawn_30 (Ct.mono (F (EX.rI B7 (j := 4) (S_x1.ext E8.1).k rfl)) ?_)
      rintro r9 h10 ⟨e11, g12, F⟩
      have F := F e11
      have B13 := B7.tr e11
      have E14 := E8.tr e11
      refine v_istore_n C rfl (by decide) dX0_paintsDrawn_33 (lv2 := [(3, iv r9), (2, iv r3), (0, rf 1), (1, rf x1)]) rfl ?_
      refine v_aload_n C 3 rfl rfl dX0_paintsDrawn_34 ?_
      refine v_iload_n C 0 rfl rfl dX0_paintsDrawn_35 ?_
      refine v_iload_n C 1 rfl rfl dX0_paintsDrawn_36 ?_
      refine mX0_270 C (S_x1.ext E14.1).k (d2 := 2) (kc2 := 0) (ks2 := 0) (by decide) (Nat.le_refl _) (Nat.le_refl _) (Nat.le_of_ble_eq_true rfl) dX0_paintsDrawn_37 (Ct.mono (F g12 g6) ?_)
      rintro r15 h16 ⟨e17, g18, F⟩
      have F := F e17
      have B19 := B13.tr e17
      have E20 := E14.tr e17
      refine v_if_ne C 45 (bR g18) dX0_paintsDrawn_40 (by decide) (fun c21 => ?_) (fun c21 => ?_)
      · have F := F.1 (c21)
        refine v_aload_n C 3 rfl rfl dX0_paintsDrawn_45 ?_
        refine v_iload_n C 0 rfl rfl dX0_paintsDrawn_46 ?_
        refine v_iload_n C 1 rfl rfl dX0_paintsDrawn_47 ?_
        refine mX0_273 C (S_x1.ext E20.1).k (d2 := 1) (kc2 := 0) (ks2 := 0) (by decide) (Nat.le_refl _) (Nat.le_refl _) (Nat.le_of_ble_eq_true rfl) dX0_paintsDrawn_48 (Ct.mono (F g12 g6) ?_)
        rintro r22 h23 ⟨e24, F⟩
        have F := F e24
        have B26 := B19.tr e24
        have E27 := E20.tr e24
        refine v_iconst C dX0_paintsDrawn_51 ?_
        exact v_zret C (by decide) (Nat.le_refl _) (Nat.le_refl _) dX0_paintsDrawn_52 ⟨B26, (by decide), F⟩
      · have F := F.2 (c21)
        refine v_iconst C dX0_paintsDrawn_43 ?_
        exact v_zret C (by decide) (Nat.le_refl _) (Nat.le_refl _) dX0_paintsDrawn_44 ⟨B19, (by decide), F⟩
    · have F := F.2 (c2)
      refine v_iconst C dX0_paintsDrawn_14 ?_
      exact v_zret C (by decide) (Nat.le_refl _) (Nat.le_refl _) dX0_paintsDrawn_15 ⟨B, (by decide), F⟩
set_option maxHeartbeats 1000000 in
theorem eX0_paintsDrawn {G : GT} {l : Launch} {x1 : Int} {h : Mem} {P : Int → Mem → Prop} (F : ∀ X : MX, Cx G X cX0_paintsDrawn 4 RX0 3 0 0 (some .boolean) "paintsDrawn" → X.2.1 = l → (EX h h) →
    TownS h x1 ∧ XS h ∧ ((h x1 5 = 0 → P 0 h) ∧ (h x1 5 ≠ 0 → ((h x1 4 ≠ 0 → kX0_draw G X.2.1 (h x1 5) h (fun r3 h4 => EX h h4 → kX0_draw G X.2.1 (h4 x1 4) h4 (fun r9 h10 => EX h4 h10 → kX1_canPaint G X.2.1 x1 r9 r3 h10 (fun r15 h16 => EX h10 h16 → ((r15 ≠ 0 → kX1_paints G X.2.1 x1 r9 r3 h16 (fun _ h23 => EX h16 h23 → P 1 h23)) ∧ (r15 = 0 → P 0 h16)))))) ∧ (h x1 4 = 0 → P 0 h))))) :
    kX0_paintsDrawn G l x1 h P := by
  refine ct_of (by decide +kernel) (Nat.le_of_ble_eq_true rfl) fun X C e => ?_
  refine v_okz fun O => ?_
  exact wX0_paintsDrawn_0 C (EX.rf O) (F X C e (EX.rf O))
def kX0_scrape (G : GT) (l : Launch) (x1 : Int) (h : Mem) (P : Int → Mem → Prop) : Prop := R32 x1 → Ct G l yX0_scrape cX0_scrape 3 (some .int) 0 3 0 0 [rf 1, iv x1] h (PI h P)
set_option maxHeartbeats 4000000 in
theorem wX0_scrape_0 {G : GT} {X : MX} {h0 h : Mem} {P : Int → Mem → Prop} {x1 : Int} (C : Cx G X cX0_scrape 3 RX0 3 0 0 (some .int) "scrape") (B0 : EX h0 h ∧ R32 x1)
    (F : XS h ∧ kX0_isCell G X.2.1 x1 h (fun r1 h2 => EX h h2 → ((r1 = 0 → P (-1) h2) ∧ (r1 ≠ 0 → h2 1 0 = 2 ∧ 0 ≤ x1 ∧ x1 < 16 ∧ ((h2 13 x1 ≠ 0 → kX0_keepsAct G X.2.1 h2 (fun _ h13 => EX h2 h13 → h13 1 0 = 2 ∧ kX1_top G X.2.1 2 x1 h13 (fun r19 h20 => EX h13 h20 → h20 1 0 = 2 ∧ R32 (h20 13 x1 - 1) ∧ ∀ h27 : Mem, h27 = up h20 13 x1 (h20 13 x1 - 1) → P r19 h27))) ∧ (h2 13 x1 = 0 → P (-1) h2)))))) :
    V G X 3 0 0 (QF G X 0 0 0 (PI h0 P)) 0 [(0, rf 1), (1, iv x1)] [] h := by
  obtain ⟨B, R1⟩ := B0
  have E : EX h h := EX.rf B.2
  obtain ⟨SX, F⟩ := F
  refine v_aload_n C 0 rfl rfl dX0_scrape_0 ?_
  refine v_iload_n C 1 rfl rfl dX0_scrape_1 ?_
  refine mX0_172 C (SX.ext E.1).k1 (d2 := 0) (kc2 := 0) (ks2 := 0) (by decide) (Nat.le_refl _) (Nat.le_refl _) (Nat.le_of_ble_eq_true rfl) dX0_scrape_2 (Ct.mono (F R1) ?_)
  rintro r1 h2 ⟨e3, g4, F⟩
  have F := F e3
  have B5 := B.tr e3
  have E6 := E.tr e3
  refine v_if_eq C 20 (bR g4) dX0_scrape_5 (by decide) (fun c7 => ?_) (fun c7 => ?_)
  · have F := F.1 (c7)
    refine v_iconst C dX0_scrape_20 ?_
    exact v_iret C (Nat.le_refl _) (Nat.le_refl _) dX0_scrape_21 ⟨B5, ⟨by decide, by decide⟩, F⟩
  · have F := F.2 (c7)
    refine v_aload_n C 0 rfl rfl dX0_scrape_8 ?_
    obtain ⟨o8, F⟩ := F
    refine gX0_149 C (SX.ext E6.1).k1 o8 dX0_scrape_9 ?_
    refine gX0_179 C ((SX.ext E6.1).t2).k ((SX.ext E6.1).t2).f23 dX0_scrape_12 ?_
    refine v_iload_n C 1 rfl rfl dX0_scrape_15 ?_
    obtain ⟨o9, F⟩ := F
    obtain ⟨o10, F⟩ := F
    refine v_iald C ((SX.ext E6.1).t2).k23 o9 (by rw [((SX.ext E6.1).t2).l23]; exact o10) rfl dX0_scrape_16 ?_
    refine v_if_ne C 22 (EX.rI B5 (j := x1) ((SX.ext E6.1).t2).k23 rfl) dX0_scrape_17 (by decide) (fun c11 => ?_) (fun c11 => ?_)
    · have F := F.1 (c11)
      refine v_aload_n C 0 rfl rfl dX0_scrape_22 ?_
      refine mX0_260 C (SX.ext E6.1).k1 (d2 := 2) (kc2 := 0) (ks2 := 0) (by decide) (Nat.le_refl _) (Nat.le_refl _) (Nat.le_of_ble_eq_true rfl) dX0_scrape_23 (Ct.mono (F) ?_)
      rintro r12 h13 ⟨e14, F⟩
      have F := F e14
      have B16 := B5.tr e14
      have E17 := E6.tr e14
      refine v_aload_n C 0 rfl rfl dX0_scrape_26 ?_
      obtain ⟨o18, F⟩ := F
      refine gX0_149 C (SX.ext E17.1).k1 o18 dX0_scrape_27 ?_
      refine v_iload_n C 1 rfl rfl dX0_scrape_30 ?_
      refine mX0_186 C ((SX.ext E17.1).t2).k (d2 := 0) (kc2 := 0) (ks2 := 0) (by decide) (Nat.le_refl _) (Nat.le_refl _) (Nat.le_of_ble_eq_true rfl) dX0_scrape_31 (Ct.mono (F R1) ?_)
      rintro r19 h20 ⟨e21, g22, F⟩
      have F := F e21
      have B23 := B16.tr e21
      have E24 := E17.tr e21
      refine v_istore_n C rfl (by decide) dX0_scrape_34 (lv2 := [(2, iv r19), (0, rf 1), (1, iv x1)]) rfl ?_
      refine v_aload_n C 1 rfl rfl dX0_scrape_35 ?_
      obtain ⟨o25, F⟩ := F
      refine gX0_149 C (SX.ext E24.1).k1 o25 dX0_scrape_36 ?_
      refine gX0_179 C ((SX.ext E24.1).t2).k ((SX.ext E24.1).t2).f23 dX0_scrape_39 ?_
      refine v_iload_n C 2 rfl rfl dX0_scrape_42 ?_
      refine v_dup2 C (iv_n1 _) (rf_n1 _) dX0_scrape_43 ?_
      refine v_iald C ((SX.ext E24.1).t2).k23 o9 (by rw [((SX.ext E24.1).t2).l23]; exact o10) rfl dX0_scrape_44 ?_
      refine v_iconst C dX0_scrape_45 ?_
      refine v_isub C dX0_scrape_46 ?_
      obtain ⟨o26, F⟩ := F
      refine v_iast C ((SX.ext E24.1).t2).k23 o9 (by rw [((SX.ext E24.1).t2).l23]; exact o10) o26 dX0_scrape_47 ?_
      obtain ⟨h27, eh27⟩ : ∃ m : Mem, m = up h20 13 x1 (h20 13 x1 - 1) := ⟨_, rfl⟩
      have B28 : EX h0 h27 := by rw [eh27]; exact EX_up B23 ((SX.ext E24.1).t2).k23 (by decide) rfl o9 (okI_a (Or.inl rfl) o26)
      have E29 : EX h h27 := by rw [eh27]; exact EX_up E24 ((SX.ext E24.1).t2).k23 (by decide) rfl o9 (okI_a (Or.inl rfl) o26)
      refine v_mem eh27 ?_
      have F := F h27 eh27
      refine v_iload_n C 0 rfl rfl dX0_scrape_48 ?_
      exact v_iret C (Nat.le_refl _) (Nat.le_refl _) dX0_scrape_49 ⟨B28, g22, F⟩
    · have F := F.2 (c11)
      refine v_iconst C dX0_scrape_20 ?_
      exact v_iret C (Nat.le_refl _) (Nat.le_refl _) dX0_scrape_21 ⟨B5, ⟨by decide, by decide⟩, F⟩
set_option maxHeartbeats 1000000 in
theorem eX0_scrape {G : GT} {l : Launch} {x1 : Int} {h : Mem} {P : Int → Mem → Prop} (F : ∀ X : MX, Cx G X cX0_scrape 3 RX0 3 0 0 (some .int) "scrape" → X.2.1 = l → (EX h h ∧ R32 x1) →
    XS h ∧ kX0_isCell G X.2.1 x1 h (fun r1 h2 => EX h h2 → ((r1 = 0 → P (-1) h2) ∧ (r1 ≠ 0 → h2 1 0 = 2 ∧ 0 ≤ x1 ∧ x1 < 16 ∧ ((h2 13 x1 ≠ 0 → kX0_keepsAct G X.2.1 h2 (fun _ h13 => EX h2 h13 → h13 1 0 = 2 ∧ kX1_top G X.2.1 2 x1 h13 (fun r19 h20 => EX h13 h20 → h20 1 0 = 2 ∧ R32 (h20 13 x1 - 1) ∧ ∀ h27 : Mem, h27 = up h20 13 x1 (h20 13 x1 - 1) → P r19 h27))) ∧ (h2 13 x1 = 0 → P (-1) h2)))))) :
    kX0_scrape G l x1 h P := by
  intro R1
  refine ct_of (by decide +kernel) (Nat.le_of_ble_eq_true rfl) fun X C e => ?_
  refine v_okz fun O => ?_
  exact wX0_scrape_0 C ⟨EX.rf O, R1⟩ (F X C e ⟨EX.rf O, R1⟩)
def kX0_thing (G : GT) (l : Launch) (x1 x2 : Int) (h : Mem) (P : Int → Mem → Prop) : Prop := R32 x1 → R32 x2 → Ct G l yX0_thing cX0_thing 3 (some .int) 0 3 0 0 [rf 1, iv x1, iv x2] h (PI h P)
set_option maxHeartbeats 4000000 in
theorem wX0_thing_0 {G : GT} {X : MX} {h0 h : Mem} {P : Int → Mem → Prop} {x1 x2 : Int} (C : Cx G X cX0_thing 3 RX0 3 0 0 (some .int) "thing") (B0 : EX h0 h ∧ R32 x1 ∧ R32 x2)
    (F : XS h ∧ kX0_isThing G X.2.1 x1 h (fun r1 h2 => EX h h2 → ((r1 ≠ 0 → ((x2 = 0 → h2 1 0 = 2 ∧ 0 ≤ x1 ∧ x1 < 4 ∧ P (h2 3 x1) h2) ∧ (x2 = 1 → h2 1 0 = 2 ∧ 0 ≤ x1 ∧ x1 < 4 ∧ P (h2 4 x1) h2) ∧ (x2 = 2 → h2 1 0 = 2 ∧ 0 ≤ x1 ∧ x1 < 4 ∧ P (h2 5 x1) h2) ∧ (x2 = 3 → h2 1 0 = 2 ∧ kX1_whose G X.2.1 2 x1 h2 (fun r21 h22 => EX h2 h22 → P r21 h22)) ∧ (x2 = 4 → h2 1 0 = 2 ∧ kX0_has G X.2.1 (h2 2 12) x1 h2 (fun r29 h30 => EX h2 h30 → ((r29 = 0 → P 0 h30) ∧ (r29 ≠ 0 → P 1 h30)))) ∧ ((x2 < 0 ∨ 4 < x2) → P (-2) h2))) ∧ (r1 = 0 → P (-2) h2)))) :
    V G X 3 0 0 (QF G X 0 0 0 (PI h0 P)) 0 [(0, rf 1), (1, iv x1), (2, iv x2)] [] h := by
  obtain ⟨B, R1, R2⟩ := B0
  have E : EX h h := EX.rf B.2
  obtain ⟨SX, F⟩ := F
  refine v_aload_n C 0 rfl rfl dX0_thing_0 ?_
  refine v_iload_n C 1 rfl rfl dX0_thing_1 ?_
  refine mX0_212 C (SX.ext E.1).k1 (d2 := 0) (kc2 := 0) (ks2 := 0) (by decide) (Nat.le_refl _) (Nat.le_refl _) (Nat.le_of_ble_eq_true rfl) dX0_thing_2 (Ct.mono (F R1) ?_)
  rintro r1 h2 ⟨e3, g4, F⟩
  have F := F e3
  have B5 := B.tr e3
  have E6 := E.tr e3
  refine v_if_ne C 11 (bR g4) dX0_thing_5 (by decide) (fun c7 => ?_) (fun c7 => ?_)
  · have F := F.1 (c7)
    refine v_iload_n C 2 rfl rfl dX0_thing_11 ?_
    by_cases c11 : x2 = 0
    · have F := F.1 c11
      refine v_tableIn C 48 0 ⟨by decide, by decide⟩ c11 dX0_thing_12 (by decide) (by decide) rfl (by decide) ?_
      refine v_aload_n C 0 rfl rfl dX0_thing_48 ?_
      obtain ⟨o8, F⟩ := F
      refine gX0_149 C (SX.ext E6.1).k1 o8 dX0_thing_49 ?_
      refine gX0_215 C ((SX.ext E6.1).t2).k ((SX.ext E6.1).t2).f13 dX0_thing_52 ?_
      refine v_iload_n C 1 rfl rfl dX0_thing_55 ?_
      obtain ⟨o9, F⟩ := F
      obtain ⟨o10, F⟩ := F
      refine v_iald C ((SX.ext E6.1).t2).k13 o9 (by rw [((SX.ext E6.1).t2).l13]; exact o10) rfl dX0_thing_56 ?_
      exact v_iret C (Nat.le_refl _) (Nat.le_refl _) dX0_thing_57 ⟨B5, (EX.rI B5 (j := x1) ((SX.ext E6.1).t2).k13 rfl), F⟩
    by_cases c15 : x2 = 1
    · have F := F.2.1 c15
      refine v_tableIn C 58 1 ⟨by decide, by decide⟩ c15 dX0_thing_12 (by decide) (by decide) rfl (by decide) ?_
      refine v_aload_n C 0 rfl rfl dX0_thing_58 ?_
      obtain ⟨o12, F⟩ := F
      refine gX0_149 C (SX.ext E6.1).k1 o12 dX0_thing_59 ?_
      refine gX0_218 C ((SX.ext E6.1).t2).k ((SX.ext E6.1).t2).f14 dX0_thing_62 ?_
      refine v_iload_n C 1 rfl rfl dX0_thing_65 ?_
      obtain ⟨o13, F⟩ := F
      obtain ⟨o14, F⟩ := F
      refine v_iald C ((SX.ext E6.1).t2).k14 o13 (by rw [((SX.ext E6.1).t2).l14]; exact o14) rfl dX0_thing_66 ?_
      exact v_iret C (Nat.le_refl _) (Nat.le_refl _) dX0_thing_67 ⟨B5, (EX.rI B5 (j := x1) ((SX.ext E6.1).t2).k14 rfl), F⟩
    by_cases c19 : x2 = 2
    · have F := F.2.2.1 c19
      refine v_tableIn C 68 2 ⟨by decide, by decide⟩ c19 dX0_thing_12 (by decide) (by decide) rfl (by decide) ?_
      refine v_aload_n C 0 rfl rfl dX0_thing_68 ?_
      obtain ⟨o16, F⟩ := F
      refine gX0_149 C (SX.ext E6.1).k1 o16 dX0_thing_69 ?_
      refine gX0_221 C ((SX.ext E6.1).t2).k ((SX.ext E6.1).t2).f15 dX0_thing_72 ?_
      refine v_iload_n C 1 rfl rfl dX0_thing_75 ?_
      obtain ⟨o17, F⟩ := F
      obtain ⟨o18, F⟩ := F
      refine v_iald C ((SX.ext E6.1).t2).k15 o17 (by rw [((SX.ext E6.1).t2).l15]; exact o18) rfl dX0_thing_76 ?_
      exact v_iret C (Nat.le_refl _) (Nat.le_refl _) dX0_thing_77 ⟨B5, (EX.rI B5 (j := x1) ((SX.ext E6.1).t2).k15 rfl), F⟩
    by_cases c27 : x2 = 3
    · have F := F.2.2.2.1 c27
      refine v_tableIn C 78 3 ⟨by decide, by decide⟩ c27 dX0_thing_12 (by decide) (by decide) rfl (by decide) ?_
      refine v_aload_n C 0 rfl rfl dX0_thing_78 ?_
      obtain ⟨o20, F⟩ := F
      refine gX0_149 C (SX.ext E6.1).k1 o20 dX0_thing_79 ?_
      refine v_iload_n C 1 rfl rfl dX0_thing_82 ?_
      refine mX0_223 C ((SX.ext E6.1).t2).k (d2 := 2) (kc2 := 0) (ks2 := 0) (by decide) (Nat.le_refl _) (Nat.le_refl _) (Nat.le_of_ble_eq_true rfl) dX0_thing_83 (Ct.mono (F R1) ?_)
      rintro r21 h22 ⟨e23, g24, F⟩
      have F := F e23
      have B25 := B5.tr e23
      have E26 := E6.tr e23
      exact v_iret C (Nat.le_refl _) (Nat.le_refl _) dX0_thing_86 ⟨B25, g24, F⟩
    by_cases c36 : x2 = 4
    · have F := F.2.2.2.2.1 c36
      refine v_tableIn C 87 4 ⟨by decide, by decide⟩ c36 dX0_thing_12 (by decide) (by decide) rfl (by decide) ?_
      refine v_aload_n C 0 rfl rfl dX0_thing_87 ?_
      obtain ⟨o28, F⟩ := F
      refine gX0_149 C (SX.ext E6.1).k1 o28 dX0_thing_88 ?_
      refine gX0_225 C ((SX.ext E6.1).t2).k rfl dX0_thing_91 ?_
      refine v_iload_n C 1 rfl rfl dX0_thing_94 ?_
      refine mX0_227 C (d2 := 0) (kc2 := 0) (ks2 := 0) (by decide) (Nat.le_refl _) (Nat.le_refl _) (Nat.le_of_ble_eq_true rfl) dX0_thing_95 (Ct.mono (F (EX.rI B5 (j := 12) ((SX.ext E6.1).t2).k rfl) R1) ?_)
      rintro r29 h30 ⟨e31, g32, F⟩
      have F := F e31
      have B33 := B5.tr e31
      have E34 := E6.tr e31
      refine v_if_eq C 105 (bR g32) dX0_thing_98 (by decide) (fun c35 => ?_) (fun c35 => ?_)
      · have F := F.1 (c35)
        refine v_iconst C dX0_thing_105 ?_
        exact v_iret C (Nat.le_refl _) (Nat.le_refl _) dX0_thing_106 ⟨B33, ⟨by decide, by decide⟩, F⟩
      · have F := F.2 (c35)
        refine v_iconst C dX0_thing_101 ?_
        refine v_goto C 106 dX0_thing_102 (by decide) ?_
        exact v_iret C (Nat.le_refl _) (Nat.le_refl _) dX0_thing_106 ⟨B33, ⟨by decide, by decide⟩, F⟩
    have c37 : x2 < 0 ∨ 4 < x2 := by omega
    have F := F.2.2.2.2.2 c37
    refine v_tableOut C 107 R2 c37 dX0_thing_12 (by decide) ?_
    refine v_bipush C rfl dX0_thing_107 ?_
    exact v_iret C (Nat.le_refl _) (Nat.le_refl _) dX0_thing_109 ⟨B5, ⟨by decide, by decide⟩, F⟩
  · have F := F.2 (c7)
    refine v_bipush C rfl dX0_thing_8 ?_
    exact v_iret C (Nat.le_refl _) (Nat.le_refl _) dX0_thing_10 ⟨B5, ⟨by decide, by decide⟩, F⟩
set_option maxHeartbeats 1000000 in
theorem eX0_thing {G : GT} {l : Launch} {x1 x2 : Int} {h : Mem} {P : Int → Mem → Prop} (F : ∀ X : MX, Cx G X cX0_thing 3 RX0 3 0 0 (some .int) "thing" → X.2.1 = l → (EX h h ∧ R32 x1 ∧ R32 x2) →
    XS h ∧ kX0_isThing G X.2.1 x1 h (fun r1 h2 => EX h h2 → ((r1 ≠ 0 → ((x2 = 0 → h2 1 0 = 2 ∧ 0 ≤ x1 ∧ x1 < 4 ∧ P (h2 3 x1) h2) ∧ (x2 = 1 → h2 1 0 = 2 ∧ 0 ≤ x1 ∧ x1 < 4 ∧ P (h2 4 x1) h2) ∧ (x2 = 2 → h2 1 0 = 2 ∧ 0 ≤ x1 ∧ x1 < 4 ∧ P (h2 5 x1) h2) ∧ (x2 = 3 → h2 1 0 = 2 ∧ kX1_whose G X.2.1 2 x1 h2 (fun r21 h22 => EX h2 h22 → P r21 h22)) ∧ (x2 = 4 → h2 1 0 = 2 ∧ kX0_has G X.2.1 (h2 2 12) x1 h2 (fun r29 h30 => EX h2 h30 → ((r29 = 0 → P 0 h30) ∧ (r29 ≠ 0 → P 1 h30)))) ∧ ((x2 < 0 ∨ 4 < x2) → P (-2) h2))) ∧ (r1 = 0 → P (-2) h2)))) :
    kX0_thing G l x1 x2 h P := by
  intro R1 R2
  refine ct_of (by decide +kernel) (Nat.le_of_ble_eq_true rfl) fun X C e => ?_
  refine v_okz fun O => ?_
  exact wX0_thing_0 C ⟨EX.rf O, R1, R2⟩ (F X C e ⟨EX.rf O, R1, R2⟩)
def kX0_vote (G : GT) (l : Launch) (x1 : Int) (h : Mem) (P : Int → Mem → Prop) : Prop := R32 x1 → Ct G l yX0_vote cX0_vote 2 (some .int) 0 3 0 0 [rf 1, iv x1] h (PI h P)
set_option maxHeartbeats 4000000 in
theorem wX0_vote_0 {G : GT} {X : MX} {h0 h : Mem} {P : Int → Mem → Prop} {x1 : Int} (C : Cx G X cX0_vote 2 RX0 3 0 0 (some .int) "vote") (B0 : EX h0 h ∧ R32 x1)
    (F : XS h ∧ kX0_isThing G X.2.1 x1 h (fun r1 h2 => EX h h2 → ((r1 = 0 → P (-1) h2) ∧ (r1 ≠ 0 → h2 1 0 = 2 ∧ kX0_has G X.2.1 (h2 2 12) x1 h2 (fun r9 h10 => EX h2 h10 → ((r9 = 0 → kX0_keepsAct G X.2.1 h10 (fun _ h17 => EX h10 h17 → h17 1 0 = 2 ∧ kX1_bares G X.2.1 2 x1 h17 (fun r23 h24 => EX h17 h24 → P r23 h24))) ∧ (r9 ≠ 0 → P (-1) h10))))))) :
    V G X 2 0 0 (QF G X 0 0 0 (PI h0 P)) 0 [(0, rf 1), (1, iv x1)] [] h := by
  obtain ⟨B, R1⟩ := B0
  have E : EX h h := EX.rf B.2
  obtain ⟨SX, F⟩ := F
  refine v_aload_n C 0 rfl rfl dX0_vote_0 ?_
  refine v_iload_n C 1 rfl rfl dX0_vote_1 ?_
  refine mX0_212 C (SX.ext E.1).k1 (d2 := 0) (kc2 := 0) (ks2 := 0) (by decide) (Nat.le_refl _) (Nat.le_refl _) (Nat.le_of_ble_eq_true rfl) dX0_vote_2 (Ct.mono (F R1) ?_)
  rintro r1 h2 ⟨e3, g4, F⟩
  have F := F e3
  have B5 := B.tr e3
  have E6 := E.tr e3
  refine v_if_eq C 22 (bR g4) dX0_vote_5 (by decide) (fun c7 => ?_) (fun c7 => ?_)
  · have F := F.1 (c7)
    refine v_iconst C dX0_vote_22 ?_
    exact v_iret C (Nat.le_refl _) (Nat.le_refl _) dX0_vote_23 ⟨B5, ⟨by decide, by decide⟩, F⟩
  · have F := F.2 (c7)
    refine v_aload_n C 0 rfl rfl dX0_vote_8 ?_
    obtain ⟨o8, F⟩ := F
    refine gX0_149 C (SX.ext E6.1).k1 o8 dX0_vote_9 ?_
    refine gX0_225 C ((SX.ext E6.1).t2).k rfl dX0_vote_12 ?_
    refine v_iload_n C 1 rfl rfl dX0_vote_15 ?_
    refine mX0_227 C (d2 := 0) (kc2 := 0) (ks2 := 0) (by decide) (Nat.le_refl _) (Nat.le_refl _) (Nat.le_of_ble_eq_true rfl) dX0_vote_16 (Ct.mono (F (EX.rI B5 (j := 12) ((SX.ext E6.1).t2).k rfl) R1) ?_)
    rintro r9 h10 ⟨e11, g12, F⟩
    have F := F e11
    have B13 := B5.tr e11
    have E14 := E6.tr e11
    refine v_if_eq C 24 (bR g12) dX0_vote_19 (by decide) (fun c15 => ?_) (fun c15 => ?_)
    · have F := F.1 (c15)
      refine v_aload_n C 0 rfl rfl dX0_vote_24 ?_
      refine mX0_260 C (SX.ext E14.1).k1 (d2 := 2) (kc2 := 0) (ks2 := 0) (by decide) (Nat.le_refl _) (Nat.le_refl _) (Nat.le_of_ble_eq_true rfl) dX0_vote_25 (Ct.mono (F) ?_)
      rintro r16 h17 ⟨e18, F⟩
      have F := F e18
      have B20 := B13.tr e18
      have E21 := E14.tr e18
      refine v_aload_n C 0 rfl rfl dX0_vote_28 ?_
      obtain ⟨o22, F⟩ := F
      refine gX0_149 C (SX.ext E21.1).k1 o22 dX0_vote_29 ?_
      refine v_iload_n C 1 rfl rfl dX0_vote_32 ?_
      refine mX0_277 C ((SX.ext E21.1).t2).k (d2 := 0) (kc2 := 0) (ks2 := 0) (by decide) (Nat.le_refl _) (Nat.le_refl _) (Nat.le_of_ble_eq_true rfl) dX0_vote_33 (Ct.mono (F R1) ?_)
      rintro r23 h24 ⟨e25, g26, F⟩
      have F := F e25
      have B27 := B20.tr e25
      have E28 := E21.tr e25
      exact v_iret C (Nat.le_refl _) (Nat.le_refl _) dX0_vote_36 ⟨B27, g26, F⟩
    · have F := F.2 (c15)
      refine v_iconst C dX0_vote_22 ?_
      exact v_iret C (Nat.le_refl _) (Nat.le_refl _) dX0_vote_23 ⟨B13, ⟨by decide, by decide⟩, F⟩
set_option maxHeartbeats 1000000 in
theorem eX0_vote {G : GT} {l : Launch} {x1 : Int} {h : Mem} {P : Int → Mem → Prop} (F : ∀ X : MX, Cx G X cX0_vote 2 RX0 3 0 0 (some .int) "vote" → X.2.1 = l → (EX h h ∧ R32 x1) →
    XS h ∧ kX0_isThing G X.2.1 x1 h (fun r1 h2 => EX h h2 → ((r1 = 0 → P (-1) h2) ∧ (r1 ≠ 0 → h2 1 0 = 2 ∧ kX0_has G X.2.1 (h2 2 12) x1 h2 (fun r9 h10 => EX h2 h10 → ((r9 = 0 → kX0_keepsAct G X.2.1 h10 (fun _ h17 => EX h10 h17 → h17 1 0 = 2 ∧ kX1_bares G X.2.1 2 x1 h17 (fun r23 h24 => EX h17 h24 → P r23 h24))) ∧ (r9 ≠ 0 → P (-1) h10))))))) :
    kX0_vote G l x1 h P := by
  intro R1
  refine ct_of (by decide +kernel) (Nat.le_of_ble_eq_true rfl) fun X C e => ?_
  refine v_okz fun O => ?_
  exact wX0_vote_0 C ⟨EX.rf O, R1⟩ (F X C e ⟨EX.rf O, R1⟩)
def kX0_isTheirsBy (G : GT) (l : Launch) (x1 x2 x3 x4 : Int) (h : Mem) (P : Int → Mem → Prop) : Prop := R32 x1 → R32 x2 → R32 x3 → R32 x4 → Ct G l yX0_isTheirsBy cX0_isTheirsBy 7 (some .boolean) 0 5 0 0 [rf 1, iv x1, iv x2, iv x3, iv x4] h (PZ h P)
set_option maxHeartbeats 4000000 in
theorem wX0_isTheirsBy_0 {G : GT} {X : MX} {h0 h : Mem} {P : Int → Mem → Prop} {x1 x2 x3 x4 : Int} (C : Cx G X cX0_isTheirsBy 7 RX0 5 0 0 (some .boolean) "isTheirsBy") (B0 : EX h0 h ∧ R32 x1 ∧ R32 x2 ∧ R32 x3 ∧ R32 x4)
    (F : XS h ∧ h 1 0 = 2 ∧ kX1_standsAs G X.2.1 20 2 h (fun r2 h3 => EX h h3 → r2 = 20 ∧ (EX h0 h3 ∧ R32 x1 ∧ R32 x2 ∧ R32 x3 ∧ R32 x4 ∧ R32 0 → V G X 7 0 0 (QF G X 0 0 0 (PZ h0 P)) 16 [(0, rf 1), (1, iv x1), (2, iv x2), (3, iv x3), (4, iv x4), (5, rf 20), (6, iv 0)] [] h3))) :
    V G X 7 0 0 (QF G X 0 0 0 (PZ h0 P)) 0 [(0, rf 1), (1, iv x1), (2, iv x2), (3, iv x3), (4, iv x4)] [] h := by
  obtain ⟨B, R1, R2, R3, R4⟩ := B0
  have E : EX h h := EX.rf B.2
  obtain ⟨SX, F⟩ := F
  refine v_aload_n C 0 rfl rfl dX0_isTheirsBy_0 ?_
  refine gX0_18 C (SX.ext E.1).k1 (SX.ext E.1).f2 dX0_isTheirsBy_1 ?_
  refine v_aload_n C 0 rfl rfl dX0_isTheirsBy_4 ?_
  obtain ⟨o1, F⟩ := F
  refine gX0_149 C (SX.ext E.1).k1 o1 dX0_isTheirsBy_5 ?_
  refine mX0_294 C ((SX.ext E.1).t20).k (d2 := 1) (kc2 := 0) (ks2 := 0) (by decide) (Nat.le_refl _) (Nat.le_refl _) (Nat.le_of_ble_eq_true rfl) dX0_isTheirsBy_8 (Ct.mono (F) ?_)
  rintro r2 h3 ⟨e4, F⟩
  replace F := F e4
  have B6 := B.tr e4
  have E7 := E.tr e4
  obtain ⟨r2q, F⟩ := F
  subst r2q
  refine v_astore C (by decide) dX0_isTheirsBy_11 (lv2 := [(5, rf 20), (0, rf 1), (1, iv x1), (2, iv x2), (3, iv x3), (4, iv x4)]) rfl ?_
  refine v_iconst C dX0_isTheirsBy_13 ?_
  refine v_istore C (by decide) dX0_isTheirsBy_14 (lv2 := [(6, iv 0), (5, rf 20), (0, rf 1), (1, iv x1), (2, iv x2), (3, iv x3), (4, iv x4)]) rfl ?_
  refine v_sub (lv2 := [(0, rf 1), (1, iv x1), (2, iv x2), (3, iv x3), (4, iv x4), (5, rf 20), (6, iv 0)]) [2, 3, 4, 5, 6, 1, 0] rfl ?_
  exact F ⟨B6, R1, R2, R3, R4, ⟨by decide, by decide⟩⟩
set_option maxHeartbeats 4000000 in
theorem wX0_isTheirsBy_L16 {G : GT} {X : MX} {h0 h : Mem} {P : Int → Mem → Prop} {x1 x2 x3 x4 x6 : Int} (C : Cx G X cX0_isTheirsBy 7 RX0 5 0 0 (some .boolean) "isTheirsBy") (B0 : EX h0 h ∧ R32 x1 ∧ R32 x2 ∧ R32 x3 ∧ R32 x4 ∧ R32 x6)
    (F : XS h ∧ 0 ≤ x2 ∧ x2 < 4 ∧ ((x6 ≥ h 22 x2 → (EX h0 h ∧ R32 x1 ∧ R32 x2 ∧ R32 x3 ∧ R32 0 → V G X 7 0 0 (QF G X 0 0 0 (PZ h0 P)) 68 [(0, rf 1), (1, iv x1), (2, iv x2), (3, iv x3), (5, rf 20), (6, iv 0)] [] h)) ∧ (x6 < h 22 x2 → kX0_has G X.2.1 x4 x6 h (fun r4 h5 => EX h h5 → ((r4 = 0 → R32 (x6 + 1) ∧ (EX h0 h5 ∧ R32 x1 ∧ R32 x2 ∧ R32 x3 ∧ R32 x4 ∧ R32 (x6 + 1) → V G X 7 0 0 (QF G X 0 0 0 (PZ h0 P)) 16 [(0, rf 1), (1, iv x1), (2, iv x2), (3, iv x3), (4, iv x4), (5, rf 20), (6, iv (x6 + 1))] [] h5)) ∧ (r4 ≠ 0 → R32 (h5 21 x2 + x6) ∧ kX1_putsCoat G X.2.1 20 (h5 21 x2 + x6) x1 (h5 20 11) h5 (fun _ h14 => EX h5 h14 → R32 (x6 + 1) ∧ (EX h0 h14 ∧ R32 x1 ∧ R32 x2 ∧ R32 x3 ∧ R32 x4 ∧ R32 (x6 + 1) → V G X 7 0 0 (QF G X 0 0 0 (PZ h0 P)) 16 [(0, rf 1), (1, iv x1), (2, iv x2), (3, iv x3), (4, iv x4), (5, rf 20), (6, iv (x6 + 1))] [] h14)))))))) :
    V G X 7 0 0 (QF G X 0 0 0 (PZ h0 P)) 16 [(0, rf 1), (1, iv x1), (2, iv x2), (3, iv x3), (4, iv x4), (5, rf 20), (6, iv x6)] [] h := by
  obtain ⟨B, R1, R2, R3, R4, R6⟩ := B0
  have E : EX h h := EX.rf B.2
  obtain ⟨SX, F⟩ := F
  refine v_iload C 6 rfl dX0_isTheirsBy_16 ?_
  refine v_aload C 5 rfl dX0_isTheirsBy_18 ?_
  refine gX0_218 C ((SX.ext E.1).t20).k ((SX.ext E.1).t20).f14 dX0_isTheirsBy_20 ?_
  refine v_iload_n C 2 rfl rfl dX0_isTheirsBy_23 ?_
  obtain ⟨o1, F⟩ := F
  obtain ⟨o2, F⟩ := F
  refine v_iald C ((SX.ext E.1).t20).k14 o1 (by rw [((SX.ext E.1).t20).l14]; exact o2) rfl dX0_isTheirsBy_24 ?_
  refine v_icmp_ge C 65 R6 (EX.rI B (j := x2) ((SX.ext E.1).t20).k14 rfl) dX0_isTheirsBy_25 (by decide) (fun c3 => ?_) (fun c3 => ?_)
  · have F := F.1 (c3)
    refine v_iconst C dX0_isTheirsBy_65 ?_
    refine v_istore C (by decide) dX0_isTheirsBy_66 (lv2 := [(6, iv 0), (0, rf 1), (1, iv x1), (2, iv x2), (3, iv x3), (4, iv x4), (5, rf 20)]) rfl ?_
    refine v_sub (lv2 := [(0, rf 1), (1, iv x1), (2, iv x2), (3, iv x3), (5, rf 20), (6, iv 0)]) [1, 2, 3, 4, 6, 0] rfl ?_
    exact F ⟨B, R1, R2, R3, ⟨by decide, by decide⟩⟩
  · have F := F.2 (c3)
    refine v_iload C 4 rfl dX0_isTheirsBy_28 ?_
    refine v_iload C 6 rfl dX0_isTheirsBy_30 ?_
    refine mX0_227 C (d2 := 0) (kc2 := 0) (ks2 := 0) (by decide) (Nat.le_refl _) (Nat.le_refl _) (Nat.le_of_ble_eq_true rfl) dX0_isTheirsBy_32 (Ct.mono (F R4 R6) ?_)
    rintro r4 h5 ⟨e6, g7, F⟩
    have F := F e6
    have B8 := B.tr e6
    have E9 := E.tr e6
    refine v_if_eq C 59 (bR g7) dX0_isTheirsBy_35 (by decide) (fun c10 => ?_) (fun c10 => ?_)
    · have F := F.1 (c10)
      obtain ⟨o11, F⟩ := F
      refine v_iinc C 6 rfl (by decide) dX0_isTheirsBy_59 (lv2 := [(6, iv (x6 + 1)), (0, rf 1), (1, iv x1), (2, iv x2), (3, iv x3), (4, iv x4), (5, rf 20)]) rfl ?_
      refine v_goto C 16 dX0_isTheirsBy_62 (by decide) ?_
      refine v_sub (lv2 := [(0, rf 1), (1, iv x1), (2, iv x2), (3, iv x3), (4, iv x4), (5, rf 20), (6, iv (x6 + 1))]) [1, 2, 3, 4, 5, 6, 0] rfl ?_
      exact F ⟨B8, R1, R2, R3, R4, o11⟩
    · have F := F.2 (c10)
      refine v_aload C 5 rfl dX0_isTheirsBy_38 ?_
      refine v_aload C 5 rfl dX0_isTheirsBy_40 ?_
      refine gX0_215 C ((SX.ext E9.1).t20).k ((SX.ext E9.1).t20).f13 dX0_isTheirsBy_42 ?_
      refine v_iload_n C 2 rfl rfl dX0_isTheirsBy_45 ?_
      refine v_iald C ((SX.ext E9.1).t20).k13 o1 (by rw [((SX.ext E9.1).t20).l13]; exact o2) rfl dX0_isTheirsBy_46 ?_
      refine v_iload C 6 rfl dX0_isTheirsBy_47 ?_
      refine v_iadd C dX0_isTheirsBy_49 ?_
      refine v_iload_n C 1 rfl rfl dX0_isTheirsBy_50 ?_
      refine v_aload C 5 rfl dX0_isTheirsBy_51 ?_
      refine gX0_257 C ((SX.ext E9.1).t20).k rfl dX0_isTheirsBy_53 ?_
      obtain ⟨o12, F⟩ := F
      refine mX0_290 C ((SX.ext E9.1).t20).k (d2 := 0) (kc2 := 0) (ks2 := 0) (by decide) (Nat.le_refl _) (Nat.le_refl _) (Nat.le_of_ble_eq_true rfl) dX0_isTheirsBy_56 (Ct.mono (F o12 R1 (EX.rI B8 (j := 11) ((SX.ext E9.1).t20).k rfl)) ?_)
      rintro r13 h14 ⟨e15, F⟩
      have F := F e15
      have B17 := B8.tr e15
      have E18 := E9.tr e15
      obtain ⟨o19, F⟩ := F
      refine v_iinc C 6 rfl (by decide) dX0_isTheirsBy_59 (lv2 := [(6, iv (x6 + 1)), (0, rf 1), (1, iv x1), (2, iv x2), (3, iv x3), (4, iv x4), (5, rf 20)]) rfl ?_
      refine v_goto C 16 dX0_isTheirsBy_62 (by decide) ?_
      refine v_sub (lv2 := [(0, rf 1), (1, iv x1), (2, iv x2), (3, iv x3), (4, iv x4), (5, rf 20), (6, iv (x6 + 1))]) [1, 2, 3, 4, 5, 6, 0] rfl ?_
      exact F ⟨B17, R1, R2, R3, R4, o19⟩
set_option maxHeartbeats 4000000 in
theorem wX0_isTheirsBy_L68 {G : GT} {X : MX} {h0 h : Mem} {P : Int → Mem → Prop} {x1 x2 x3 x6 : Int} (C : Cx G X cX0_isTheirsBy 7 RX0 5 0 0 (some .boolean) "isTheirsBy") (B0 : EX h0 h ∧ R32 x1 ∧ R32 x2 ∧ R32 x3 ∧ R32 x6)
    (F : XS h ∧ ((x6 ≥ x3 → kX1_whose G X.2.1 20 x2 h (fun r2 h3 => EX h h3 → ((r2 ≠ x1 → P 0 h3) ∧ (r2 = x1 → P 1 h3)))) ∧ (x6 < x3 → kX1_closes G X.2.1 20 165 h (fun _ h10 => EX h h10 → R32 (x6 + 1) ∧ (EX h0 h10 ∧ R32 x1 ∧ R32 x2 ∧ R32 x3 ∧ R32 (x6 + 1) → V G X 7 0 0 (QF G X 0 0 0 (PZ h0 P)) 68 [(0, rf 1), (1, iv x1), (2, iv x2), (3, iv x3), (5, rf 20), (6, iv (x6 + 1))] [] h10))))) :
    V G X 7 0 0 (QF G X 0 0 0 (PZ h0 P)) 68 [(0, rf 1), (1, iv x1), (2, iv x2), (3, iv x3), (5, rf 20), (6, iv x6)] [] h := by
  obtain ⟨B, R1, R2, R3, R6⟩ := B0
  have E : EX h h := EX.rf B.2
  obtain ⟨SX, F⟩ := F
  refine v_iload C 5 rfl dX0_isTheirsBy_68 ?_
  refine v_iload_n C 3 rfl rfl dX0_isTheirsBy_70 ?_
  refine v_icmp_ge C 89 R6 R3 dX0_isTheirsBy_71 (by decide) (fun c1 => ?_) (fun c1 => ?_)
  · have F := F.1 (c1)
    refine v_aload C 4 rfl dX0_isTheirsBy_89 ?_
    refine v_iload_n C 2 rfl rfl dX0_isTheirsBy_91 ?_
    refine mX0_223 C ((SX.ext E.1).t20).k (d2 := 2) (kc2 := 0) (ks2 := 0) (by decide) (Nat.le_refl _) (Nat.le_refl _) (Nat.le_of_ble_eq_true rfl) dX0_isTheirsBy_92 (Ct.mono (F R2) ?_)
    rintro r2 h3 ⟨e4, g5, F⟩
    have F := F e4
    have B6 := B.tr e4
    have E7 := E.tr e4
    refine v_iload_n C 1 rfl rfl dX0_isTheirsBy_95 ?_
    refine v_icmp_ne C 103 g5 R1 dX0_isTheirsBy_96 (by decide) (fun c8 => ?_) (fun c8 => ?_)
    · have F := F.1 (c8)
      refine v_iconst C dX0_isTheirsBy_103 ?_
      exact v_zret C (by decide) (Nat.le_refl _) (Nat.le_refl _) dX0_isTheirsBy_104 ⟨B6, (by decide), F⟩
    · have F := F.2 (c8)
      refine v_iconst C dX0_isTheirsBy_99 ?_
      refine v_goto C 104 dX0_isTheirsBy_100 (by decide) ?_
      exact v_zret C (by decide) (Nat.le_refl _) (Nat.le_refl _) dX0_isTheirsBy_104 ⟨B6, (by decide), F⟩
  · have F := F.2 (c1)
    refine v_aload C 4 rfl dX0_isTheirsBy_74 ?_
    refine v_aload_n C 0 rfl rfl dX0_isTheirsBy_76 ?_
    refine gX0_31 C (SX.ext E.1).k1 (SX.ext E.1).f6 dX0_isTheirsBy_77 ?_
    refine mX0_297 C ((SX.ext E.1).t20).k (d2 := 4) (kc2 := 0) (ks2 := 0) (by decide) (Nat.le_refl _) (Nat.le_refl _) (Nat.le_of_ble_eq_true rfl) dX0_isTheirsBy_80 (Ct.mono (F) ?_)
    rintro r9 h10 ⟨e11, F⟩
    have F := F e11
    have B13 := B.tr e11
    have E14 := E.tr e11
    obtain ⟨o15, F⟩ := F
    refine v_iinc C 5 rfl (by decide) dX0_isTheirsBy_83 (lv2 := [(6, iv (x6 + 1)), (0, rf 1), (1, iv x1), (2, iv x2), (3, iv x3), (5, rf 20)]) rfl ?_
    refine v_goto C 68 dX0_isTheirsBy_86 (by decide) ?_
    refine v_sub (lv2 := [(0, rf 1), (1, iv x1), (2, iv x2), (3, iv x3), (5, rf 20), (6, iv (x6 + 1))]) [1, 2, 3, 4, 5, 0] rfl ?_
    exact F ⟨B13, R1, R2, R3, o15⟩
set_option maxHeartbeats 1000000 in
theorem eX0_isTheirsBy {G : GT} {l : Launch} {x1 x2 x3 x4 : Int} {h : Mem} {P : Int → Mem → Prop} (F : ∀ X : MX, Cx G X cX0_isTheirsBy 7 RX0 5 0 0 (some .boolean) "isTheirsBy" → X.2.1 = l → (EX h h ∧ R32 x1 ∧ R32 x2 ∧ R32 x3 ∧ R32 x4) →
    XS h ∧ h 1 0 = 2 ∧ kX1_standsAs G X.2.1 20 2 h (fun r2 h3 => EX h h3 → r2 = 20 ∧ (EX h h3 ∧ R32 x1 ∧ R32 x2 ∧ R32 x3 ∧ R32 x4 ∧ R32 0 → V G X 7 0 0 (QF G X 0 0 0 (PZ h P)) 16 [(0, rf 1), (1, iv x1), (2, iv x2), (3, iv x3), (4, iv x4), (5, rf 20), (6, iv 0)] [] h3))) :
    kX0_isTheirsBy G l x1 x2 x3 x4 h P := by
  intro R1 R2 R3 R4
  refine ct_of (by decide +kernel) (Nat.le_of_ble_eq_true rfl) fun X C e => ?_
  refine v_okz fun O => ?_
  exact wX0_isTheirsBy_0 C ⟨EX.rf O, R1, R2, R3, R4⟩ (F X C e ⟨EX.rf O, R1, R2, R3, R4⟩)
def kX0_years (G : GT) (l : Launch) (x1 x2 x3 : Int) (h : Mem) (P : Int → Mem → Prop) : Prop := R32 x1 → R32 x2 → R32 x3 → Ct G l yX0_years cX0_years 9 (some .int) 0 5 0 0 [rf 1, iv x1, iv x2, iv x3] h (PI h P)
set_option maxHeartbeats 4000000 in
theorem wX0_years_0 {G : GT} {X : MX} {h0 h : Mem} {P : Int → Mem → Prop} {x1 x2 x3 : Int} (C : Cx G X cX0_years 9 RX0 5 0 0 (some .int) "years") (B0 : EX h0 h ∧ R32 x1 ∧ R32 x2 ∧ R32 x3)
    (F : XS h ∧ ((h 1 0 = 0 → P (-1) h) ∧ (h 1 0 ≠ 0 → kX0_in G X.2.1 x1 1 10 h (fun r2 h3 => EX h h3 → ((r2 = 0 → P (-1) h3) ∧ (r2 ≠ 0 → kX0_in G X.2.1 x2 1 100 h3 (fun r9 h10 => EX h3 h10 → ((r9 = 0 → P (-1) h10) ∧ (r9 ≠ 0 → kX0_in G X.2.1 x3 0 1 h10 (fun r16 h17 => EX h10 h17 → ((r16 ≠ 0 → ∀ h23 : Mem, h23 = up h17 1 23 (h17 1 7) → (EX h0 h23 ∧ R32 x1 ∧ R32 x2 ∧ R32 x3 ∧ R32 0 → V G X 9 0 0 (QF G X 0 0 0 (PI h0 P)) 60 [(0, rf 1), (1, iv x1), (2, iv x2), (3, iv x3), (4, iv 0), (5, iv 0), (6, iv 0)] [] h23)) ∧ (r16 = 0 → P (-1) h17)))))))))))) :
    V G X 9 0 0 (QF G X 0 0 0 (PI h0 P)) 0 [(0, rf 1), (1, iv x1), (2, iv x2), (3, iv x3)] [] h := by
  obtain ⟨B, R1, R2, R3⟩ := B0
  have E : EX h h := EX.rf B.2
  obtain ⟨SX, F⟩ := F
  refine v_aload_n C 0 rfl rfl dX0_years_0 ?_
  refine gX0_149 C (SX.ext E.1).k1 rfl dX0_years_1 ?_
  refine v_ifnull C 41 dX0_years_4 (by decide) (fun c1 => ?_) (fun c1 => ?_)
  · have F := F.1 c1
    refine v_iconst C dX0_years_41 ?_
    exact v_iret C (Nat.le_refl _) (Nat.le_refl _) dX0_years_42 ⟨B, ⟨by decide, by decide⟩, F⟩
  · have F := F.2 c1
    refine v_iload_n C 1 rfl rfl dX0_years_7 ?_
    refine v_i2l C R1 dX0_years_8 ?_
    refine v_lconst C (x := 1) rfl dX0_years_9 ?_
    refine v_ldc2 C (x := 10) q1168 dX0_years_10 ?_
    refine mX0_193 C (d2 := 0) (kc2 := 0) (ks2 := 0) (by decide) (Nat.le_refl _) (Nat.le_refl _) (Nat.le_of_ble_eq_true rfl) dX0_years_13 (Ct.mono (F (R32.l R1) ⟨by decide, by decide⟩ ⟨by decide, by decide⟩) ?_)
    rintro r2 h3 ⟨e4, g5, F⟩
    have F := F e4
    have B6 := B.tr e4
    have E7 := E.tr e4
    refine v_if_eq C 41 (bR g5) dX0_years_16 (by decide) (fun c8 => ?_) (fun c8 => ?_)
    · have F := F.1 (c8)
      refine v_iconst C dX0_years_41 ?_
      exact v_iret C (Nat.le_refl _) (Nat.le_refl _) dX0_years_42 ⟨B6, ⟨by decide, by decide⟩, F⟩
    · have F := F.2 (c8)
      refine v_iload_n C 2 rfl rfl dX0_years_19 ?_
      refine v_i2l C R2 dX0_years_20 ?_
      refine v_lconst C (x := 1) rfl dX0_years_21 ?_
      refine v_ldc2 C (x := 100) q1049 dX0_years_22 ?_
      refine mX0_193 C (d2 := 0) (kc2 := 0) (ks2 := 0) (by decide) (Nat.le_refl _) (Nat.le_refl _) (Nat.le_of_ble_eq_true rfl) dX0_years_25 (Ct.mono (F (R32.l R2) ⟨by decide, by decide⟩ ⟨by decide, by decide⟩) ?_)
      rintro r9 h10 ⟨e11, g12, F⟩
      have F := F e11
      have B13 := B6.tr e11
      have E14 := E7.tr e11
      refine v_if_eq C 41 (bR g12) dX0_years_28 (by decide) (fun c15 => ?_) (fun c15 => ?_)
      · have F := F.1 (c15)
        refine v_iconst C dX0_years_41 ?_
        exact v_iret C (Nat.le_refl _) (Nat.le_refl _) dX0_years_42 ⟨B13, ⟨by decide, by decide⟩, F⟩
      · have F := F.2 (c15)
        refine v_iload_n C 3 rfl rfl dX0_years_31 ?_
        refine v_i2l C R3 dX0_years_32 ?_
        refine v_lconst C (x := 0) rfl dX0_years_33 ?_
        refine v_lconst C (x := 1) rfl dX0_years_34 ?_
        refine mX0_193 C (d2 := 0) (kc2 := 0) (ks2 := 0) (by decide) (Nat.le_refl _) (Nat.le_refl _) (Nat.le_of_ble_eq_true rfl) dX0_years_35 (Ct.mono (F (R32.l R3) ⟨by decide, by decide⟩ ⟨by decide, by decide⟩) ?_)
        rintro r16 h17 ⟨e18, g19, F⟩
        have F := F e18
        have B20 := B13.tr e18
        have E21 := E14.tr e18
        refine v_if_ne C 43 (bR g19) dX0_years_38 (by decide) (fun c22 => ?_) (fun c22 => ?_)
        · have F := F.1 (c22)
          refine v_aload_n C 0 rfl rfl dX0_years_43 ?_
          refine v_aload_n C 0 rfl rfl dX0_years_44 ?_
          refine gX0_373 C (SX.ext E21.1).k1 rfl dX0_years_45 ?_
          refine pX0_376 C (SX.ext E21.1).k1 (okI_i rfl (EX.rI B20 (j := 7) (SX.ext E21.1).k1 rfl)) dX0_years_48 ?_
          obtain ⟨h23, eh23⟩ : ∃ m : Mem, m = up h17 1 23 (h17 1 7) := ⟨_, rfl⟩
          have B24 : EX h0 h23 := by rw [eh23]; exact EX_up B20 (SX.ext E21.1).k1 (by decide) rfl (by decide) (okI_i rfl (EX.rI B20 (j := 7) (SX.ext E21.1).k1 rfl))
          have E25 : EX h h23 := by rw [eh23]; exact EX_up E21 (SX.ext E21.1).k1 (by decide) rfl (by decide) (okI_i rfl (EX.rI B20 (j := 7) (SX.ext E21.1).k1 rfl))
          refine v_mem eh23 ?_
          have F := F h23 eh23
          refine v_iconst C dX0_years_51 ?_
          refine v_istore C (by decide) dX0_years_52 (lv2 := [(4, iv 0), (0, rf 1), (1, iv x1), (2, iv x2), (3, iv x3)]) rfl ?_
          refine v_iconst C dX0_years_54 ?_
          refine v_istore C (by decide) dX0_years_55 (lv2 := [(5, iv 0), (4, iv 0), (0, rf 1), (1, iv x1), (2, iv x2), (3, iv x3)]) rfl ?_
          refine v_iconst C dX0_years_57 ?_
          refine v_istore C (by decide) dX0_years_58 (lv2 := [(6, iv 0), (5, iv 0), (4, iv 0), (0, rf 1), (1, iv x1), (2, iv x2), (3, iv x3)]) rfl ?_
          refine v_sub (lv2 := [(0, rf 1), (1, iv x1), (2, iv x2), (3, iv x3), (4, iv 0), (5, iv 0), (6, iv 0)]) [3, 4, 5, 6, 2, 1, 0] rfl ?_
          exact F ⟨B24, R1, R2, R3, ⟨by decide, by decide⟩⟩
        · have F := F.2 (c22)
          refine v_iconst C dX0_years_41 ?_
          exact v_iret C (Nat.le_refl _) (Nat.le_refl _) dX0_years_42 ⟨B20, ⟨by decide, by decide⟩, F⟩
set_option maxHeartbeats 4000000 in
theorem wX0_years_L60 {G : GT} {X : MX} {h0 h : Mem} {P : Int → Mem → Prop} {x1 x2 x3 x6 : Int} (C : Cx G X cX0_years 9 RX0 5 0 0 (some .int) "years") (B0 : EX h0 h ∧ R32 x1 ∧ R32 x2 ∧ R32 x3 ∧ R32 x6)
    (F : XS h ∧ ((x6 ≥ 4 → h 1 0 = 2 ∧ kX1_copies G X.2.1 20 2 h (fun r3 h4 => EX h h4 → r3 = 20 ∧ (EX h0 h4 ∧ R32 x1 ∧ R32 x2 ∧ R32 x3 ∧ R32 0 ∧ R32 0 → V G X 9 0 0 (QF G X 0 0 0 (PI h0 P)) 96 [(0, rf 1), (1, iv x1), (2, iv x2), (3, iv x3), (4, iv 0), (5, iv 0), (6, rf 20), (7, iv 0)] [] h4))) ∧ (x6 < 4 → 0 ≤ x6 ∧ x6 < 4 ∧ ∀ h11 : Mem, h11 = up h 165 x6 0 → R32 (x6 + 1) ∧ (EX h0 h11 ∧ R32 x1 ∧ R32 x2 ∧ R32 x3 ∧ R32 (x6 + 1) → V G X 9 0 0 (QF G X 0 0 0 (PI h0 P)) 60 [(0, rf 1), (1, iv x1), (2, iv x2), (3, iv x3), (4, iv 0), (5, iv 0), (6, iv (x6 + 1))] [] h11)))) :
    V G X 9 0 0 (QF G X 0 0 0 (PI h0 P)) 60 [(0, rf 1), (1, iv x1), (2, iv x2), (3, iv x3), (4, iv 0), (5, iv 0), (6, iv x6)] [] h := by
  obtain ⟨B, R1, R2, R3, R6⟩ := B0
  have E : EX h h := EX.rf B.2
  obtain ⟨SX, F⟩ := F
  refine v_iload C 6 rfl dX0_years_60 ?_
  refine v_iconst C dX0_years_62 ?_
  refine v_icmp_ge C 80 R6 ⟨by decide, by decide⟩ dX0_years_63 (by decide) (fun c1 => ?_) (fun c1 => ?_)
  · have F := F.1 (c1)
    refine v_aload_n C 0 rfl rfl dX0_years_80 ?_
    refine gX0_18 C (SX.ext E.1).k1 (SX.ext E.1).f2 dX0_years_81 ?_
    refine v_aload_n C 0 rfl rfl dX0_years_84 ?_
    obtain ⟨o2, F⟩ := F
    refine gX0_149 C (SX.ext E.1).k1 o2 dX0_years_85 ?_
    refine mX0_145 C ((SX.ext E.1).t20).k (d2 := 2) (kc2 := 0) (ks2 := 0) (by decide) (Nat.le_refl _) (Nat.le_refl _) (Nat.le_of_ble_eq_true rfl) dX0_years_88 (Ct.mono (F) ?_)
    rintro r3 h4 ⟨e5, F⟩
    replace F := F e5
    have B7 := B.tr e5
    have E8 := E.tr e5
    obtain ⟨r3q, F⟩ := F
    subst r3q
    refine v_astore C (by decide) dX0_years_91 (lv2 := [(6, rf 20), (0, rf 1), (1, iv x1), (2, iv x2), (3, iv x3), (4, iv 0), (5, iv 0)]) rfl ?_
    refine v_iconst C dX0_years_93 ?_
    refine v_istore C (by decide) dX0_years_94 (lv2 := [(7, iv 0), (6, rf 20), (0, rf 1), (1, iv x1), (2, iv x2), (3, iv x3), (4, iv 0), (5, iv 0)]) rfl ?_
    refine v_sub (lv2 := [(0, rf 1), (1, iv x1), (2, iv x2), (3, iv x3), (4, iv 0), (5, iv 0), (6, rf 20), (7, iv 0)]) [2, 3, 4, 5, 6, 7, 1, 0] rfl ?_
    exact F ⟨B7, R1, R2, R3, ⟨by decide, by decide⟩, ⟨by decide, by decide⟩⟩
  · have F := F.2 (c1)
    refine v_aload_n C 0 rfl rfl dX0_years_66 ?_
    refine gX0_31 C (SX.ext E.1).k1 (SX.ext E.1).f6 dX0_years_67 ?_
    refine v_iload C 6 rfl dX0_years_70 ?_
    refine v_iconst C dX0_years_72 ?_
    obtain ⟨o9, F⟩ := F
    obtain ⟨o10, F⟩ := F
    refine v_iast C (SX.ext E.1).k165 o9 (by rw [(SX.ext E.1).l165]; exact o10) ⟨by decide, by decide⟩ dX0_years_73 ?_
    obtain ⟨h11, eh11⟩ : ∃ m : Mem, m = up h 165 x6 0 := ⟨_, rfl⟩
    have B12 : EX h0 h11 := by rw [eh11]; exact EX_up B (SX.ext E.1).k165 (by decide) rfl o9 (okI_a (Or.inl rfl) ⟨by decide, by decide⟩)
    have E13 : EX h h11 := by rw [eh11]; exact EX_up E (SX.ext E.1).k165 (by decide) rfl o9 (okI_a (Or.inl rfl) ⟨by decide, by decide⟩)
    refine v_mem eh11 ?_
    have F := F h11 eh11
    obtain ⟨o14, F⟩ := F
    refine v_iinc C 6 rfl (by decide) dX0_years_74 (lv2 := [(6, iv (x6 + 1)), (0, rf 1), (1, iv x1), (2, iv x2), (3, iv x3), (4, iv 0), (5, iv 0)]) rfl ?_
    refine v_goto C 60 dX0_years_77 (by decide) ?_
    refine v_sub (lv2 := [(0, rf 1), (1, iv x1), (2, iv x2), (3, iv x3), (4, iv 0), (5, iv 0), (6, iv (x6 + 1))]) [1, 2, 3, 4, 5, 6, 0] rfl ?_
    exact F ⟨B12, R1, R2, R3, o14⟩
set_option maxHeartbeats 4000000 in
theorem wX0_years_L96 {G : GT} {X : MX} {h0 h : Mem} {P : Int → Mem → Prop} {x1 x2 x3 x4 x7 : Int} (C : Cx G X cX0_years 9 RX0 5 0 0 (some .int) "years") (B0 : EX h0 h ∧ R32 x1 ∧ R32 x2 ∧ R32 x3 ∧ R32 x4 ∧ R32 x7)
    (F : XS h ∧ ((x7 ≥ x1 → (EX h0 h ∧ R32 x3 ∧ R32 x4 ∧ R32 0 ∧ R32 0 → V G X 9 0 0 (QF G X 0 0 0 (PI h0 P)) 164 [(0, rf 1), (3, iv x3), (4, iv x4), (5, iv 0), (7, iv 0)] [] h)) ∧ (x7 < x1 → h 1 0 = 2 ∧ kX1_standsAs G X.2.1 20 2 h (fun r3 h4 => EX h h4 → r3 = 20 ∧ (EX h0 h4 ∧ R32 x1 ∧ R32 x2 ∧ R32 x3 ∧ R32 x4 ∧ R32 x7 ∧ R32 0 → V G X 9 0 0 (QF G X 0 0 0 (PI h0 P)) 115 [(0, rf 1), (1, iv x1), (2, iv x2), (3, iv x3), (4, iv x4), (5, iv 0), (6, rf 20), (7, iv x7), (8, iv 0)] [] h4))))) :
    V G X 9 0 0 (QF G X 0 0 0 (PI h0 P)) 96 [(0, rf 1), (1, iv x1), (2, iv x2), (3, iv x3), (4, iv x4), (5, iv 0), (6, rf 20), (7, iv x7)] [] h := by
  obtain ⟨B, R1, R2, R3, R4, R7⟩ := B0
  have E : EX h h := EX.rf B.2
  obtain ⟨SX, F⟩ := F
  refine v_iload C 7 rfl dX0_years_96 ?_
  refine v_iload_n C 1 rfl rfl dX0_years_98 ?_
  refine v_icmp_ge C 161 R7 R1 dX0_years_99 (by decide) (fun c1 => ?_) (fun c1 => ?_)
  · have F := F.1 (c1)
    refine v_iconst C dX0_years_161 ?_
    refine v_istore C (by decide) dX0_years_162 (lv2 := [(7, iv 0), (0, rf 1), (1, iv x1), (2, iv x2), (3, iv x3), (4, iv x4), (5, iv 0), (6, rf 20)]) rfl ?_
    refine v_sub (lv2 := [(0, rf 1), (3, iv x3), (4, iv x4), (5, iv 0), (7, iv 0)]) [1, 4, 5, 6, 0] rfl ?_
    exact F ⟨B, R3, R4, ⟨by decide, by decide⟩, ⟨by decide, by decide⟩⟩
  · have F := F.2 (c1)
    refine v_aload C 6 rfl dX0_years_102 ?_
    refine v_aload_n C 0 rfl rfl dX0_years_104 ?_
    obtain ⟨o2, F⟩ := F
    refine gX0_149 C (SX.ext E.1).k1 o2 dX0_years_105 ?_
    refine mX0_294 C ((SX.ext E.1).t20).k (d2 := 1) (kc2 := 0) (ks2 := 0) (by decide) (Nat.le_refl _) (Nat.le_refl _) (Nat.le_of_ble_eq_true rfl) dX0_years_108 (Ct.mono (F) ?_)
    rintro r3 h4 ⟨e5, F⟩
    replace F := F e5
    have B7 := B.tr e5
    have E8 := E.tr e5
    obtain ⟨r3q, F⟩ := F
    subst r3q
    refine v_pop C (rf_n1 _) dX0_years_111 ?_
    refine v_iconst C dX0_years_112 ?_
    refine v_istore C (by decide) dX0_years_113 (lv2 := [(8, iv 0), (0, rf 1), (1, iv x1), (2, iv x2), (3, iv x3), (4, iv x4), (5, iv 0), (6, rf 20), (7, iv x7)]) rfl ?_
    refine v_sub (lv2 := [(0, rf 1), (1, iv x1), (2, iv x2), (3, iv x3), (4, iv x4), (5, iv 0), (6, rf 20), (7, iv x7), (8, iv 0)]) [1, 2, 3, 4, 5, 6, 7, 8, 0] rfl ?_
    exact F ⟨B7, R1, R2, R3, R4, R7, ⟨by decide, by decide⟩⟩
set_option maxHeartbeats 4000000 in
theorem wX0_years_L164 {G : GT} {X : MX} {h0 h : Mem} {P : Int → Mem → Prop} {x3 x4 x5 x7 : Int} (C : Cx G X cX0_years 9 RX0 5 0 0 (some .int) "years") (B0 : EX h0 h ∧ R32 x3 ∧ R32 x4 ∧ R32 x5 ∧ R32 x7)
    (F : XS h ∧ ((x7 ≥ 4 → ((x3 ≠ 0 → P x5 h) ∧ (x3 = 0 → P x4 h))) ∧ (x7 < 4 → 0 ≤ x7 ∧ x7 < 4 ∧ ∀ y5 : Int, y5 = w32 (x5 + h 165 x7) → R32 (x7 + 1) ∧ (EX h0 h ∧ R32 x3 ∧ R32 x4 ∧ R32 y5 ∧ R32 (x7 + 1) → V G X 9 0 0 (QF G X 0 0 0 (PI h0 P)) 164 [(0, rf 1), (3, iv x3), (4, iv x4), (5, iv y5), (7, iv (x7 + 1))] [] h)))) :
    V G X 9 0 0 (QF G X 0 0 0 (PI h0 P)) 164 [(0, rf 1), (3, iv x3), (4, iv x4), (5, iv x5), (7, iv x7)] [] h := by
  obtain ⟨B, R3, R4, R5, R7⟩ := B0
  have E : EX h h := EX.rf B.2
  obtain ⟨SX, F⟩ := F
  refine v_iload C 4 rfl dX0_years_164 ?_
  refine v_iconst C dX0_years_166 ?_
  refine v_icmp_ge C 188 R7 ⟨by decide, by decide⟩ dX0_years_167 (by decide) (fun c1 => ?_) (fun c1 => ?_)
  · have F := F.1 (c1)
    refine v_iload_n C 1 rfl rfl dX0_years_188 ?_
    refine v_if_ne C 197 R3 dX0_years_189 (by decide) (fun c2 => ?_) (fun c2 => ?_)
    · have F := F.1 (c2)
      refine v_iload C 3 rfl dX0_years_197 ?_
      exact v_iret C (Nat.le_refl _) (Nat.le_refl _) dX0_years_199 ⟨B, R5, F⟩
    · have F := F.2 (c2)
      refine v_iload C 2 rfl dX0_years_192 ?_
      refine v_goto C 199 dX0_years_194 (by decide) ?_
      exact v_iret C (Nat.le_refl _) (Nat.le_refl _) dX0_years_199 ⟨B, R4, F⟩
  · have F := F.2 (c1)
    refine v_iload C 3 rfl dX0_years_170 ?_
    refine v_aload_n C 0 rfl rfl dX0_years_172 ?_
    refine gX0_31 C (SX.ext E.1).k1 (SX.ext E.1).f6 dX0_years_173 ?_
    refine v_iload C 4 rfl dX0_years_176 ?_
    obtain ⟨o3, F⟩ := F
    obtain ⟨o4, F⟩ := F
    refine v_iald C (SX.ext E.1).k165 o3 (by rw [(SX.ext E.1).l165]; exact o4) rfl dX0_years_178 ?_
    refine v_iadd C dX0_years_179 ?_
    refine v_w32 ?_
    obtain ⟨y5, ey5⟩ : ∃ z : Int, z = w32 (x5 + h 165 x7) := ⟨_, rfl⟩
    have F := F y5 ey5
    have Ry5 : R32 y5 := by rw [ey5]; exact (w32_R _)
    refine v_istore C (by decide) dX0_years_180 (lv2 := [(5, iv y5), (0, rf 1), (3, iv x3), (4, iv x4), (7, iv x7)]) (by rw [ey5]; rfl) ?_
    obtain ⟨o6, F⟩ := F
    refine v_iinc C 4 rfl (by decide) dX0_years_182 (lv2 := [(7, iv (x7 + 1)), (5, iv y5), (0, rf 1), (3, iv x3), (4, iv x4)]) rfl ?_
    refine v_goto C 164 dX0_years_185 (by decide) ?_
    refine v_sub (lv2 := [(0, rf 1), (3, iv x3), (4, iv x4), (5, iv y5), (7, iv (x7 + 1))]) [2, 3, 4, 1, 0] rfl ?_
    exact F ⟨B, R3, R4, Ry5, o6⟩
set_option maxHeartbeats 4000000 in
theorem wX0_years_L115 {G : GT} {X : MX} {h0 h : Mem} {P : Int → Mem → Prop} {x1 x2 x3 x4 x7 x8 : Int} (C : Cx G X cX0_years 9 RX0 5 0 0 (some .int) "years") (B0 : EX h0 h ∧ R32 x1 ∧ R32 x2 ∧ R32 x3 ∧ R32 x4 ∧ R32 x7 ∧ R32 x8)
    (F : XS h ∧ ((x8 ≥ x2 → R32 (x7 + 1) ∧ (EX h0 h ∧ R32 x1 ∧ R32 x2 ∧ R32 x3 ∧ R32 x4 ∧ R32 (x7 + 1) → V G X 9 0 0 (QF G X 0 0 0 (PI h0 P)) 96 [(0, rf 1), (1, iv x1), (2, iv x2), (3, iv x3), (4, iv x4), (5, iv 0), (6, rf 20), (7, iv (x7 + 1))] [] h)) ∧ (x8 < x2 → kX0_paintsDrawn G X.2.1 20 h (fun r3 h4 => EX h h4 → ((r3 = 0 → R32 (x4 + 0) ∧ ∀ y11 : Int, y11 = x4 + 0 → kX1_closes G X.2.1 20 165 h4 (fun _ h13 => EX h4 h13 → R32 (x8 + 1) ∧ (EX h0 h13 ∧ R32 x1 ∧ R32 x2 ∧ R32 x3 ∧ R32 y11 ∧ R32 x7 ∧ R32 (x8 + 1) → V G X 9 0 0 (QF G X 0 0 0 (PI h0 P)) 115 [(0, rf 1), (1, iv x1), (2, iv x2), (3, iv x3), (4, iv y11), (5, iv 0), (6, rf 20), (7, iv x7), (8, iv (x8 + 1))] [] h13))) ∧ (r3 ≠ 0 → R32 (x4 + 1) ∧ ∀ y20 : Int, y20 = x4 + 1 → kX1_closes G X.2.1 20 165 h4 (fun _ h22 => EX h4 h22 → R32 (x8 + 1) ∧ (EX h0 h22 ∧ R32 x1 ∧ R32 x2 ∧ R32 x3 ∧ R32 y20 ∧ R32 x7 ∧ R32 (x8 + 1) → V G X 9 0 0 (QF G X 0 0 0 (PI h0 P)) 115 [(0, rf 1), (1, iv x1), (2, iv x2), (3, iv x3), (4, iv y20), (5, iv 0), (6, rf 20), (7, iv x7), (8, iv (x8 + 1))] [] h22)))))))) :
    V G X 9 0 0 (QF G X 0 0 0 (PI h0 P)) 115 [(0, rf 1), (1, iv x1), (2, iv x2), (3, iv x3), (4, iv x4), (5, iv 0), (6, rf 20), (7, iv x7), (8, iv x8)] [] h := by
  obtain ⟨B, R1, R2, R3, R4, R7, R8⟩ := B0
  have E : EX h h := EX.rf B.2
  obtain ⟨SX, F⟩ := F
  refine v_iload C 8 rfl dX0_years_115 ?_
  refine v_iload_n C 2 rfl rfl dX0_years_117 ?_
  refine v_icmp_ge C 155 R8 R2 dX0_years_118 (by decide) (fun c1 => ?_) (fun c1 => ?_)
  · have F := F.1 (c1)
    obtain ⟨o2, F⟩ := F
    refine v_iinc C 7 rfl (by decide) dX0_years_155 (lv2 := [(7, iv (x7 + 1)), (0, rf 1), (1, iv x1), (2, iv x2), (3, iv x3), (4, iv x4), (5, iv 0), (6, rf 20), (8, iv x8)]) rfl ?_
    refine v_goto C 96 dX0_years_158 (by decide) ?_
    refine v_sub (lv2 := [(0, rf 1), (1, iv x1), (2, iv x2), (3, iv x3), (4, iv x4), (5, iv 0), (6, rf 20), (7, iv (x7 + 1))]) [1, 2, 3, 4, 5, 6, 7, 0] rfl ?_
    exact F ⟨B, R1, R2, R3, R4, o2⟩
  · have F := F.2 (c1)
    refine v_iload C 4 rfl dX0_years_121 ?_
    refine v_aload_n C 0 rfl rfl dX0_years_123 ?_
    refine v_aload C 6 rfl dX0_years_124 ?_
    refine mX0_391 C (SX.ext E.1).k1 (d2 := 3) (kc2 := 0) (ks2 := 0) (by decide) (Nat.le_refl _) (Nat.le_refl _) (Nat.le_of_ble_eq_true rfl) dX0_years_126 (Ct.mono (F) ?_)
    rintro r3 h4 ⟨e5, g6, F⟩
    have F := F e5
    have B7 := B.tr e5
    have E8 := E.tr e5
    refine v_if_eq C 136 (bR g6) dX0_years_129 (by decide) (fun c9 => ?_) (fun c9 => ?_)
    · have F := F.1 (c9)
      refine v_iconst C dX0_years_136 ?_
      refine v_iadd C dX0_years_137 ?_
      obtain ⟨o10, F⟩ := F
      obtain ⟨y11, ey11⟩ : ∃ z : Int, z = x4 + 0 := ⟨_, rfl⟩
      have F := F y11 ey11
      have Ry11 : R32 y11 := by rw [ey11]; exact o10
      refine v_istore C (by decide) dX0_years_138 (lv2 := [(4, iv y11), (0, rf 1), (1, iv x1), (2, iv x2), (3, iv x3), (5, iv 0), (6, rf 20), (7, iv x7), (8, iv x8)]) (by rw [ey11]; rfl) ?_
      refine v_aload C 6 rfl dX0_years_140 ?_
      refine v_aload_n C 1 rfl rfl dX0_years_142 ?_
      refine gX0_31 C (SX.ext E8.1).k1 (SX.ext E8.1).f6 dX0_years_143 ?_
      refine mX0_297 C ((SX.ext E8.1).t20).k (d2 := 4) (kc2 := 0) (ks2 := 0) (by decide) (Nat.le_refl _) (Nat.le_refl _) (Nat.le_of_ble_eq_true rfl) dX0_years_146 (Ct.mono (F) ?_)
      rintro r12 h13 ⟨e14, F⟩
      have F := F e14
      have B16 := B7.tr e14
      have E17 := E8.tr e14
      obtain ⟨o18, F⟩ := F
      refine v_iinc C 8 rfl (by decide) dX0_years_149 (lv2 := [(8, iv (x8 + 1)), (4, iv y11), (0, rf 1), (1, iv x1), (2, iv x2), (3, iv x3), (5, iv 0), (6, rf 20), (7, iv x7)]) rfl ?_
      refine v_goto C 115 dX0_years_152 (by decide) ?_
      refine v_sub (lv2 := [(0, rf 1), (1, iv x1), (2, iv x2), (3, iv x3), (4, iv y11), (5, iv 0), (6, rf 20), (7, iv x7), (8, iv (x8 + 1))]) [2, 3, 4, 5, 1, 6, 7, 8, 0] rfl ?_
      exact F ⟨B16, R1, R2, R3, Ry11, R7, o18⟩
    · have F := F.2 (c9)
      refine v_iconst C dX0_years_132 ?_
      refine v_goto C 137 dX0_years_133 (by decide) ?_
      refine v_iadd C dX0_years_137 ?_
      obtain ⟨o19, F⟩ := F
      obtain ⟨y20, ey20⟩ : ∃ z : Int, z = x4 + 1 := ⟨_, rfl⟩
      have F := F y20 ey20
      have Ry20 : R32 y20 := by rw [ey20]; exact o19
      refine v_istore C (by decide) dX0_years_138 (lv2 := [(4, iv y20), (0, rf 1), (1, iv x1), (2, iv x2), (3, iv x3), (5, iv 0), (6, rf 20), (7, iv x7), (8, iv x8)]) (by rw [ey20]; rfl) ?_
      refine v_aload C 6 rfl dX0_years_140 ?_
      refine v_aload_n C 1 rfl rfl dX0_years_142 ?_
      refine gX0_31 C (SX.ext E8.1).k1 (SX.ext E8.1).f6 dX0_years_143 ?_
      refine mX0_297 C ((SX.ext E8.1).t20).k (d2 := 4) (kc2 := 0) (ks2 := 0) (by decide) (Nat.le_refl _) (Nat.le_refl _) (Nat.le_of_ble_eq_true rfl) dX0_years_146 (Ct.mono (F) ?_)
      rintro r21 h22 ⟨e23, F⟩
      have F := F e23
      have B25 := B7.tr e23
      have E26 := E8.tr e23
      obtain ⟨o27, F⟩ := F
      refine v_iinc C 8 rfl (by decide) dX0_years_149 (lv2 := [(8, iv (x8 + 1)), (4, iv y20), (0, rf 1), (1, iv x1), (2, iv x2), (3, iv x3), (5, iv 0), (6, rf 20), (7, iv x7)]) rfl ?_
      refine v_goto C 115 dX0_years_152 (by decide) ?_
      refine v_sub (lv2 := [(0, rf 1), (1, iv x1), (2, iv x2), (3, iv x3), (4, iv y20), (5, iv 0), (6, rf 20), (7, iv x7), (8, iv (x8 + 1))]) [2, 3, 4, 5, 1, 6, 7, 8, 0] rfl ?_
      exact F ⟨B25, R1, R2, R3, Ry20, R7, o27⟩
set_option maxHeartbeats 1000000 in
theorem eX0_years {G : GT} {l : Launch} {x1 x2 x3 : Int} {h : Mem} {P : Int → Mem → Prop} (F : ∀ X : MX, Cx G X cX0_years 9 RX0 5 0 0 (some .int) "years" → X.2.1 = l → (EX h h ∧ R32 x1 ∧ R32 x2 ∧ R32 x3) →
    XS h ∧ ((h 1 0 = 0 → P (-1) h) ∧ (h 1 0 ≠ 0 → kX0_in G X.2.1 x1 1 10 h (fun r2 h3 => EX h h3 → ((r2 = 0 → P (-1) h3) ∧ (r2 ≠ 0 → kX0_in G X.2.1 x2 1 100 h3 (fun r9 h10 => EX h3 h10 → ((r9 = 0 → P (-1) h10) ∧ (r9 ≠ 0 → kX0_in G X.2.1 x3 0 1 h10 (fun r16 h17 => EX h10 h17 → ((r16 ≠ 0 → ∀ h23 : Mem, h23 = up h17 1 23 (h17 1 7) → (EX h h23 ∧ R32 x1 ∧ R32 x2 ∧ R32 x3 ∧ R32 0 → V G X 9 0 0 (QF G X 0 0 0 (PI h P)) 60 [(0, rf 1), (1, iv x1), (2, iv x2), (3, iv x3), (4, iv 0), (5, iv 0), (6, iv 0)] [] h23)) ∧ (r16 = 0 → P (-1) h17)))))))))))) :
    kX0_years G l x1 x2 x3 h P := by
  intro R1 R2 R3
  refine ct_of (by decide +kernel) (Nat.le_of_ble_eq_true rfl) fun X C e => ?_
  refine v_okz fun O => ?_
  exact wX0_years_0 C ⟨EX.rf O, R1, R2, R3⟩ (F X C e ⟨EX.rf O, R1, R2, R3⟩)
def kX0_least (G : GT) (l : Launch) (x1 x2 x3 x4 : Int) (h : Mem) (P : Int → Mem → Prop) : Prop := R32 x1 → R32 x2 → R32 x3 → R32 x4 → Ct G l yX0_least cX0_least 7 (some .int) 0 6 0 0 [rf 1, iv x1, iv x2, iv x3, iv x4] h (PI h P)
set_option maxHeartbeats 4000000 in
theorem wX0_least_0 {G : GT} {X : MX} {h0 h : Mem} {P : Int → Mem → Prop} {x1 x2 x3 x4 : Int} (C : Cx G X cX0_least 7 RX0 6 0 0 (some .int) "least") (B0 : EX h0 h ∧ R32 x1 ∧ R32 x2 ∧ R32 x3 ∧ R32 x4)
    (F : XS h ∧ kX0_isPainter G X.2.1 x1 h (fun r1 h2 => EX h h2 → ((r1 = 0 → P (-1) h2) ∧ (r1 ≠ 0 → kX0_isThing G X.2.1 x2 h2 (fun r8 h9 => EX h2 h9 → ((r8 = 0 → P (-1) h9) ∧ (r8 ≠ 0 → h9 1 0 = 2 ∧ kX0_has G X.2.1 (h9 2 12) x2 h9 (fun r16 h17 => EX h9 h17 → ((r16 ≠ 0 → P (-1) h17) ∧ (r16 = 0 → kX0_in G X.2.1 x3 0 60 h17 (fun r23 h24 => EX h17 h24 → ((r23 = 0 → P (-1) h24) ∧ (r23 ≠ 0 → kX0_in G X.2.1 x4 0 1 h24 (fun r30 h31 => EX h24 h31 → ((r30 ≠ 0 → h31 1 0 = 2 ∧ kX1_copies G X.2.1 20 2 h31 (fun r38 h39 => EX h31 h39 → r38 = 20 ∧ (EX h0 h39 ∧ R32 x1 ∧ R32 x2 ∧ R32 x3 ∧ R32 x4 ∧ R32 (-1) ∧ R32 0 → V G X 7 0 0 (QF G X 0 0 0 (PI h0 P)) 73 [(0, rf 1), (1, iv x1), (2, iv x2), (3, iv x3), (4, iv x4), (5, iv (-1)), (6, iv 0)] [] h39))) ∧ (r30 = 0 → P (-1) h31)))))))))))))))) :
    V G X 7 0 0 (QF G X 0 0 0 (PI h0 P)) 0 [(0, rf 1), (1, iv x1), (2, iv x2), (3, iv x3), (4, iv x4)] [] h := by
  obtain ⟨B, R1, R2, R3, R4⟩ := B0
  have E : EX h h := EX.rf B.2
  obtain ⟨SX, F⟩ := F
  refine v_aload_n C 0 rfl rfl dX0_least_0 ?_
  refine v_iload_n C 1 rfl rfl dX0_least_1 ?_
  refine mX0_231 C (SX.ext E.1).k1 (d2 := 0) (kc2 := 0) (ks2 := 0) (by decide) (Nat.le_refl _) (Nat.le_refl _) (Nat.le_of_ble_eq_true rfl) dX0_least_2 (Ct.mono (F R1) ?_)
  rintro r1 h2 ⟨e3, g4, F⟩
  have F := F e3
  have B5 := B.tr e3
  have E6 := E.tr e3
  refine v_if_eq C 53 (bR g4) dX0_least_5 (by decide) (fun c7 => ?_) (fun c7 => ?_)
  · have F := F.1 (c7)
    refine v_iconst C dX0_least_53 ?_
    exact v_iret C (Nat.le_refl _) (Nat.le_refl _) dX0_least_54 ⟨B5, ⟨by decide, by decide⟩, F⟩
  · have F := F.2 (c7)
    refine v_aload_n C 0 rfl rfl dX0_least_8 ?_
    refine v_iload_n C 2 rfl rfl dX0_least_9 ?_
    refine mX0_212 C (SX.ext E6.1).k1 (d2 := 0) (kc2 := 0) (ks2 := 0) (by decide) (Nat.le_refl _) (Nat.le_refl _) (Nat.le_of_ble_eq_true rfl) dX0_least_10 (Ct.mono (F R2) ?_)
    rintro r8 h9 ⟨e10, g11, F⟩
    have F := F e10
    have B12 := B5.tr e10
    have E13 := E6.tr e10
    refine v_if_eq C 53 (bR g11) dX0_least_13 (by decide) (fun c14 => ?_) (fun c14 => ?_)
    · have F := F.1 (c14)
      refine v_iconst C dX0_least_53 ?_
      exact v_iret C (Nat.le_refl _) (Nat.le_refl _) dX0_least_54 ⟨B12, ⟨by decide, by decide⟩, F⟩
    · have F := F.2 (c14)
      refine v_aload_n C 0 rfl rfl dX0_least_16 ?_
      obtain ⟨o15, F⟩ := F
      refine gX0_149 C (SX.ext E13.1).k1 o15 dX0_least_17 ?_
      refine gX0_225 C ((SX.ext E13.1).t2).k rfl dX0_least_20 ?_
      refine v_iload_n C 2 rfl rfl dX0_least_23 ?_
      refine mX0_227 C (d2 := 0) (kc2 := 0) (ks2 := 0) (by decide) (Nat.le_refl _) (Nat.le_refl _) (Nat.le_of_ble_eq_true rfl) dX0_least_24 (Ct.mono (F (EX.rI B12 (j := 12) ((SX.ext E13.1).t2).k rfl) R2) ?_)
      rintro r16 h17 ⟨e18, g19, F⟩
      have F := F e18
      have B20 := B12.tr e18
      have E21 := E13.tr e18
      refine v_if_ne C 53 (bR g19) dX0_least_27 (by decide) (fun c22 => ?_) (fun c22 => ?_)
      · have F := F.1 (c22)
        refine v_iconst C dX0_least_53 ?_
        exact v_iret C (Nat.le_refl _) (Nat.le_refl _) dX0_least_54 ⟨B20, ⟨by decide, by decide⟩, F⟩
      · have F := F.2 (c22)
        refine v_iload_n C 3 rfl rfl dX0_least_30 ?_
        refine v_i2l C R3 dX0_least_31 ?_
        refine v_lconst C (x := 0) rfl dX0_least_32 ?_
        refine v_ldc2 C (x := 60) q1069 dX0_least_33 ?_
        refine mX0_193 C (d2 := 0) (kc2 := 0) (ks2 := 0) (by decide) (Nat.le_refl _) (Nat.le_refl _) (Nat.le_of_ble_eq_true rfl) dX0_least_36 (Ct.mono (F (R32.l R3) ⟨by decide, by decide⟩ ⟨by decide, by decide⟩) ?_)
        rintro r23 h24 ⟨e25, g26, F⟩
        have F := F e25
        have B27 := B20.tr e25
        have E28 := E21.tr e25
        refine v_if_eq C 53 (bR g26) dX0_least_39 (by decide) (fun c29 => ?_) (fun c29 => ?_)
        · have F := F.1 (c29)
          refine v_iconst C dX0_least_53 ?_
          exact v_iret C (Nat.le_refl _) (Nat.le_refl _) dX0_least_54 ⟨B27, ⟨by decide, by decide⟩, F⟩
        · have F := F.2 (c29)
          refine v_iload C 4 rfl dX0_least_42 ?_
          refine v_i2l C R4 dX0_least_44 ?_
          refine v_lconst C (x := 0) rfl dX0_least_45 ?_
          refine v_lconst C (x := 1) rfl dX0_least_46 ?_
          refine mX0_193 C (d2 := 0) (kc2 := 0) (ks2 := 0) (by decide) (Nat.le_refl _) (Nat.le_refl _) (Nat.le_of_ble_eq_true rfl) dX0_least_47 (Ct.mono (F (R32.l R4) ⟨by decide, by decide⟩ ⟨by decide, by decide⟩) ?_)
          rintro r30 h31 ⟨e32, g33, F⟩
          have F := F e32
          have B34 := B27.tr e32
          have E35 := E28.tr e32
          refine v_if_ne C 55 (bR g33) dX0_least_50 (by decide) (fun c36 => ?_) (fun c36 => ?_)
          · have F := F.1 (c36)
            refine v_aload_n C 0 rfl rfl dX0_least_55 ?_
            refine gX0_18 C (SX.ext E35.1).k1 (SX.ext E35.1).f2 dX0_least_56 ?_
            refine v_aload_n C 0 rfl rfl dX0_least_59 ?_
            obtain ⟨o37, F⟩ := F
            refine gX0_149 C (SX.ext E35.1).k1 o37 dX0_least_60 ?_
            refine mX0_145 C ((SX.ext E35.1).t20).k (d2 := 2) (kc2 := 0) (ks2 := 0) (by decide) (Nat.le_refl _) (Nat.le_refl _) (Nat.le_of_ble_eq_true rfl) dX0_least_63 (Ct.mono (F) ?_)
            rintro r38 h39 ⟨e40, F⟩
            replace F := F e40
            have B42 := B34.tr e40
            have E43 := E35.tr e40
            obtain ⟨r38q, F⟩ := F
            subst r38q
            refine v_pop C (rf_n1 _) dX0_least_66 ?_
            refine v_iconst C dX0_least_67 ?_
            refine v_istore C (by decide) dX0_least_68 (lv2 := [(5, iv (-1)), (0, rf 1), (1, iv x1), (2, iv x2), (3, iv x3), (4, iv x4)]) rfl ?_
            refine v_iconst C dX0_least_70 ?_
            refine v_istore C (by decide) dX0_least_71 (lv2 := [(6, iv 0), (5, iv (-1)), (0, rf 1), (1, iv x1), (2, iv x2), (3, iv x3), (4, iv x4)]) rfl ?_
            refine v_sub (lv2 := [(0, rf 1), (1, iv x1), (2, iv x2), (3, iv x3), (4, iv x4), (5, iv (-1)), (6, iv 0)]) [2, 3, 4, 5, 6, 1, 0] rfl ?_
            exact F ⟨B42, R1, R2, R3, R4, ⟨by decide, by decide⟩, ⟨by decide, by decide⟩⟩
          · have F := F.2 (c36)
            refine v_iconst C dX0_least_53 ?_
            exact v_iret C (Nat.le_refl _) (Nat.le_refl _) dX0_least_54 ⟨B34, ⟨by decide, by decide⟩, F⟩
set_option maxHeartbeats 4000000 in
theorem wX0_least_L73 {G : GT} {X : MX} {h0 h : Mem} {P : Int → Mem → Prop} {x1 x2 x3 x4 x5 x6 : Int} (C : Cx G X cX0_least 7 RX0 6 0 0 (some .int) "least") (B0 : EX h0 h ∧ R32 x1 ∧ R32 x2 ∧ R32 x3 ∧ R32 x4 ∧ R32 x5 ∧ R32 x6)
    (F : XS h ∧ h 1 0 = 2 ∧ 0 ≤ x2 ∧ x2 < 4 ∧ ((x6 ≥ bShl 1 (h 4 x2) → ((x5 ≠ (-1) → ((x4 ≠ 0 → P x5 h) ∧ (x4 = 0 → kJ8_bitCount G X.2.1 x5 h (fun r7 h8 => EX h h8 → P r7 h8)))) ∧ (x5 = (-1) → P (-2) h))) ∧ (x6 < bShl 1 (h 4 x2) → ((x5 = (-1) → kX0_isTheirsBy G X.2.1 x1 x2 x3 x6 h (fun r14 h15 => EX h h15 → ((r14 = 0 → R32 (x6 + 1) ∧ (EX h0 h15 ∧ R32 x1 ∧ R32 x2 ∧ R32 x3 ∧ R32 x4 ∧ R32 x5 ∧ R32 (x6 + 1) → V G X 7 0 0 (QF G X 0 0 0 (PI h0 P)) 73 [(0, rf 1), (1, iv x1), (2, iv x2), (3, iv x3), (4, iv x4), (5, iv x5), (6, iv (x6 + 1))] [] h15)) ∧ (r14 ≠ 0 → R32 (x6 + 1) ∧ (EX h0 h15 ∧ R32 x1 ∧ R32 x2 ∧ R32 x3 ∧ R32 x4 ∧ R32 x6 ∧ R32 (x6 + 1) → V G X 7 0 0 (QF G X 0 0 0 (PI h0 P)) 73 [(0, rf 1), (1, iv x1), (2, iv x2), (3, iv x3), (4, iv x4), (5, iv x6), (6, iv (x6 + 1))] [] h15))))) ∧ (x5 ≠ (-1) → kJ8_bitCount G X.2.1 x6 h (fun r23 h24 => EX h h24 → kJ8_bitCount G X.2.1 x5 h24 (fun r29 h30 => EX h24 h30 → ((r23 < r29 → kX0_isTheirsBy G X.2.1 x1 x2 x3 x6 h30 (fun r36 h37 => EX h30 h37 → ((r36 = 0 → R32 (x6 + 1) ∧ (EX h0 h37 ∧ R32 x1 ∧ R32 x2 ∧ R32 x3 ∧ R32 x4 ∧ R32 x5 ∧ R32 (x6 + 1) → V G X 7 0 0 (QF G X 0 0 0 (PI h0 P)) 73 [(0, rf 1), (1, iv x1), (2, iv x2), (3, iv x3), (4, iv x4), (5, iv x5), (6, iv (x6 + 1))] [] h37)) ∧ (r36 ≠ 0 → R32 (x6 + 1) ∧ (EX h0 h37 ∧ R32 x1 ∧ R32 x2 ∧ R32 x3 ∧ R32 x4 ∧ R32 x6 ∧ R32 (x6 + 1) → V G X 7 0 0 (QF G X 0 0 0 (PI h0 P)) 73 [(0, rf 1), (1, iv x1), (2, iv x2), (3, iv x3), (4, iv x4), (5, iv x6), (6, iv (x6 + 1))] [] h37))))) ∧ (r23 ≥ r29 → R32 (x6 + 1) ∧ (EX h0 h30 ∧ R32 x1 ∧ R32 x2 ∧ R32 x3 ∧ R32 x4 ∧ R32 x5 ∧ R32 (x6 + 1) → V G X 7 0 0 (QF G X 0 0 0 (PI h0 P)) 73 [(0, rf 1), (1, iv x1), (2, iv x2), (3, iv x3), (4, iv x4), (5, iv x5), (6, iv (x6 + 1))] [] h30)))))))))) :
    V G X 7 0 0 (QF G X 0 0 0 (PI h0 P)) 73 [(0, rf 1), (1, iv x1), (2, iv x2), (3, iv x3), (4, iv x4), (5, iv x5), (6, iv x6)] [] h := by
  obtain ⟨B, R1, R2, R3, R4, R5, R6⟩ := B0
  have E : EX h h := EX.rf B.2
  obtain ⟨SX, F⟩ := F
  refine v_iload C 6 rfl dX0_least_73 ?_
  refine v_iconst C dX0_least_75 ?_
  refine v_aload_n C 0 rfl rfl dX0_least_76 ?_
  obtain ⟨o1, F⟩ := F
  refine gX0_149 C (SX.ext E.1).k1 o1 dX0_least_77 ?_
  refine gX0_218 C ((SX.ext E.1).t2).k ((SX.ext E.1).t2).f14 dX0_least_80 ?_
  refine v_iload_n C 2 rfl rfl dX0_least_83 ?_
  obtain ⟨o2, F⟩ := F
  obtain ⟨o3, F⟩ := F
  refine v_iald C ((SX.ext E.1).t2).k14 o2 (by rw [((SX.ext E.1).t2).l14]; exact o3) rfl dX0_least_84 ?_
  refine v_ishl C dX0_least_85 ?_
  refine v_icmp_ge C 133 R6 (R32_toInt _) dX0_least_86 (by decide) (fun c4 => ?_) (fun c4 => ?_)
  · have F := F.1 (c4)
    refine v_iload C 5 rfl dX0_least_133 ?_
    refine v_iconst C dX0_least_135 ?_
    refine v_icmp_ne C 144 R5 ⟨by decide, by decide⟩ dX0_least_136 (by decide) (fun c5 => ?_) (fun c5 => ?_)
    · have F := F.1 (c5)
      refine v_iload C 4 rfl dX0_least_144 ?_
      refine v_if_ne C 157 R4 dX0_least_146 (by decide) (fun c6 => ?_) (fun c6 => ?_)
      · have F := F.1 (c6)
        refine v_iload C 5 rfl dX0_least_157 ?_
        exact v_iret C (Nat.le_refl _) (Nat.le_refl _) dX0_least_159 ⟨B, R5, F⟩
      · have F := F.2 (c6)
        refine v_iload C 5 rfl dX0_least_149 ?_
        refine mX0_303 C (d2 := 0) (kc2 := 0) (ks2 := 0) (by decide) (Nat.le_refl _) (Nat.le_refl _) (Nat.le_of_ble_eq_true rfl) dX0_least_151 (Ct.mono (F R5) ?_)
        rintro r7 h8 ⟨e9, g10, F⟩
        have F := F e9
        have B11 := B.tr e9
        have E12 := E.tr e9
        refine v_goto C 159 dX0_least_154 (by decide) ?_
        exact v_iret C (Nat.le_refl _) (Nat.le_refl _) dX0_least_159 ⟨B11, g10, F⟩
    · have F := F.2 (c5)
      refine v_bipush C rfl dX0_least_139 ?_
      refine v_goto C 159 dX0_least_141 (by decide) ?_
      exact v_iret C (Nat.le_refl _) (Nat.le_refl _) dX0_least_159 ⟨B, ⟨by decide, by decide⟩, F⟩
  · have F := F.2 (c4)
    refine v_iload C 5 rfl dX0_least_89 ?_
    refine v_iconst C dX0_least_91 ?_
    refine v_icmp_eq C 111 R5 ⟨by decide, by decide⟩ dX0_least_92 (by decide) (fun c13 => ?_) (fun c13 => ?_)
    · have F := F.1 (c13)
      refine v_aload_n C 0 rfl rfl dX0_least_111 ?_
      refine v_iload_n C 1 rfl rfl dX0_least_112 ?_
      refine v_iload_n C 2 rfl rfl dX0_least_113 ?_
      refine v_iload_n C 3 rfl rfl dX0_least_114 ?_
      refine v_iload C 6 rfl dX0_least_115 ?_
      refine mX0_306 C (SX.ext E.1).k1 (d2 := 5) (kc2 := 0) (ks2 := 0) (by decide) (Nat.le_refl _) (Nat.le_refl _) (Nat.le_of_ble_eq_true rfl) dX0_least_117 (Ct.mono (F R1 R2 R3 R6) ?_)
      rintro r14 h15 ⟨e16, g17, F⟩
      have F := F e16
      have B18 := B.tr e16
      have E19 := E.tr e16
      refine v_if_eq C 127 (bR g17) dX0_least_120 (by decide) (fun c20 => ?_) (fun c20 => ?_)
      · have F := F.1 (c20)
        obtain ⟨o21, F⟩ := F
        refine v_iinc C 6 rfl (by decide) dX0_least_127 (lv2 := [(6, iv (x6 + 1)), (0, rf 1), (1, iv x1), (2, iv x2), (3, iv x3), (4, iv x4), (5, iv x5)]) rfl ?_
        refine v_goto C 73 dX0_least_130 (by decide) ?_
        refine v_sub (lv2 := [(0, rf 1), (1, iv x1), (2, iv x2), (3, iv x3), (4, iv x4), (5, iv x5), (6, iv (x6 + 1))]) [1, 2, 3, 4, 5, 6, 0] rfl ?_
        exact F ⟨B18, R1, R2, R3, R4, R5, o21⟩
      · have F := F.2 (c20)
        refine v_iload C 6 rfl dX0_least_123 ?_
        refine v_istore C (by decide) dX0_least_125 (lv2 := [(5, iv x6), (0, rf 1), (1, iv x1), (2, iv x2), (3, iv x3), (4, iv x4), (6, iv x6)]) rfl ?_
        obtain ⟨o22, F⟩ := F
        refine v_iinc C 6 rfl (by decide) dX0_least_127 (lv2 := [(6, iv (x6 + 1)), (5, iv x6), (0, rf 1), (1, iv x1), (2, iv x2), (3, iv x3), (4, iv x4)]) rfl ?_
        refine v_goto C 73 dX0_least_130 (by decide) ?_
        refine v_sub (lv2 := [(0, rf 1), (1, iv x1), (2, iv x2), (3, iv x3), (4, iv x4), (5, iv x6), (6, iv (x6 + 1))]) [2, 3, 4, 5, 6, 1, 0] rfl ?_
        exact F ⟨B18, R1, R2, R3, R4, R6, o22⟩
    · have F := F.2 (c13)
      refine v_iload C 6 rfl dX0_least_95 ?_
      refine mX0_303 C (d2 := 0) (kc2 := 0) (ks2 := 0) (by decide) (Nat.le_refl _) (Nat.le_refl _) (Nat.le_of_ble_eq_true rfl) dX0_least_97 (Ct.mono (F R6) ?_)
      rintro r23 h24 ⟨e25, g26, F⟩
      have F := F e25
      have B27 := B.tr e25
      have E28 := E.tr e25
      refine v_iload C 5 rfl dX0_least_100 ?_
      refine mX0_303 C (d2 := 0) (kc2 := 0) (ks2 := 0) (by decide) (Nat.le_refl _) (Nat.le_refl _) (Nat.le_of_ble_eq_true rfl) dX0_least_102 (Ct.mono (F R5) ?_)
      rintro r29 h30 ⟨e31, g32, F⟩
      have F := F e31
      have B33 := B27.tr e31
      have E34 := E28.tr e31
      refine v_icmp_lt C 111 g26 g32 dX0_least_105 (by decide) (fun c35 => ?_) (fun c35 => ?_)
      · have F := F.1 (c35)
        refine v_aload_n C 0 rfl rfl dX0_least_111 ?_
        refine v_iload_n C 1 rfl rfl dX0_least_112 ?_
        refine v_iload_n C 2 rfl rfl dX0_least_113 ?_
        refine v_iload_n C 3 rfl rfl dX0_least_114 ?_
        refine v_iload C 6 rfl dX0_least_115 ?_
        refine mX0_306 C (SX.ext E34.1).k1 (d2 := 5) (kc2 := 0) (ks2 := 0) (by decide) (Nat.le_refl _) (Nat.le_refl _) (Nat.le_of_ble_eq_true rfl) dX0_least_117 (Ct.mono (F R1 R2 R3 R6) ?_)
        rintro r36 h37 ⟨e38, g39, F⟩
        have F := F e38
        have B40 := B33.tr e38
        have E41 := E34.tr e38
        refine v_if_eq C 127 (bR g39) dX0_least_120 (by decide) (fun c42 => ?_) (fun c42 => ?_)
        · have F := F.1 (c42)
          obtain ⟨o43, F⟩ := F
          refine v_iinc C 6 rfl (by decide) dX0_least_127 (lv2 := [(6, iv (x6 + 1)), (0, rf 1), (1, iv x1), (2, iv x2), (3, iv x3), (4, iv x4), (5, iv x5)]) rfl ?_
          refine v_goto C 73 dX0_least_130 (by decide) ?_
          refine v_sub (lv2 := [(0, rf 1), (1, iv x1), (2, iv x2), (3, iv x3), (4, iv x4), (5, iv x5), (6, iv (x6 + 1))]) [1, 2, 3, 4, 5, 6, 0] rfl ?_
          exact F ⟨B40, R1, R2, R3, R4, R5, o43⟩
        · have F := F.2 (c42)
          refine v_iload C 6 rfl dX0_least_123 ?_
          refine v_istore C (by decide) dX0_least_125 (lv2 := [(5, iv x6), (0, rf 1), (1, iv x1), (2, iv x2), (3, iv x3), (4, iv x4), (6, iv x6)]) rfl ?_
          obtain ⟨o44, F⟩ := F
          refine v_iinc C 6 rfl (by decide) dX0_least_127 (lv2 := [(6, iv (x6 + 1)), (5, iv x6), (0, rf 1), (1, iv x1), (2, iv x2), (3, iv x3), (4, iv x4)]) rfl ?_
          refine v_goto C 73 dX0_least_130 (by decide) ?_
          refine v_sub (lv2 := [(0, rf 1), (1, iv x1), (2, iv x2), (3, iv x3), (4, iv x4), (5, iv x6), (6, iv (x6 + 1))]) [2, 3, 4, 5, 6, 1, 0] rfl ?_
          exact F ⟨B40, R1, R2, R3, R4, R6, o44⟩
      · have F := F.2 (c35)
        refine v_goto C 127 dX0_least_108 (by decide) ?_
        obtain ⟨o45, F⟩ := F
        refine v_iinc C 6 rfl (by decide) dX0_least_127 (lv2 := [(6, iv (x6 + 1)), (0, rf 1), (1, iv x1), (2, iv x2), (3, iv x3), (4, iv x4), (5, iv x5)]) rfl ?_
        refine v_goto C 73 dX0_least_130 (by decide) ?_
        refine v_sub (lv2 := [(0, rf 1), (1, iv x1), (2, iv x2), (3, iv x3), (4, iv x4), (5, iv x5), (6, iv (x6 + 1))]) [1, 2, 3, 4, 5, 6, 0] rfl ?_
        exact F ⟨B33, R1, R2, R3, R4, R5, o45⟩
set_option maxHeartbeats 1000000 in
theorem eX0_least {G : GT} {l : Launch} {x1 x2 x3 x4 : Int} {h : Mem} {P : Int → Mem → Prop} (F : ∀ X : MX, Cx G X cX0_least 7 RX0 6 0 0 (some .int) "least" → X.2.1 = l → (EX h h ∧ R32 x1 ∧ R32 x2 ∧ R32 x3 ∧ R32 x4) →
    XS h ∧ kX0_isPainter G X.2.1 x1 h (fun r1 h2 => EX h h2 → ((r1 = 0 → P (-1) h2) ∧ (r1 ≠ 0 → kX0_isThing G X.2.1 x2 h2 (fun r8 h9 => EX h2 h9 → ((r8 = 0 → P (-1) h9) ∧ (r8 ≠ 0 → h9 1 0 = 2 ∧ kX0_has G X.2.1 (h9 2 12) x2 h9 (fun r16 h17 => EX h9 h17 → ((r16 ≠ 0 → P (-1) h17) ∧ (r16 = 0 → kX0_in G X.2.1 x3 0 60 h17 (fun r23 h24 => EX h17 h24 → ((r23 = 0 → P (-1) h24) ∧ (r23 ≠ 0 → kX0_in G X.2.1 x4 0 1 h24 (fun r30 h31 => EX h24 h31 → ((r30 ≠ 0 → h31 1 0 = 2 ∧ kX1_copies G X.2.1 20 2 h31 (fun r38 h39 => EX h31 h39 → r38 = 20 ∧ (EX h h39 ∧ R32 x1 ∧ R32 x2 ∧ R32 x3 ∧ R32 x4 ∧ R32 (-1) ∧ R32 0 → V G X 7 0 0 (QF G X 0 0 0 (PI h P)) 73 [(0, rf 1), (1, iv x1), (2, iv x2), (3, iv x3), (4, iv x4), (5, iv (-1)), (6, iv 0)] [] h39))) ∧ (r30 = 0 → P (-1) h31)))))))))))))))) :
    kX0_least G l x1 x2 x3 x4 h P := by
  intro R1 R2 R3 R4
  refine ct_of (by decide +kernel) (Nat.le_of_ble_eq_true rfl) fun X C e => ?_
  refine v_okz fun O => ?_
  exact wX0_least_0 C ⟨EX.rf O, R1, R2, R3, R4⟩ (F X C e ⟨EX.rf O, R1, R2, R3, R4⟩)
def kX0_street (G : GT) (l : Launch) (kc ks : Nat) (h : Mem) (P : Int → Mem → Prop) : Prop := CtW G l yX0_street cX0_street 3 (some .int) [(0, 30, 33, 39)] 0 7 kc ks [rf 1] h (PI h P)
set_option maxHeartbeats 4000000 in
theorem wX0_street_0 {G : GT} {X : MX} {h0 h : Mem} {P : Int → Mem → Prop} {kc ks uc us : Nat} (C : Cx G X cX0_street 3 RX0 7 kc ks (some .int) "street") (N : HasH X [(0, 30, 33, 39)]) (B0 : EX h0 h)
    (F : XS h ∧ 0 + 1 ≤ kc ∧ 0 + 7 ≤ ks ∧ ∀ h3 : Mem, h3 = alloc h 5 0 → ∀ a4 : Int, a4 = h 0 0 → kX4_init G X.2.1 a4 1 h3 (fun _ h8 => BX a4 h3 h8 → h8 a4 (-1) = 5 ∧ kX4_streetTold G X.2.1 a4 h8 (fun r14 h15 => EX h8 h15 → kX1_copies G X.2.1 2 r14 h15 (fun r33 h34 => EX h15 h34 → r33 = 2 ∧ ∀ h39 : Mem, h39 = up h34 1 0 2 → ∀ y42 : Int, y42 = h34 2 4 → ∀ h43 : Mem, h43 = up h39 1 11 0 → P y42 h43)) (fun h23 => EX h8 h23 → kX0_faulted G X.2.1 h23 (fun r24 h25 => EX h23 h25 → ∀ h30 : Mem, h30 = up h25 1 11 0 → P r24 h30)))) :
    V G X 3 0 0 (QF G X 0 kc ks (PI h0 P)) 0 [(0, rf 1)] [] h := by
  have B := B0
  have E : EX h h := EX.rf B.2
  obtain ⟨SX, F⟩ := F
  refine v_aload_n C 0 rfl rfl dX0_street_0 ?_
  refine v_aload_n C 0 rfl rfl dX0_street_1 ?_
  refine gX0_12 C (SX.ext E.1).k1 (SX.ext E.1).f1 dX0_street_2 ?_
  obtain ⟨o1, o2, F⟩ := F
  refine nX0_136 C o1 o2 dX0_street_5 ?_
  obtain ⟨h3, eh3⟩ : ∃ m : Mem, m = alloc h 5 0 := ⟨_, rfl⟩
  obtain ⟨a4, ea4⟩ : ∃ z : Int, z = h 0 0 := ⟨_, rfl⟩
  have La4 : h0 0 0 ≤ a4 := by rw [ea4]; exact B.1.1
  have Ma4 : h 0 0 ≤ a4 := by rw [ea4]; exact E.1.1
  have Na4 : a4 ≠ 0 := by have z := B.pos; rw [ea4]; omega
  have B5 : EX h0 h3 := by rw [eh3]; exact EX_alloc B (by decide) (by decide) (by decide) (by decide)
  have E6 : EX h h3 := by rw [eh3]; exact EX_alloc E (by decide) (by decide) (by decide) (by decide)
  refine v_mem eh3 ?_
  refine v_topi ea4.symm ?_
  have F := F h3 eh3 a4 ea4
  refine v_dup C (rf_n1 _) dX0_street_8 ?_
  refine v_aload_n C 0 rfl rfl dX0_street_9 ?_
  refine mX0_138 C Na4 (d2 := 1) (kc2 := 0) (ks2 := 0) (by decide) o1 o2 (Nat.le_of_ble_eq_true rfl) dX0_street_10 (Ct.mono (F) ?_)
  rintro r7 h8 ⟨e9, F⟩
  have F := F e9
  have B11 := e9.2 _ B5 La4
  have E12 := e9.2 _ E6 Ma4
  obtain ⟨o13, F⟩ := F
  refine tX0_141 C N o13 (d2 := 6) (kc2 := 0) (ks2 := 0) (by decide) o1 o2 (Nat.le_of_ble_eq_true rfl) dX0_street_13 (by decide) rfl (by decide) dX0_street_33 (lv9 := [(0, rf 1)]) rfl (CtX.mono (F) ?_ ?_)
  · rintro r14 h15 ⟨e16, F⟩
    have F := F e16
    have B18 := B11.tr e16
    have E19 := E12.tr e16
    refine mX0_145 C ((SX.ext E19.1).t2).k (d2 := 2) (kc2 := 0) (ks2 := 0) (by decide) o1 o2 (Nat.le_of_ble_eq_true rfl) dX0_street_16 (Ct.mono (F) ?_)
    rintro r33 h34 ⟨e35, F⟩
    replace F := F e35
    have B37 := B18.tr e35
    have E38 := E19.tr e35
    obtain ⟨r33q, F⟩ := F
    subst r33q
    refine pX0_149 C (SX.ext E38.1).k1 (okI_r rfl rfl) dX0_street_19 ?_
    obtain ⟨h39, eh39⟩ : ∃ m : Mem, m = up h34 1 0 2 := ⟨_, rfl⟩
    have B40 : EX h0 h39 := by rw [eh39]; exact EX_up B37 (SX.ext E38.1).k1 (by decide) rfl (by decide) (okI_r rfl rfl)
    have E41 : EX h h39 := by rw [eh39]; exact EX_up E38 (SX.ext E38.1).k1 (by decide) rfl (by decide) (okI_r rfl rfl)
    refine v_mem eh39 ?_
    have F := F h39 eh39
    refine v_aload_n C 0 rfl rfl dX0_street_22 ?_
    refine gX0_149 C (SX.ext E41.1).k1 (show h39 1 0 = 2 by rw [eh39, up_s]) dX0_street_23 ?_
    refine gX0_152 C ((SX.ext E41.1).t2).k (show h39 2 4 = h34 2 4 by rw [eh39, up_i (by decide)]) dX0_street_26 ?_
    obtain ⟨y42, ey42⟩ : ∃ z : Int, z = h34 2 4 := ⟨_, rfl⟩
    have F := F y42 ey42
    have Ry42 : R32 y42 := by rw [ey42]; exact (R32.of (show h39 2 4 = h34 2 4 by rw [eh39, up_i (by decide)]) (EX.rI B40 (j := 4) ((SX.ext E41.1).t2).k rfl))
    refine v_istore_n C rfl (by decide) dX0_street_29 (lv2 := [(1, iv y42), (0, rf 1)]) (by rw [ey42]; rfl) ?_
    refine v_goto C 39 dX0_street_30 (by decide) ?_
    refine v_aload_n C 1 rfl rfl dX0_street_39 ?_
    refine v_iconst C dX0_street_40 ?_
    refine pX0_123 C (SX.ext E41.1).k1 (okI_i rfl ⟨by decide, by decide⟩) dX0_street_41 ?_
    obtain ⟨h43, eh43⟩ : ∃ m : Mem, m = up h39 1 11 0 := ⟨_, rfl⟩
    have B44 : EX h0 h43 := by rw [eh43]; exact EX_up B40 (SX.ext E41.1).k1 (by decide) rfl (by decide) (okI_i rfl ⟨by decide, by decide⟩)
    have E45 : EX h h43 := by rw [eh43]; exact EX_up E41 (SX.ext E41.1).k1 (by decide) rfl (by decide) (okI_i rfl ⟨by decide, by decide⟩)
    refine v_mem eh43 ?_
    have F := F h43 eh43
    refine v_iload_n C 0 rfl rfl dX0_street_44 ?_
    exact v_iret C o1 o2 dX0_street_45 ⟨B44, Ry42, F⟩
  · rintro h23 ⟨e20, F⟩
    have F := F e20
    have B21 := B11.tr e20
    have E22 := E12.tr e20
    refine v_aload_n C 0 rfl rfl dX0_street_34 ?_
    refine mX0_155 C (SX.ext E22.1).k1 (d2 := 0) (kc2 := 0) (ks2 := 0) (by decide) o1 o2 (Nat.le_of_ble_eq_true rfl) dX0_street_35 (Ct.mono (F) ?_)
    rintro r24 h25 ⟨e26, g27, F⟩
    have F := F e26
    have B28 := B21.tr e26
    have E29 := E22.tr e26
    refine v_istore_n C rfl (by decide) dX0_street_38 (lv2 := [(1, iv r24), (0, rf 1)]) rfl ?_
    refine v_aload_n C 1 rfl rfl dX0_street_39 ?_
    refine v_iconst C dX0_street_40 ?_
    refine pX0_123 C (SX.ext E29.1).k1 (okI_i rfl ⟨by decide, by decide⟩) dX0_street_41 ?_
    obtain ⟨h30, eh30⟩ : ∃ m : Mem, m = up h25 1 11 0 := ⟨_, rfl⟩
    have B31 : EX h0 h30 := by rw [eh30]; exact EX_up B28 (SX.ext E29.1).k1 (by decide) rfl (by decide) (okI_i rfl ⟨by decide, by decide⟩)
    have E32 : EX h h30 := by rw [eh30]; exact EX_up E29 (SX.ext E29.1).k1 (by decide) rfl (by decide) (okI_i rfl ⟨by decide, by decide⟩)
    refine v_mem eh30 ?_
    have F := F h30 eh30
    refine v_iload_n C 0 rfl rfl dX0_street_44 ?_
    exact v_iret C o1 o2 dX0_street_45 ⟨B31, g27, F⟩
set_option maxHeartbeats 1000000 in
theorem eX0_street {G : GT} {l : Launch} {kc ks : Nat} {h : Mem} {P : Int → Mem → Prop} (F : ∀ X : MX, Cx G X cX0_street 3 RX0 7 kc ks (some .int) "street" → HasH X [(0, 30, 33, 39)] → X.2.1 = l → (EX h h) →
    XS h ∧ 0 + 1 ≤ kc ∧ 0 + 7 ≤ ks ∧ ∀ h3 : Mem, h3 = alloc h 5 0 → ∀ a4 : Int, a4 = h 0 0 → kX4_init G X.2.1 a4 1 h3 (fun _ h8 => BX a4 h3 h8 → h8 a4 (-1) = 5 ∧ kX4_streetTold G X.2.1 a4 h8 (fun r14 h15 => EX h8 h15 → kX1_copies G X.2.1 2 r14 h15 (fun r33 h34 => EX h15 h34 → r33 = 2 ∧ ∀ h39 : Mem, h39 = up h34 1 0 2 → ∀ y42 : Int, y42 = h34 2 4 → ∀ h43 : Mem, h43 = up h39 1 11 0 → P y42 h43)) (fun h23 => EX h8 h23 → kX0_faulted G X.2.1 h23 (fun r24 h25 => EX h23 h25 → ∀ h30 : Mem, h30 = up h25 1 11 0 → P r24 h30)))) :
    kX0_street G l kc ks h P := by
  refine ct_ofW (by decide +kernel) (Nat.le_of_ble_eq_true rfl) fun X C N e => ?_
  refine v_okz fun O => ?_
  exact wX0_street_0 (uc := 0) (us := 0) C N (EX.rf O) (F X C N e (EX.rf O))
def kX0_divisor (G : GT) (l : Launch) (d : Nat) (x0 x1 : Int) (h : Mem) (P : Int → Mem → Prop) : Prop := R32 x0 → R32 x1 → Ct G l yX0_divisor cX0_divisor 2 (some .int) 0 (d + 0) 0 0 [iv x0, iv x1] h (PI h P)
set_option maxHeartbeats 4000000 in
theorem wX0_divisor_0 {G : GT} {X : MX} {h0 h : Mem} {P : Int → Mem → Prop} {d0 : Nat} {x0 x1 : Int} (C : Cx G X cX0_divisor 2 RX0 ((d0 + 1) + 0) 0 0 (some .int) "divisor") (B0 : EX h0 h ∧ R32 x0 ∧ R32 x1)
    (F : ((x1 ≠ 0 → 0 < x1 ∧ kX0_divisor G X.2.1 d0 x1 (x0.tmod x1) h (fun r3 h4 => EX h h4 → P r3 h4)) ∧ (x1 = 0 → P x0 h))) :
    V G X 2 0 0 (QF G X 0 0 0 (PI h0 P)) 0 [(0, iv x0), (1, iv x1)] [] h := by
  obtain ⟨B, R0, R1⟩ := B0
  have E : EX h h := EX.rf B.2
  refine v_iload_n C 1 rfl rfl dX0_divisor_0 ?_
  refine v_if_ne C 8 R1 dX0_divisor_1 (by decide) (fun c1 => ?_) (fun c1 => ?_)
  · have F := F.1 (c1)
    refine v_iload_n C 1 rfl rfl dX0_divisor_8 ?_
    refine v_iload_n C 0 rfl rfl dX0_divisor_9 ?_
    refine v_iload_n C 1 rfl rfl dX0_divisor_10 ?_
    obtain ⟨o2, F⟩ := F
    refine v_irem C R0 R1 o2 dX0_divisor_11 ?_
    refine mX0_337 C (d2 := (d0 + 0)) (kc2 := 0) (ks2 := 0) (by omega) (Nat.le_refl _) (Nat.le_refl _) (Nat.le_of_ble_eq_true rfl) dX0_divisor_12 (Ct.mono (F R1 (tmodR32 R1 o2)) ?_)
    rintro r3 h4 ⟨e5, g6, F⟩
    have F := F e5
    have B7 := B.tr e5
    have E8 := E.tr e5
    exact v_iret C (Nat.le_refl _) (Nat.le_refl _) dX0_divisor_15 ⟨B7, g6, F⟩
  · have F := F.2 (c1)
    refine v_iload_n C 0 rfl rfl dX0_divisor_4 ?_
    refine v_goto C 15 dX0_divisor_5 (by decide) ?_
    exact v_iret C (Nat.le_refl _) (Nat.le_refl _) dX0_divisor_15 ⟨B, R0, F⟩
set_option maxHeartbeats 1000000 in
theorem eX0_divisor {G : GT} {l : Launch} {d0 : Nat} {x0 x1 : Int} {h : Mem} {P : Int → Mem → Prop} (F : ∀ X : MX, Cx G X cX0_divisor 2 RX0 ((d0 + 1) + 0) 0 0 (some .int) "divisor" → X.2.1 = l → (EX h h ∧ R32 x0 ∧ R32 x1) →
    ((x1 ≠ 0 → 0 < x1 ∧ kX0_divisor G X.2.1 d0 x1 (x0.tmod x1) h (fun r3 h4 => EX h h4 → P r3 h4)) ∧ (x1 = 0 → P x0 h))) :
    kX0_divisor G l (d0 + 1) x0 x1 h P := by
  intro R0 R1
  refine ct_of (by decide +kernel) (Nat.le_of_ble_eq_true rfl) fun X C e => ?_
  refine v_okz fun O => ?_
  exact wX0_divisor_0 C ⟨EX.rf O, R0, R1⟩ (F X C e ⟨EX.rf O, R0, R1⟩)
def kX0_share (G : GT) (l : Launch) (x1 x2 x3 : Int) (h : Mem) (P : Int → Mem → Prop) : Prop := R32 x1 → R32 x2 → R32 x3 → Ct G l yX0_share cX0_share 5 (some .int) 0 11 0 0 [rf 1, iv x1, iv x2, iv x3] h (PI h P)
set_option maxHeartbeats 4000000 in
theorem wX0_share_0 {G : GT} {X : MX} {h0 h : Mem} {P : Int → Mem → Prop} {x1 x2 x3 : Int} (C : Cx G X cX0_share 5 RX0 11 0 0 (some .int) "share") (B0 : EX h0 h ∧ R32 x1 ∧ R32 x2 ∧ R32 x3)
    (F : XS h ∧ kX0_isPainter G X.2.1 x1 h (fun r1 h2 => EX h h2 → ((r1 = 0 → P (-1) h2) ∧ (r1 ≠ 0 → kX0_isThing G X.2.1 x2 h2 (fun r8 h9 => EX h2 h9 → ((r8 = 0 → P (-1) h9) ∧ (r8 ≠ 0 → kX0_in G X.2.1 x3 0 1 h9 (fun r15 h16 => EX h9 h16 → ((r15 ≠ 0 → h16 1 0 = 2 ∧ kX1_cellsOf G X.2.1 2 x1 x2 h16 (fun r23 h24 => EX h16 h24 → ((x3 ≠ 0 → h24 1 0 = 2 ∧ 0 ≤ x2 ∧ x2 < 4 ∧ kX0_divisor G X.2.1 10 (h24 4 x2) r23 h24 (fun r33 h34 => EX h24 h34 → 0 < r33 ∧ P ((h24 4 x2).tdiv r33) h34)) ∧ (x3 = 0 → h24 1 0 = 2 ∧ 0 ≤ x2 ∧ x2 < 4 ∧ kX0_divisor G X.2.1 10 (h24 4 x2) r23 h24 (fun r43 h44 => EX h24 h44 → 0 < r43 ∧ P (r23.tdiv r43) h44))))) ∧ (r15 = 0 → P (-1) h16)))))))))) :
    V G X 5 0 0 (QF G X 0 0 0 (PI h0 P)) 0 [(0, rf 1), (1, iv x1), (2, iv x2), (3, iv x3)] [] h := by
  obtain ⟨B, R1, R2, R3⟩ := B0
  have E : EX h h := EX.rf B.2
  obtain ⟨SX, F⟩ := F
  refine v_aload_n C 0 rfl rfl dX0_share_0 ?_
  refine v_iload_n C 1 rfl rfl dX0_share_1 ?_
  refine mX0_231 C (SX.ext E.1).k1 (d2 := 0) (kc2 := 0) (ks2 := 0) (by decide) (Nat.le_refl _) (Nat.le_refl _) (Nat.le_of_ble_eq_true rfl) dX0_share_2 (Ct.mono (F R1) ?_)
  rintro r1 h2 ⟨e3, g4, F⟩
  have F := F e3
  have B5 := B.tr e3
  have E6 := E.tr e3
  refine v_if_eq C 26 (bR g4) dX0_share_5 (by decide) (fun c7 => ?_) (fun c7 => ?_)
  · have F := F.1 (c7)
    refine v_iconst C dX0_share_26 ?_
    exact v_iret C (Nat.le_refl _) (Nat.le_refl _) dX0_share_27 ⟨B5, ⟨by decide, by decide⟩, F⟩
  · have F := F.2 (c7)
    refine v_aload_n C 0 rfl rfl dX0_share_8 ?_
    refine v_iload_n C 2 rfl rfl dX0_share_9 ?_
    refine mX0_212 C (SX.ext E6.1).k1 (d2 := 0) (kc2 := 0) (ks2 := 0) (by decide) (Nat.le_refl _) (Nat.le_refl _) (Nat.le_of_ble_eq_true rfl) dX0_share_10 (Ct.mono (F R2) ?_)
    rintro r8 h9 ⟨e10, g11, F⟩
    have F := F e10
    have B12 := B5.tr e10
    have E13 := E6.tr e10
    refine v_if_eq C 26 (bR g11) dX0_share_13 (by decide) (fun c14 => ?_) (fun c14 => ?_)
    · have F := F.1 (c14)
      refine v_iconst C dX0_share_26 ?_
      exact v_iret C (Nat.le_refl _) (Nat.le_refl _) dX0_share_27 ⟨B12, ⟨by decide, by decide⟩, F⟩
    · have F := F.2 (c14)
      refine v_iload_n C 3 rfl rfl dX0_share_16 ?_
      refine v_i2l C R3 dX0_share_17 ?_
      refine v_lconst C (x := 0) rfl dX0_share_18 ?_
      refine v_lconst C (x := 1) rfl dX0_share_19 ?_
      refine mX0_193 C (d2 := 0) (kc2 := 0) (ks2 := 0) (by decide) (Nat.le_refl _) (Nat.le_refl _) (Nat.le_of_ble_eq_true rfl) dX0_share_20 (Ct.mono (F (R32.l R3) ⟨by decide, by decide⟩ ⟨by decide, by decide⟩) ?_)
      rintro r15 h16 ⟨e17, g18, F⟩
      have F := F e17
      have B19 := B12.tr e17
      have E20 := E13.tr e17
      refine v_if_ne C 28 (bR g18) dX0_share_23 (by decide) (fun c21 => ?_) (fun c21 => ?_)
      · have F := F.1 (c21)
        refine v_aload_n C 0 rfl rfl dX0_share_28 ?_
        obtain ⟨o22, F⟩ := F
        refine gX0_149 C (SX.ext E20.1).k1 o22 dX0_share_29 ?_
        refine v_iload_n C 1 rfl rfl dX0_share_32 ?_
        refine v_iload_n C 2 rfl rfl dX0_share_33 ?_
        refine mX0_325 C ((SX.ext E20.1).t2).k (d2 := 2) (kc2 := 0) (ks2 := 0) (by decide) (Nat.le_refl _) (Nat.le_refl _) (Nat.le_of_ble_eq_true rfl) dX0_share_34 (Ct.mono (F R1 R2) ?_)
        rintro r23 h24 ⟨e25, g26, F⟩
        have F := F e25
        have B27 := B19.tr e25
        have E28 := E20.tr e25
        refine v_istore C (by decide) dX0_share_37 (lv2 := [(4, iv r23), (0, rf 1), (1, iv x1), (2, iv x2), (3, iv x3)]) rfl ?_
        refine v_iload_n C 4 rfl rfl dX0_share_39 ?_
        refine v_if_ne C 48 R3 dX0_share_40 (by decide) (fun c29 => ?_) (fun c29 => ?_)
        · have F := F.1 (c29)
          refine v_aload_n C 1 rfl rfl dX0_share_48 ?_
          obtain ⟨o30, F⟩ := F
          refine gX0_149 C (SX.ext E28.1).k1 o30 dX0_share_49 ?_
          refine gX0_218 C ((SX.ext E28.1).t2).k ((SX.ext E28.1).t2).f14 dX0_share_52 ?_
          refine v_iload_n C 3 rfl rfl dX0_share_55 ?_
          obtain ⟨o31, F⟩ := F
          obtain ⟨o32, F⟩ := F
          refine v_iald C ((SX.ext E28.1).t2).k14 o31 (by rw [((SX.ext E28.1).t2).l14]; exact o32) rfl dX0_share_56 ?_
          refine v_aload_n C 1 rfl rfl dX0_share_57 ?_
          refine gX0_149 C (SX.ext E28.1).k1 o30 dX0_share_58 ?_
          refine gX0_218 C ((SX.ext E28.1).t2).k ((SX.ext E28.1).t2).f14 dX0_share_61 ?_
          refine v_iload_n C 3 rfl rfl dX0_share_64 ?_
          refine v_iald C ((SX.ext E28.1).t2).k14 o31 (by rw [((SX.ext E28.1).t2).l14]; exact o32) rfl dX0_share_65 ?_
          refine v_iload C 0 rfl dX0_share_66 ?_
          refine mX0_337 C (d2 := (10 + 0)) (kc2 := 0) (ks2 := 0) (by decide) (Nat.le_refl _) (Nat.le_refl _) (Nat.le_of_ble_eq_true rfl) dX0_share_68 (Ct.mono (F (EX.rI B27 (j := x2) ((SX.ext E28.1).t2).k14 rfl) g26) ?_)
          rintro r33 h34 ⟨e35, g36, F⟩
          have F := F e35
          have B37 := B27.tr e35
          have E38 := E28.tr e35
          obtain ⟨o39, F⟩ := F
          refine v_idiv C (EX.rI B27 (j := x2) ((SX.ext E28.1).t2).k14 rfl) g36 o39 dX0_share_71 ?_
          exact v_iret C (Nat.le_refl _) (Nat.le_refl _) dX0_share_72 ⟨B37, (tdivR32 (EX.rI B27 (j := x2) ((SX.ext E28.1).t2).k14 rfl) o39), F⟩
        · have F := F.2 (c29)
          refine v_iload C 0 rfl dX0_share_43 ?_
          refine v_goto C 57 dX0_share_45 (by decide) ?_
          refine v_aload_n C 1 rfl rfl dX0_share_57 ?_
          obtain ⟨o40, F⟩ := F
          refine gX0_149 C (SX.ext E28.1).k1 o40 dX0_share_58 ?_
          refine gX0_218 C ((SX.ext E28.1).t2).k ((SX.ext E28.1).t2).f14 dX0_share_61 ?_
          refine v_iload_n C 3 rfl rfl dX0_share_64 ?_
          obtain ⟨o41, F⟩ := F
          obtain ⟨o42, F⟩ := F
          refine v_iald C ((SX.ext E28.1).t2).k14 o41 (by rw [((SX.ext E28.1).t2).l14]; exact o42) rfl dX0_share_65 ?_
          refine v_iload C 0 rfl dX0_share_66 ?_
          refine mX0_337 C (d2 := (10 + 0)) (kc2 := 0) (ks2 := 0) (by decide) (Nat.le_refl _) (Nat.le_refl _) (Nat.le_of_ble_eq_true rfl) dX0_share_68 (Ct.mono (F (EX.rI B27 (j := x2) ((SX.ext E28.1).t2).k14 rfl) g26) ?_)
          rintro r43 h44 ⟨e45, g46, F⟩
          have F := F e45
          have B47 := B27.tr e45
          have E48 := E28.tr e45
          obtain ⟨o49, F⟩ := F
          refine v_idiv C g26 g46 o49 dX0_share_71 ?_
          exact v_iret C (Nat.le_refl _) (Nat.le_refl _) dX0_share_72 ⟨B47, (tdivR32 g26 o49), F⟩
      · have F := F.2 (c21)
        refine v_iconst C dX0_share_26 ?_
        exact v_iret C (Nat.le_refl _) (Nat.le_refl _) dX0_share_27 ⟨B19, ⟨by decide, by decide⟩, F⟩
set_option maxHeartbeats 1000000 in
theorem eX0_share {G : GT} {l : Launch} {x1 x2 x3 : Int} {h : Mem} {P : Int → Mem → Prop} (F : ∀ X : MX, Cx G X cX0_share 5 RX0 11 0 0 (some .int) "share" → X.2.1 = l → (EX h h ∧ R32 x1 ∧ R32 x2 ∧ R32 x3) →
    XS h ∧ kX0_isPainter G X.2.1 x1 h (fun r1 h2 => EX h h2 → ((r1 = 0 → P (-1) h2) ∧ (r1 ≠ 0 → kX0_isThing G X.2.1 x2 h2 (fun r8 h9 => EX h2 h9 → ((r8 = 0 → P (-1) h9) ∧ (r8 ≠ 0 → kX0_in G X.2.1 x3 0 1 h9 (fun r15 h16 => EX h9 h16 → ((r15 ≠ 0 → h16 1 0 = 2 ∧ kX1_cellsOf G X.2.1 2 x1 x2 h16 (fun r23 h24 => EX h16 h24 → ((x3 ≠ 0 → h24 1 0 = 2 ∧ 0 ≤ x2 ∧ x2 < 4 ∧ kX0_divisor G X.2.1 10 (h24 4 x2) r23 h24 (fun r33 h34 => EX h24 h34 → 0 < r33 ∧ P ((h24 4 x2).tdiv r33) h34)) ∧ (x3 = 0 → h24 1 0 = 2 ∧ 0 ≤ x2 ∧ x2 < 4 ∧ kX0_divisor G X.2.1 10 (h24 4 x2) r23 h24 (fun r43 h44 => EX h24 h44 → 0 < r43 ∧ P (r23.tdiv r43) h44))))) ∧ (r15 = 0 → P (-1) h16)))))))))) :
    kX0_share G l x1 x2 x3 h P := by
  intro R1 R2 R3
  refine ct_of (by decide +kernel) (Nat.le_of_ble_eq_true rfl) fun X C e => ?_
  refine v_okz fun O => ?_
  exact wX0_share_0 C ⟨EX.rf O, R1, R2, R3⟩ (F X C e ⟨EX.rf O, R1, R2, R3⟩)
def kX0_triesScrapes (G : GT) (l : Launch) (d : Nat) (x1 x2 x3 x4 : Int) (h : Mem) (P : Int → Mem → Prop) : Prop := R32 x1 → R32 x2 → R32 x3 → R32 x4 → Ct G l yX0_triesScrapes cX0_triesScrapes 7 none 3 (d + 3) 0 0 [rf 1, iv x1, iv x2, iv x3, iv x4] h (PR h P)
set_option maxHeartbeats 4000000 in
theorem wX0_triesScrapes_0 {G : GT} {X : MX} {h0 h : Mem} {P : Int → Mem → Prop} {d0 : Nat} {x1 x2 x3 x4 : Int} (C : Cx G X cX0_triesScrapes 7 RX0 ((d0 + 1) + 3) 0 0 none "triesScrapes") (B0 : EX h0 h ∧ R32 x1 ∧ R32 x2 ∧ R32 x3 ∧ R32 x4)
    (F : XS h ∧ ((h 1 19 = (-1) → h 1 0 = 2 ∧ 0 ≤ x2 ∧ x2 < 4 ∧ ((x3 ≠ h 4 x2 → R32 (h 3 x2 + x3) ∧ ∀ y7 : Int, y7 = h 3 x2 + x3 → (EX h0 h ∧ R32 x1 ∧ R32 x2 ∧ R32 x3 ∧ R32 x4 ∧ R32 y7 ∧ R32 0 → V G X 7 0 0 (QF G X 3 0 0 (PR h0 P)) 82 [(0, rf 1), (1, iv x1), (2, iv x2), (3, iv x3), (4, iv x4), (5, iv y7), (6, iv 0)] [] h)) ∧ (x3 = h 4 x2 → kX1_whose G X.2.1 20 x2 h (fun r8 h9 => EX h h9 → ((r8 = x1 → ∀ h15 : Mem, h15 = up h9 1 19 x4 → ∀ h18 : Mem, h18 = cpy h15 172 0 173 0 6 → P 0 h18) ∧ (r8 ≠ x1 → P 0 h9)))))) ∧ (h 1 19 ≠ (-1) → ((x4 < h 1 19 → h 1 0 = 2 ∧ 0 ≤ x2 ∧ x2 < 4 ∧ ((x3 ≠ h 4 x2 → R32 (h 3 x2 + x3) ∧ ∀ y27 : Int, y27 = h 3 x2 + x3 → (EX h0 h ∧ R32 x1 ∧ R32 x2 ∧ R32 x3 ∧ R32 x4 ∧ R32 y27 ∧ R32 0 → V G X 7 0 0 (QF G X 3 0 0 (PR h0 P)) 82 [(0, rf 1), (1, iv x1), (2, iv x2), (3, iv x3), (4, iv x4), (5, iv y27), (6, iv 0)] [] h)) ∧ (x3 = h 4 x2 → kX1_whose G X.2.1 20 x2 h (fun r28 h29 => EX h h29 → ((r28 = x1 → ∀ h35 : Mem, h35 = up h29 1 19 x4 → ∀ h38 : Mem, h38 = cpy h35 172 0 173 0 6 → P 0 h38) ∧ (r28 ≠ x1 → P 0 h29)))))) ∧ (x4 ≥ h 1 19 → P 0 h))))) :
    V G X 7 0 0 (QF G X 3 0 0 (PR h0 P)) 0 [(0, rf 1), (1, iv x1), (2, iv x2), (3, iv x3), (4, iv x4)] [] h := by
  obtain ⟨B, R1, R2, R3, R4⟩ := B0
  have E : EX h h := EX.rf B.2
  obtain ⟨SX, F⟩ := F
  refine v_aload_n C 0 rfl rfl dX0_triesScrapes_0 ?_
  refine gX0_310 C (SX.ext E.1).k1 rfl dX0_triesScrapes_1 ?_
  refine v_iconst C dX0_triesScrapes_4 ?_
  refine v_icmp_eq C 18 (EX.rI B (j := 19) (SX.ext E.1).k1 rfl) ⟨by decide, by decide⟩ dX0_triesScrapes_5 (by decide) (fun c1 => ?_) (fun c1 => ?_)
  · have F := F.1 (c1)
    refine v_iload_n C 3 rfl rfl dX0_triesScrapes_18 ?_
    refine v_aload_n C 0 rfl rfl dX0_triesScrapes_19 ?_
    obtain ⟨o2, F⟩ := F
    refine gX0_149 C (SX.ext E.1).k1 o2 dX0_triesScrapes_20 ?_
    refine gX0_218 C ((SX.ext E.1).t2).k ((SX.ext E.1).t2).f14 dX0_triesScrapes_23 ?_
    refine v_iload_n C 2 rfl rfl dX0_triesScrapes_26 ?_
    obtain ⟨o3, F⟩ := F
    obtain ⟨o4, F⟩ := F
    refine v_iald C ((SX.ext E.1).t2).k14 o3 (by rw [((SX.ext E.1).t2).l14]; exact o4) rfl dX0_triesScrapes_27 ?_
    refine v_icmp_ne C 66 R3 (EX.rI B (j := x2) ((SX.ext E.1).t2).k14 rfl) dX0_triesScrapes_28 (by decide) (fun c5 => ?_) (fun c5 => ?_)
    · have F := F.1 (c5)
      refine v_aload_n C 0 rfl rfl dX0_triesScrapes_66 ?_
      refine gX0_149 C (SX.ext E.1).k1 o2 dX0_triesScrapes_67 ?_
      refine gX0_215 C ((SX.ext E.1).t2).k ((SX.ext E.1).t2).f13 dX0_triesScrapes_70 ?_
      refine v_iload_n C 2 rfl rfl dX0_triesScrapes_73 ?_
      refine v_iald C ((SX.ext E.1).t2).k13 o3 (by rw [((SX.ext E.1).t2).l13]; exact o4) rfl dX0_triesScrapes_74 ?_
      refine v_iload_n C 3 rfl rfl dX0_triesScrapes_75 ?_
      refine v_iadd C dX0_triesScrapes_76 ?_
      obtain ⟨o6, F⟩ := F
      obtain ⟨y7, ey7⟩ : ∃ z : Int, z = h 3 x2 + x3 := ⟨_, rfl⟩
      have F := F y7 ey7
      have Ry7 : R32 y7 := by rw [ey7]; exact o6
      refine v_istore C (by decide) dX0_triesScrapes_77 (lv2 := [(5, iv y7), (0, rf 1), (1, iv x1), (2, iv x2), (3, iv x3), (4, iv x4)]) (by rw [ey7]; rfl) ?_
      refine v_iconst C dX0_triesScrapes_79 ?_
      refine v_istore C (by decide) dX0_triesScrapes_80 (lv2 := [(6, iv 0), (5, iv y7), (0, rf 1), (1, iv x1), (2, iv x2), (3, iv x3), (4, iv x4)]) rfl ?_
      refine v_sub (lv2 := [(0, rf 1), (1, iv x1), (2, iv x2), (3, iv x3), (4, iv x4), (5, iv y7), (6, iv 0)]) [2, 3, 4, 5, 6, 1, 0] rfl ?_
      exact F ⟨B, R1, R2, R3, R4, Ry7, ⟨by decide, by decide⟩⟩
    · have F := F.2 (c5)
      refine v_aload_n C 0 rfl rfl dX0_triesScrapes_31 ?_
      refine gX0_18 C (SX.ext E.1).k1 (SX.ext E.1).f2 dX0_triesScrapes_32 ?_
      refine v_iload_n C 2 rfl rfl dX0_triesScrapes_35 ?_
      refine mX0_223 C ((SX.ext E.1).t20).k (d2 := 2) (kc2 := 0) (ks2 := 0) (by omega) (Nat.le_refl _) (Nat.le_refl _) (Nat.le_of_ble_eq_true rfl) dX0_triesScrapes_36 (Ct.mono (F R2) ?_)
      rintro r8 h9 ⟨e10, g11, F⟩
      have F := F e10
      have B12 := B.tr e10
      have E13 := E.tr e10
      refine v_iload_n C 1 rfl rfl dX0_triesScrapes_39 ?_
      refine v_icmp_eq C 44 g11 R1 dX0_triesScrapes_40 (by decide) (fun c14 => ?_) (fun c14 => ?_)
      · have F := F.1 (c14)
        refine v_aload_n C 0 rfl rfl dX0_triesScrapes_44 ?_
        refine v_iload C 4 rfl dX0_triesScrapes_45 ?_
        refine pX0_310 C (SX.ext E13.1).k1 (okI_i rfl R4) dX0_triesScrapes_47 ?_
        obtain ⟨h15, eh15⟩ : ∃ m : Mem, m = up h9 1 19 x4 := ⟨_, rfl⟩
        have B16 : EX h0 h15 := by rw [eh15]; exact EX_up B12 (SX.ext E13.1).k1 (by decide) rfl (by decide) (okI_i rfl R4)
        have E17 : EX h h15 := by rw [eh15]; exact EX_up E13 (SX.ext E13.1).k1 (by decide) rfl (by decide) (okI_i rfl R4)
        refine v_mem eh15 ?_
        have F := F h15 eh15
        refine v_aload_n C 0 rfl rfl dX0_triesScrapes_50 ?_
        refine gX0_104 C (SX.ext E17.1).k1 (SX.ext E17.1).f17 dX0_triesScrapes_51 ?_
        refine v_iconst C dX0_triesScrapes_54 ?_
        refine v_aload_n C 0 rfl rfl dX0_triesScrapes_55 ?_
        refine gX0_107 C (SX.ext E17.1).k1 (SX.ext E17.1).f18 dX0_triesScrapes_56 ?_
        refine v_iconst C dX0_triesScrapes_59 ?_
        refine v_bipush C rfl dX0_triesScrapes_60 ?_
        refine v_copy C q932 q540 q539 q137 (by omega) (Nat.le_of_ble_eq_true rfl) (SX.ext E17.1).k172 (SX.ext E17.1).k173 (by decide) (by decide) (by decide) (by rw [(SX.ext E17.1).l172]; decide) (by rw [(SX.ext E17.1).l173]; decide) dX0_triesScrapes_62 ?_
        obtain ⟨h18, eh18⟩ : ∃ m : Mem, m = cpy h15 172 0 173 0 6 := ⟨_, rfl⟩
        have B19 : EX h0 h18 := by rw [eh18]; exact EX_cpy B16 (SX.ext E17.1).k172 (SX.ext E17.1).k173 (by decide)
        have E20 : EX h h18 := by rw [eh18]; exact EX_cpy E17 (SX.ext E17.1).k172 (SX.ext E17.1).k173 (by decide)
        refine v_mem eh18 ?_
        have F := F h18 eh18
        exact v_vret C (Nat.le_refl _) (Nat.le_refl _) dX0_triesScrapes_65 ⟨B19, F⟩
      · have F := F.2 (c14)
        exact v_vret C (Nat.le_refl _) (Nat.le_refl _) dX0_triesScrapes_43 ⟨B12, F⟩
  · have F := F.2 (c1)
    refine v_iload C 4 rfl dX0_triesScrapes_8 ?_
    refine v_aload_n C 0 rfl rfl dX0_triesScrapes_10 ?_
    refine gX0_310 C (SX.ext E.1).k1 rfl dX0_triesScrapes_11 ?_
    refine v_icmp_lt C 18 R4 (EX.rI B (j := 19) (SX.ext E.1).k1 rfl) dX0_triesScrapes_14 (by decide) (fun c21 => ?_) (fun c21 => ?_)
    · have F := F.1 (c21)
      refine v_iload_n C 3 rfl rfl dX0_triesScrapes_18 ?_
      refine v_aload_n C 0 rfl rfl dX0_triesScrapes_19 ?_
      obtain ⟨o22, F⟩ := F
      refine gX0_149 C (SX.ext E.1).k1 o22 dX0_triesScrapes_20 ?_
      refine gX0_218 C ((SX.ext E.1).t2).k ((SX.ext E.1).t2).f14 dX0_triesScrapes_23 ?_
      refine v_iload_n C 2 rfl rfl dX0_triesScrapes_26 ?_
      obtain ⟨o23, F⟩ := F
      obtain ⟨o24, F⟩ := F
      refine v_iald C ((SX.ext E.1).t2).k14 o23 (by rw [((SX.ext E.1).t2).l14]; exact o24) rfl dX0_triesScrapes_27 ?_
      refine v_icmp_ne C 66 R3 (EX.rI B (j := x2) ((SX.ext E.1).t2).k14 rfl) dX0_triesScrapes_28 (by decide) (fun c25 => ?_) (fun c25 => ?_)
      · have F := F.1 (c25)
        refine v_aload_n C 0 rfl rfl dX0_triesScrapes_66 ?_
        refine gX0_149 C (SX.ext E.1).k1 o22 dX0_triesScrapes_67 ?_
        refine gX0_215 C ((SX.ext E.1).t2).k ((SX.ext E.1).t2).f13 dX0_triesScrapes_70 ?_
        refine v_iload_n C 2 rfl rfl dX0_triesScrapes_73 ?_
        refine v_iald C ((SX.ext E.1).t2).k13 o23 (by rw [((SX.ext E.1).t2).l13]; exact o24) rfl dX0_triesScrapes_74 ?_
        refine v_iload_n C 3 rfl rfl dX0_triesScrapes_75 ?_
        refine v_iadd C dX0_triesScrapes_76 ?_
        obtain ⟨o26, F⟩ := F
        obtain ⟨y27, ey27⟩ : ∃ z : Int, z = h 3 x2 + x3 := ⟨_, rfl⟩
        have F := F y27 ey27
        have Ry27 : R32 y27 := by rw [ey27]; exact o26
        refine v_istore C (by decide) dX0_triesScrapes_77 (lv2 := [(5, iv y27), (0, rf 1), (1, iv x1), (2, iv x2), (3, iv x3), (4, iv x4)]) (by rw [ey27]; rfl) ?_
        refine v_iconst C dX0_triesScrapes_79 ?_
        refine v_istore C (by decide) dX0_triesScrapes_80 (lv2 := [(6, iv 0), (5, iv y27), (0, rf 1), (1, iv x1), (2, iv x2), (3, iv x3), (4, iv x4)]) rfl ?_
        refine v_sub (lv2 := [(0, rf 1), (1, iv x1), (2, iv x2), (3, iv x3), (4, iv x4), (5, iv y27), (6, iv 0)]) [2, 3, 4, 5, 6, 1, 0] rfl ?_
        exact F ⟨B, R1, R2, R3, R4, Ry27, ⟨by decide, by decide⟩⟩
      · have F := F.2 (c25)
        refine v_aload_n C 0 rfl rfl dX0_triesScrapes_31 ?_
        refine gX0_18 C (SX.ext E.1).k1 (SX.ext E.1).f2 dX0_triesScrapes_32 ?_
        refine v_iload_n C 2 rfl rfl dX0_triesScrapes_35 ?_
        refine mX0_223 C ((SX.ext E.1).t20).k (d2 := 2) (kc2 := 0) (ks2 := 0) (by omega) (Nat.le_refl _) (Nat.le_refl _) (Nat.le_of_ble_eq_true rfl) dX0_triesScrapes_36 (Ct.mono (F R2) ?_)
        rintro r28 h29 ⟨e30, g31, F⟩
        have F := F e30
        have B32 := B.tr e30
        have E33 := E.tr e30
        refine v_iload_n C 1 rfl rfl dX0_triesScrapes_39 ?_
        refine v_icmp_eq C 44 g31 R1 dX0_triesScrapes_40 (by decide) (fun c34 => ?_) (fun c34 => ?_)
        · have F := F.1 (c34)
          refine v_aload_n C 0 rfl rfl dX0_triesScrapes_44 ?_
          refine v_iload C 4 rfl dX0_triesScrapes_45 ?_
          refine pX0_310 C (SX.ext E33.1).k1 (okI_i rfl R4) dX0_triesScrapes_47 ?_
          obtain ⟨h35, eh35⟩ : ∃ m : Mem, m = up h29 1 19 x4 := ⟨_, rfl⟩
          have B36 : EX h0 h35 := by rw [eh35]; exact EX_up B32 (SX.ext E33.1).k1 (by decide) rfl (by decide) (okI_i rfl R4)
          have E37 : EX h h35 := by rw [eh35]; exact EX_up E33 (SX.ext E33.1).k1 (by decide) rfl (by decide) (okI_i rfl R4)
          refine v_mem eh35 ?_
          have F := F h35 eh35
          refine v_aload_n C 0 rfl rfl dX0_triesScrapes_50 ?_
          refine gX0_104 C (SX.ext E37.1).k1 (SX.ext E37.1).f17 dX0_triesScrapes_51 ?_
          refine v_iconst C dX0_triesScrapes_54 ?_
          refine v_aload_n C 0 rfl rfl dX0_triesScrapes_55 ?_
          refine gX0_107 C (SX.ext E37.1).k1 (SX.ext E37.1).f18 dX0_triesScrapes_56 ?_
          refine v_iconst C dX0_triesScrapes_59 ?_
          refine v_bipush C rfl dX0_triesScrapes_60 ?_
          refine v_copy C q932 q540 q539 q137 (by omega) (Nat.le_of_ble_eq_true rfl) (SX.ext E37.1).k172 (SX.ext E37.1).k173 (by decide) (by decide) (by decide) (by rw [(SX.ext E37.1).l172]; decide) (by rw [(SX.ext E37.1).l173]; decide) dX0_triesScrapes_62 ?_
          obtain ⟨h38, eh38⟩ : ∃ m : Mem, m = cpy h35 172 0 173 0 6 := ⟨_, rfl⟩
          have B39 : EX h0 h38 := by rw [eh38]; exact EX_cpy B36 (SX.ext E37.1).k172 (SX.ext E37.1).k173 (by decide)
          have E40 : EX h h38 := by rw [eh38]; exact EX_cpy E37 (SX.ext E37.1).k172 (SX.ext E37.1).k173 (by decide)
          refine v_mem eh38 ?_
          have F := F h38 eh38
          exact v_vret C (Nat.le_refl _) (Nat.le_refl _) dX0_triesScrapes_65 ⟨B39, F⟩
        · have F := F.2 (c34)
          exact v_vret C (Nat.le_refl _) (Nat.le_refl _) dX0_triesScrapes_43 ⟨B32, F⟩
    · have F := F.2 (c21)
      exact v_vret C (Nat.le_refl _) (Nat.le_refl _) dX0_triesScrapes_17 ⟨B, F⟩
set_option maxHeartbeats 4000000 in
theorem wX0_triesScrapes_L82 {G : GT} {X : MX} {h0 h : Mem} {P : Int → Mem → Prop} {d0 : Nat} {x1 x2 x3 x4 x5 x6 : Int} (C : Cx G X cX0_triesScrapes 7 RX0 ((d0 + 1) + 3) 0 0 none "triesScrapes") (B0 : EX h0 h ∧ R32 x1 ∧ R32 x2 ∧ R32 x3 ∧ R32 x4 ∧ R32 x5 ∧ R32 x6)
    (F : XS h ∧ h 1 0 = 2 ∧ 0 ≤ x5 ∧ x5 < 16 ∧ ((x6 > h 13 x5 → ∀ h5 : Mem, h5 = up h 31 x5 (h 13 x5) → P 0 h5) ∧ (x6 ≤ h 13 x5 → 0 ≤ x3 ∧ x3 < 6 ∧ ∀ h10 : Mem, h10 = up h 172 x3 x6 → R32 (h 13 x5 - x6) ∧ ∀ h14 : Mem, h14 = up h10 31 x5 (h 13 x5 - x6) → R32 (x3 + 1) ∧ R32 (x4 + x6) ∧ kX0_triesScrapes G X.2.1 d0 x1 x2 (x3 + 1) (x4 + x6) h14 (fun _ h20 => EX h14 h20 → R32 (x6 + 1) ∧ (EX h0 h20 ∧ R32 x1 ∧ R32 x2 ∧ R32 x3 ∧ R32 x4 ∧ R32 x5 ∧ R32 (x6 + 1) → V G X 7 0 0 (QF G X 3 0 0 (PR h0 P)) 82 [(0, rf 1), (1, iv x1), (2, iv x2), (3, iv x3), (4, iv x4), (5, iv x5), (6, iv (x6 + 1))] [] h20))))) :
    V G X 7 0 0 (QF G X 3 0 0 (PR h0 P)) 82 [(0, rf 1), (1, iv x1), (2, iv x2), (3, iv x3), (4, iv x4), (5, iv x5), (6, iv x6)] [] h := by
  obtain ⟨B, R1, R2, R3, R4, R5, R6⟩ := B0
  have E : EX h h := EX.rf B.2
  obtain ⟨SX, F⟩ := F
  refine v_iload C 6 rfl dX0_triesScrapes_82 ?_
  refine v_aload_n C 0 rfl rfl dX0_triesScrapes_84 ?_
  obtain ⟨o1, F⟩ := F
  refine gX0_149 C (SX.ext E.1).k1 o1 dX0_triesScrapes_85 ?_
  refine gX0_179 C ((SX.ext E.1).t2).k ((SX.ext E.1).t2).f23 dX0_triesScrapes_88 ?_
  refine v_iload C 5 rfl dX0_triesScrapes_91 ?_
  obtain ⟨o2, F⟩ := F
  obtain ⟨o3, F⟩ := F
  refine v_iald C ((SX.ext E.1).t2).k23 o2 (by rw [((SX.ext E.1).t2).l23]; exact o3) rfl dX0_triesScrapes_93 ?_
  refine v_icmp_gt C 148 R6 (EX.rI B (j := x5) ((SX.ext E.1).t2).k23 rfl) dX0_triesScrapes_94 (by decide) (fun c4 => ?_) (fun c4 => ?_)
  · have F := F.1 (c4)
    refine v_aload_n C 0 rfl rfl dX0_triesScrapes_148 ?_
    refine gX0_18 C (SX.ext E.1).k1 (SX.ext E.1).f2 dX0_triesScrapes_149 ?_
    refine gX0_179 C ((SX.ext E.1).t20).k ((SX.ext E.1).t20).f23 dX0_triesScrapes_152 ?_
    refine v_iload C 5 rfl dX0_triesScrapes_155 ?_
    refine v_aload_n C 0 rfl rfl dX0_triesScrapes_157 ?_
    refine gX0_149 C (SX.ext E.1).k1 o1 dX0_triesScrapes_158 ?_
    refine gX0_179 C ((SX.ext E.1).t2).k ((SX.ext E.1).t2).f23 dX0_triesScrapes_161 ?_
    refine v_iload C 5 rfl dX0_triesScrapes_164 ?_
    refine v_iald C ((SX.ext E.1).t2).k23 o2 (by rw [((SX.ext E.1).t2).l23]; exact o3) rfl dX0_triesScrapes_166 ?_
    refine v_iast C ((SX.ext E.1).t20).k23 o2 (by rw [((SX.ext E.1).t20).l23]; exact o3) (EX.rI B (j := x5) ((SX.ext E.1).t2).k23 rfl) dX0_triesScrapes_167 ?_
    obtain ⟨h5, eh5⟩ : ∃ m : Mem, m = up h 31 x5 (h 13 x5) := ⟨_, rfl⟩
    have B6 : EX h0 h5 := by rw [eh5]; exact EX_up B ((SX.ext E.1).t20).k23 (by decide) rfl o2 (okI_a (Or.inl rfl) (EX.rI B (j := x5) ((SX.ext E.1).t2).k23 rfl))
    have E7 : EX h h5 := by rw [eh5]; exact EX_up E ((SX.ext E.1).t20).k23 (by decide) rfl o2 (okI_a (Or.inl rfl) (EX.rI B (j := x5) ((SX.ext E.1).t2).k23 rfl))
    refine v_mem eh5 ?_
    have F := F h5 eh5
    exact v_vret C (Nat.le_refl _) (Nat.le_refl _) dX0_triesScrapes_168 ⟨B6, F⟩
  · have F := F.2 (c4)
    refine v_aload_n C 0 rfl rfl dX0_triesScrapes_97 ?_
    refine gX0_104 C (SX.ext E.1).k1 (SX.ext E.1).f17 dX0_triesScrapes_98 ?_
    refine v_iload_n C 3 rfl rfl dX0_triesScrapes_101 ?_
    refine v_iload C 6 rfl dX0_triesScrapes_102 ?_
    obtain ⟨o8, F⟩ := F
    obtain ⟨o9, F⟩ := F
    refine v_iast C (SX.ext E.1).k172 o8 (by rw [(SX.ext E.1).l172]; exact o9) R6 dX0_triesScrapes_104 ?_
    obtain ⟨h10, eh10⟩ : ∃ m : Mem, m = up h 172 x3 x6 := ⟨_, rfl⟩
    have B11 : EX h0 h10 := by rw [eh10]; exact EX_up B (SX.ext E.1).k172 (by decide) rfl o8 (okI_a (Or.inl rfl) R6)
    have E12 : EX h h10 := by rw [eh10]; exact EX_up E (SX.ext E.1).k172 (by decide) rfl o8 (okI_a (Or.inl rfl) R6)
    refine v_mem eh10 ?_
    have F := F h10 eh10
    refine v_aload_n C 0 rfl rfl dX0_triesScrapes_105 ?_
    refine gX0_18 C (SX.ext E12.1).k1 (SX.ext E12.1).f2 dX0_triesScrapes_106 ?_
    refine gX0_179 C ((SX.ext E12.1).t20).k ((SX.ext E12.1).t20).f23 dX0_triesScrapes_109 ?_
    refine v_iload C 5 rfl dX0_triesScrapes_112 ?_
    refine v_aload_n C 0 rfl rfl dX0_triesScrapes_114 ?_
    refine gX0_149 C (SX.ext E12.1).k1 ((show h10 1 0 = h 1 0 by rw [eh10, up_a (by decide)]).trans o1) dX0_triesScrapes_115 ?_
    refine gX0_179 C ((SX.ext E12.1).t2).k ((SX.ext E12.1).t2).f23 dX0_triesScrapes_118 ?_
    refine v_iload C 5 rfl dX0_triesScrapes_121 ?_
    refine v_iald C ((SX.ext E12.1).t2).k23 o2 (by rw [((SX.ext E12.1).t2).l23]; exact o3) (show h10 13 x5 = h 13 x5 by rw [eh10, up_a (by decide)]) dX0_triesScrapes_123 ?_
    refine v_iload C 6 rfl dX0_triesScrapes_124 ?_
    refine v_isub C dX0_triesScrapes_126 ?_
    obtain ⟨o13, F⟩ := F
    refine v_iast C ((SX.ext E12.1).t20).k23 o2 (by rw [((SX.ext E12.1).t20).l23]; exact o3) o13 dX0_triesScrapes_127 ?_
    obtain ⟨h14, eh14⟩ : ∃ m : Mem, m = up h10 31 x5 (h 13 x5 - x6) := ⟨_, rfl⟩
    have B15 : EX h0 h14 := by rw [eh14]; exact EX_up B11 ((SX.ext E12.1).t20).k23 (by decide) rfl o2 (okI_a (Or.inl rfl) o13)
    have E16 : EX h h14 := by rw [eh14]; exact EX_up E12 ((SX.ext E12.1).t20).k23 (by decide) rfl o2 (okI_a (Or.inl rfl) o13)
    refine v_mem eh14 ?_
    have F := F h14 eh14
    refine v_aload_n C 0 rfl rfl dX0_triesScrapes_128 ?_
    refine v_iload_n C 1 rfl rfl dX0_triesScrapes_129 ?_
    refine v_iload_n C 2 rfl rfl dX0_triesScrapes_130 ?_
    refine v_iload_n C 3 rfl rfl dX0_triesScrapes_131 ?_
    refine v_iconst C dX0_triesScrapes_132 ?_
    refine v_iadd C dX0_triesScrapes_133 ?_
    refine v_iload C 4 rfl dX0_triesScrapes_134 ?_
    refine v_iload C 6 rfl dX0_triesScrapes_136 ?_
    refine v_iadd C dX0_triesScrapes_138 ?_
    obtain ⟨o17, F⟩ := F
    obtain ⟨o18, F⟩ := F
    refine mX0_313 C (SX.ext E16.1).k1 (d2 := (d0 + 3)) (kc2 := 0) (ks2 := 0) (by omega) (Nat.le_refl _) (Nat.le_refl _) (Nat.le_of_ble_eq_true rfl) dX0_triesScrapes_139 (Ct.mono (F R1 R2 o17 o18) ?_)
    rintro r19 h20 ⟨e21, F⟩
    have F := F e21
    have B23 := B15.tr e21
    have E24 := E16.tr e21
    obtain ⟨o25, F⟩ := F
    refine v_iinc C 6 rfl (by decide) dX0_triesScrapes_142 (lv2 := [(6, iv (x6 + 1)), (0, rf 1), (1, iv x1), (2, iv x2), (3, iv x3), (4, iv x4), (5, iv x5)]) rfl ?_
    refine v_goto C 82 dX0_triesScrapes_145 (by decide) ?_
    refine v_sub (lv2 := [(0, rf 1), (1, iv x1), (2, iv x2), (3, iv x3), (4, iv x4), (5, iv x5), (6, iv (x6 + 1))]) [1, 2, 3, 4, 5, 6, 0] rfl ?_
    exact F ⟨B23, R1, R2, R3, R4, R5, o25⟩
set_option maxHeartbeats 1000000 in
theorem eX0_triesScrapes {G : GT} {l : Launch} {d0 : Nat} {x1 x2 x3 x4 : Int} {h : Mem} {P : Int → Mem → Prop} (F : ∀ X : MX, Cx G X cX0_triesScrapes 7 RX0 ((d0 + 1) + 3) 0 0 none "triesScrapes" → X.2.1 = l → (EX h h ∧ R32 x1 ∧ R32 x2 ∧ R32 x3 ∧ R32 x4) →
    XS h ∧ ((h 1 19 = (-1) → h 1 0 = 2 ∧ 0 ≤ x2 ∧ x2 < 4 ∧ ((x3 ≠ h 4 x2 → R32 (h 3 x2 + x3) ∧ ∀ y7 : Int, y7 = h 3 x2 + x3 → (EX h h ∧ R32 x1 ∧ R32 x2 ∧ R32 x3 ∧ R32 x4 ∧ R32 y7 ∧ R32 0 → V G X 7 0 0 (QF G X 3 0 0 (PR h P)) 82 [(0, rf 1), (1, iv x1), (2, iv x2), (3, iv x3), (4, iv x4), (5, iv y7), (6, iv 0)] [] h)) ∧ (x3 = h 4 x2 → kX1_whose G X.2.1 20 x2 h (fun r8 h9 => EX h h9 → ((r8 = x1 → ∀ h15 : Mem, h15 = up h9 1 19 x4 → ∀ h18 : Mem, h18 = cpy h15 172 0 173 0 6 → P 0 h18) ∧ (r8 ≠ x1 → P 0 h9)))))) ∧ (h 1 19 ≠ (-1) → ((x4 < h 1 19 → h 1 0 = 2 ∧ 0 ≤ x2 ∧ x2 < 4 ∧ ((x3 ≠ h 4 x2 → R32 (h 3 x2 + x3) ∧ ∀ y27 : Int, y27 = h 3 x2 + x3 → (EX h h ∧ R32 x1 ∧ R32 x2 ∧ R32 x3 ∧ R32 x4 ∧ R32 y27 ∧ R32 0 → V G X 7 0 0 (QF G X 3 0 0 (PR h P)) 82 [(0, rf 1), (1, iv x1), (2, iv x2), (3, iv x3), (4, iv x4), (5, iv y27), (6, iv 0)] [] h)) ∧ (x3 = h 4 x2 → kX1_whose G X.2.1 20 x2 h (fun r28 h29 => EX h h29 → ((r28 = x1 → ∀ h35 : Mem, h35 = up h29 1 19 x4 → ∀ h38 : Mem, h38 = cpy h35 172 0 173 0 6 → P 0 h38) ∧ (r28 ≠ x1 → P 0 h29)))))) ∧ (x4 ≥ h 1 19 → P 0 h))))) :
    kX0_triesScrapes G l (d0 + 1) x1 x2 x3 x4 h P := by
  intro R1 R2 R3 R4
  refine ct_of (by decide +kernel) (Nat.le_of_ble_eq_true rfl) fun X C e => ?_
  refine v_okz fun O => ?_
  exact wX0_triesScrapes_0 C ⟨EX.rf O, R1, R2, R3, R4⟩ (F X C e ⟨EX.rf O, R1, R2, R3, R4⟩)
def kX0_worthFrom (G : GT) (l : Launch) (d : Nat) (x1 x2 x3 x4 x5 : Int) (h : Mem) (P : Int → Mem → Prop) : Prop := R32 x1 → R32 x2 → R32 x3 → R32 x4 → R32 x5 → Ct G l yX0_worthFrom cX0_worthFrom 12 (some .int) 0 (d + 5) 0 0 [rf 1, iv x1, iv x2, iv x3, iv x4, iv x5] h (PI h P)
set_option maxHeartbeats 4000000 in
theorem wX0_worthFrom_0 {G : GT} {X : MX} {h0 h : Mem} {P : Int → Mem → Prop} {d0 : Nat} {x1 x2 x3 x4 x5 : Int} (C : Cx G X cX0_worthFrom 12 RX0 ((d0 + 1) + 5) 0 0 (some .int) "worthFrom") (B0 : EX h0 h ∧ R32 x1 ∧ R32 x2 ∧ R32 x3 ∧ R32 x4 ∧ R32 x5)
    (F : XS h ∧ ((x4 ≠ x5 → ((x4.tmod 2 ≠ 0 → (EX h0 h ∧ R32 x1 ∧ R32 x2 ∧ R32 x3 ∧ R32 x4 ∧ R32 x5 ∧ R32 0 ∧ R32 0 ∧ R32 (-1) → V G X 12 0 0 (QF G X 0 0 0 (PI h0 P)) 87 [(0, rf 1), (1, iv x1), (2, iv x2), (3, iv x3), (4, iv x4), (5, iv x5), (6, iv 0), (7, iv 0), (8, iv (-1))] [] h)) ∧ (x4.tmod 2 = 0 → (EX h0 h ∧ R32 x1 ∧ R32 x2 ∧ R32 x3 ∧ R32 x4 ∧ R32 x5 ∧ R32 1 ∧ R32 0 ∧ R32 (-1) → V G X 12 0 0 (QF G X 0 0 0 (PI h0 P)) 87 [(0, rf 1), (1, iv x1), (2, iv x2), (3, iv x3), (4, iv x4), (5, iv x5), (6, iv 1), (7, iv 0), (8, iv (-1))] [] h)))) ∧ (x4 = x5 → 0 ≤ x4 ∧ x4 < 5 ∧ kX1_standsAs G X.2.1 20 (h 38 x4) h (fun r5 h6 => EX h h6 → r5 = 20 ∧ (EX h0 h6 ∧ R32 x1 ∧ R32 x2 ∧ R32 x3 ∧ R32 0 → V G X 12 0 0 (QF G X 0 0 0 (PI h0 P)) 26 [(0, rf 1), (1, iv x1), (2, iv x2), (3, iv x3), (6, rf 20), (7, iv 0)] [] h6))))) :
    V G X 12 0 0 (QF G X 0 0 0 (PI h0 P)) 0 [(0, rf 1), (1, iv x1), (2, iv x2), (3, iv x3), (4, iv x4), (5, iv x5)] [] h := by
  obtain ⟨B, R1, R2, R3, R4, R5⟩ := B0
  have E : EX h h := EX.rf B.2
  obtain ⟨SX, F⟩ := F
  refine v_iload C 4 rfl dX0_worthFrom_0 ?_
  refine v_iload C 5 rfl dX0_worthFrom_2 ?_
  refine v_icmp_ne C 67 R4 R5 dX0_worthFrom_4 (by decide) (fun c1 => ?_) (fun c1 => ?_)
  · have F := F.1 (c1)
    refine v_iload C 4 rfl dX0_worthFrom_67 ?_
    refine v_iconst C dX0_worthFrom_69 ?_
    refine v_irem C R4 ⟨by decide, by decide⟩ (by decide) dX0_worthFrom_70 ?_
    refine v_if_ne C 78 (tmodR32 ⟨by decide, by decide⟩ (by decide)) dX0_worthFrom_71 (by decide) (fun c2 => ?_) (fun c2 => ?_)
    · have F := F.1 (c2)
      refine v_iconst C dX0_worthFrom_78 ?_
      refine v_istore C (by decide) dX0_worthFrom_79 (lv2 := [(6, iv 0), (0, rf 1), (1, iv x1), (2, iv x2), (3, iv x3), (4, iv x4), (5, iv x5)]) rfl ?_
      refine v_iconst C dX0_worthFrom_81 ?_
      refine v_istore C (by decide) dX0_worthFrom_82 (lv2 := [(7, iv 0), (6, iv 0), (0, rf 1), (1, iv x1), (2, iv x2), (3, iv x3), (4, iv x4), (5, iv x5)]) rfl ?_
      refine v_iconst C dX0_worthFrom_84 ?_
      refine v_istore C (by decide) dX0_worthFrom_85 (lv2 := [(8, iv (-1)), (7, iv 0), (6, iv 0), (0, rf 1), (1, iv x1), (2, iv x2), (3, iv x3), (4, iv x4), (5, iv x5)]) rfl ?_
      refine v_sub (lv2 := [(0, rf 1), (1, iv x1), (2, iv x2), (3, iv x3), (4, iv x4), (5, iv x5), (6, iv 0), (7, iv 0), (8, iv (-1))]) [3, 4, 5, 6, 7, 8, 2, 1, 0] rfl ?_
      exact F ⟨B, R1, R2, R3, R4, R5, ⟨by decide, by decide⟩, ⟨by decide, by decide⟩, ⟨by decide, by decide⟩⟩
    · have F := F.2 (c2)
      refine v_iconst C dX0_worthFrom_74 ?_
      refine v_goto C 79 dX0_worthFrom_75 (by decide) ?_
      refine v_istore C (by decide) dX0_worthFrom_79 (lv2 := [(6, iv 1), (0, rf 1), (1, iv x1), (2, iv x2), (3, iv x3), (4, iv x4), (5, iv x5)]) rfl ?_
      refine v_iconst C dX0_worthFrom_81 ?_
      refine v_istore C (by decide) dX0_worthFrom_82 (lv2 := [(7, iv 0), (6, iv 1), (0, rf 1), (1, iv x1), (2, iv x2), (3, iv x3), (4, iv x4), (5, iv x5)]) rfl ?_
      refine v_iconst C dX0_worthFrom_84 ?_
      refine v_istore C (by decide) dX0_worthFrom_85 (lv2 := [(8, iv (-1)), (7, iv 0), (6, iv 1), (0, rf 1), (1, iv x1), (2, iv x2), (3, iv x3), (4, iv x4), (5, iv x5)]) rfl ?_
      refine v_sub (lv2 := [(0, rf 1), (1, iv x1), (2, iv x2), (3, iv x3), (4, iv x4), (5, iv x5), (6, iv 1), (7, iv 0), (8, iv (-1))]) [3, 4, 5, 6, 7, 8, 2, 1, 0] rfl ?_
      exact F ⟨B, R1, R2, R3, R4, R5, ⟨by decide, by decide⟩, ⟨by decide, by decide⟩, ⟨by decide, by decide⟩⟩
  · have F := F.2 (c1)
    refine v_aload_n C 0 rfl rfl dX0_worthFrom_7 ?_
    refine gX0_18 C (SX.ext E.1).k1 (SX.ext E.1).f2 dX0_worthFrom_8 ?_
    refine v_aload_n C 0 rfl rfl dX0_worthFrom_11 ?_
    refine gX0_21 C (SX.ext E.1).k1 (SX.ext E.1).f3 dX0_worthFrom_12 ?_
    refine v_iload C 4 rfl dX0_worthFrom_15 ?_
    obtain ⟨o3, F⟩ := F
    obtain ⟨o4, F⟩ := F
    refine v_aald C 5 (by decide) (by decide) (SX.ext E.1).k38 o3 (by rw [(SX.ext E.1).l38]; exact o4) rfl dX0_worthFrom_17 ?_
    refine mX0_294 C ((SX.ext E.1).t20).k (d2 := 1) (kc2 := 0) (ks2 := 0) (by omega) (Nat.le_refl _) (Nat.le_refl _) (Nat.le_of_ble_eq_true rfl) dX0_worthFrom_18 (Ct.mono (F) ?_)
    rintro r5 h6 ⟨e7, F⟩
    replace F := F e7
    have B9 := B.tr e7
    have E10 := E.tr e7
    obtain ⟨r5q, F⟩ := F
    subst r5q
    refine v_astore C (by decide) dX0_worthFrom_21 (lv2 := [(6, rf 20), (0, rf 1), (1, iv x1), (2, iv x2), (3, iv x3), (4, iv x4), (5, iv x5)]) rfl ?_
    refine v_iconst C dX0_worthFrom_23 ?_
    refine v_istore C (by decide) dX0_worthFrom_24 (lv2 := [(7, iv 0), (6, rf 20), (0, rf 1), (1, iv x1), (2, iv x2), (3, iv x3), (4, iv x4), (5, iv x5)]) rfl ?_
    refine v_sub (lv2 := [(0, rf 1), (1, iv x1), (2, iv x2), (3, iv x3), (6, rf 20), (7, iv 0)]) [2, 3, 4, 5, 1, 0] rfl ?_
    exact F ⟨B9, R1, R2, R3, ⟨by decide, by decide⟩⟩
set_option maxHeartbeats 4000000 in
theorem wX0_worthFrom_L87 {G : GT} {X : MX} {h0 h : Mem} {P : Int → Mem → Prop} {d0 : Nat} {x1 x2 x3 x4 x5 x6 x7 x8 : Int} (C : Cx G X cX0_worthFrom 12 RX0 ((d0 + 1) + 5) 0 0 (some .int) "worthFrom") (B0 : EX h0 h ∧ R32 x1 ∧ R32 x2 ∧ R32 x3 ∧ R32 x4 ∧ R32 x5 ∧ R32 x6 ∧ R32 x7 ∧ R32 x8)
    (F : XS h ∧ h 1 0 = 2 ∧ 0 ≤ x3 ∧ x3 < 4 ∧ ((x8 ≥ h 4 x3 → P x7 h) ∧ (x8 < h 4 x3 → 0 ≤ x4 + 1 ∧ x4 + 1 < 5 ∧ 0 ≤ x4 ∧ x4 < 5 ∧ h (h 38 (x4 + 1)) (-1) = 2 ∧ kX1_standsAs G X.2.1 (h 38 (x4 + 1)) (h 38 x4) h (fun r10 h11 => EX h h11 → r10 = h 38 (x4 + 1) ∧ ((x8 ≠ (-1) → h11 1 0 = 2 ∧ R32 (h11 3 x3 + x8) ∧ ∀ y19 : Int, y19 = h11 3 x3 + x8 → ((y19 = (-1) → h11 (h 38 (x4 + 1)) (-1) = 2 ∧ kX1_closes G X.2.1 (h 38 (x4 + 1)) 165 h11 (fun _ h23 => EX h11 h23 → R32 (x4 + 1) ∧ kX0_worthFrom G X.2.1 d0 x1 x2 x3 (x4 + 1) x5 h23 (fun r29 h30 => EX h23 h30 → ((x8 = (-1) → ((x4 ≠ 0 → R32 (x8 + 1) ∧ (EX h0 h30 ∧ R32 x1 ∧ R32 x2 ∧ R32 x3 ∧ R32 x4 ∧ R32 x5 ∧ R32 x6 ∧ R32 r29 ∧ R32 (x8 + 1) → V G X 12 0 0 (QF G X 0 0 0 (PI h0 P)) 87 [(0, rf 1), (1, iv x1), (2, iv x2), (3, iv x3), (4, iv x4), (5, iv x5), (6, iv x6), (7, iv r29), (8, iv (x8 + 1))] [] h30)) ∧ (x4 = 0 → ∀ h38 : Mem, h38 = up h30 1 20 y19 → R32 (x8 + 1) ∧ (EX h0 h38 ∧ R32 x1 ∧ R32 x2 ∧ R32 x3 ∧ R32 x4 ∧ R32 x5 ∧ R32 x6 ∧ R32 r29 ∧ R32 (x8 + 1) → V G X 12 0 0 (QF G X 0 0 0 (PI h0 P)) 87 [(0, rf 1), (1, iv x1), (2, iv x2), (3, iv x3), (4, iv x4), (5, iv x5), (6, iv x6), (7, iv r29), (8, iv (x8 + 1))] [] h38)))) ∧ (x8 ≠ (-1) → ((x6 = 0 → ((r29 < x7 → ((x4 ≠ 0 → R32 (x8 + 1) ∧ (EX h0 h30 ∧ R32 x1 ∧ R32 x2 ∧ R32 x3 ∧ R32 x4 ∧ R32 x5 ∧ R32 x6 ∧ R32 r29 ∧ R32 (x8 + 1) → V G X 12 0 0 (QF G X 0 0 0 (PI h0 P)) 87 [(0, rf 1), (1, iv x1), (2, iv x2), (3, iv x3), (4, iv x4), (5, iv x5), (6, iv x6), (7, iv r29), (8, iv (x8 + 1))] [] h30)) ∧ (x4 = 0 → ∀ h46 : Mem, h46 = up h30 1 20 y19 → R32 (x8 + 1) ∧ (EX h0 h46 ∧ R32 x1 ∧ R32 x2 ∧ R32 x3 ∧ R32 x4 ∧ R32 x5 ∧ R32 x6 ∧ R32 r29 ∧ R32 (x8 + 1) → V G X 12 0 0 (QF G X 0 0 0 (PI h0 P)) 87 [(0, rf 1), (1, iv x1), (2, iv x2), (3, iv x3), (4, iv x4), (5, iv x5), (6, iv x6), (7, iv r29), (8, iv (x8 + 1))] [] h46)))) ∧ (r29 ≥ x7 → R32 (x8 + 1) ∧ (EX h0 h30 ∧ R32 x1 ∧ R32 x2 ∧ R32 x3 ∧ R32 x4 ∧ R32 x5 ∧ R32 x6 ∧ R32 x7 ∧ R32 (x8 + 1) → V G X 12 0 0 (QF G X 0 0 0 (PI h0 P)) 87 [(0, rf 1), (1, iv x1), (2, iv x2), (3, iv x3), (4, iv x4), (5, iv x5), (6, iv x6), (7, iv x7), (8, iv (x8 + 1))] [] h30)))) ∧ (x6 ≠ 0 → ((r29 > x7 → ((x4 ≠ 0 → R32 (x8 + 1) ∧ (EX h0 h30 ∧ R32 x1 ∧ R32 x2 ∧ R32 x3 ∧ R32 x4 ∧ R32 x5 ∧ R32 x6 ∧ R32 r29 ∧ R32 (x8 + 1) → V G X 12 0 0 (QF G X 0 0 0 (PI h0 P)) 87 [(0, rf 1), (1, iv x1), (2, iv x2), (3, iv x3), (4, iv x4), (5, iv x5), (6, iv x6), (7, iv r29), (8, iv (x8 + 1))] [] h30)) ∧ (x4 = 0 → ∀ h54 : Mem, h54 = up h30 1 20 y19 → R32 (x8 + 1) ∧ (EX h0 h54 ∧ R32 x1 ∧ R32 x2 ∧ R32 x3 ∧ R32 x4 ∧ R32 x5 ∧ R32 x6 ∧ R32 r29 ∧ R32 (x8 + 1) → V G X 12 0 0 (QF G X 0 0 0 (PI h0 P)) 87 [(0, rf 1), (1, iv x1), (2, iv x2), (3, iv x3), (4, iv x4), (5, iv x5), (6, iv x6), (7, iv r29), (8, iv (x8 + 1))] [] h54)))) ∧ (r29 ≤ x7 → R32 (x8 + 1) ∧ (EX h0 h30 ∧ R32 x1 ∧ R32 x2 ∧ R32 x3 ∧ R32 x4 ∧ R32 x5 ∧ R32 x6 ∧ R32 x7 ∧ R32 (x8 + 1) → V G X 12 0 0 (QF G X 0 0 0 (PI h0 P)) 87 [(0, rf 1), (1, iv x1), (2, iv x2), (3, iv x3), (4, iv x4), (5, iv x5), (6, iv x6), (7, iv x7), (8, iv (x8 + 1))] [] h30)))))))))) ∧ (y19 ≠ (-1) → ((x6 = 0 → h11 (h 38 (x4 + 1)) (-1) = 2 ∧ kX1_putsCoat G X.2.1 (h 38 (x4 + 1)) y19 x2 (h11 (h 38 (x4 + 1)) 11) h11 (fun _ h62 => EX h11 h62 → h62 (h 38 (x4 + 1)) (-1) = 2 ∧ kX1_closes G X.2.1 (h 38 (x4 + 1)) 165 h62 (fun _ h69 => EX h62 h69 → R32 (x4 + 1) ∧ kX0_worthFrom G X.2.1 d0 x1 x2 x3 (x4 + 1) x5 h69 (fun r75 h76 => EX h69 h76 → ((x8 = (-1) → ((x4 ≠ 0 → R32 (x8 + 1) ∧ (EX h0 h76 ∧ R32 x1 ∧ R32 x2 ∧ R32 x3 ∧ R32 x4 ∧ R32 x5 ∧ R32 x6 ∧ R32 r75 ∧ R32 (x8 + 1) → V G X 12 0 0 (QF G X 0 0 0 (PI h0 P)) 87 [(0, rf 1), (1, iv x1), (2, iv x2), (3, iv x3), (4, iv x4), (5, iv x5), (6, iv x6), (7, iv r75), (8, iv (x8 + 1))] [] h76)) ∧ (x4 = 0 → ∀ h84 : Mem, h84 = up h76 1 20 y19 → R32 (x8 + 1) ∧ (EX h0 h84 ∧ R32 x1 ∧ R32 x2 ∧ R32 x3 ∧ R32 x4 ∧ R32 x5 ∧ R32 x6 ∧ R32 r75 ∧ R32 (x8 + 1) → V G X 12 0 0 (QF G X 0 0 0 (PI h0 P)) 87 [(0, rf 1), (1, iv x1), (2, iv x2), (3, iv x3), (4, iv x4), (5, iv x5), (6, iv x6), (7, iv r75), (8, iv (x8 + 1))] [] h84)))) ∧ (x8 ≠ (-1) → ((x6 = 0 → ((r75 < x7 → ((x4 ≠ 0 → R32 (x8 + 1) ∧ (EX h0 h76 ∧ R32 x1 ∧ R32 x2 ∧ R32 x3 ∧ R32 x4 ∧ R32 x5 ∧ R32 x6 ∧ R32 r75 ∧ R32 (x8 + 1) → V G X 12 0 0 (QF G X 0 0 0 (PI h0 P)) 87 [(0, rf 1), (1, iv x1), (2, iv x2), (3, iv x3), (4, iv x4), (5, iv x5), (6, iv x6), (7, iv r75), (8, iv (x8 + 1))] [] h76)) ∧ (x4 = 0 → ∀ h92 : Mem, h92 = up h76 1 20 y19 → R32 (x8 + 1) ∧ (EX h0 h92 ∧ R32 x1 ∧ R32 x2 ∧ R32 x3 ∧ R32 x4 ∧ R32 x5 ∧ R32 x6 ∧ R32 r75 ∧ R32 (x8 + 1) → V G X 12 0 0 (QF G X 0 0 0 (PI h0 P)) 87 [(0, rf 1), (1, iv x1), (2, iv x2), (3, iv x3), (4, iv x4), (5, iv x5), (6, iv x6), (7, iv r75), (8, iv (x8 + 1))] [] h92)))) ∧ (r75 ≥ x7 → R32 (x8 + 1) ∧ (EX h0 h76 ∧ R32 x1 ∧ R32 x2 ∧ R32 x3 ∧ R32 x4 ∧ R32 x5 ∧ R32 x6 ∧ R32 x7 ∧ R32 (x8 + 1) → V G X 12 0 0 (QF G X 0 0 0 (PI h0 P)) 87 [(0, rf 1), (1, iv x1), (2, iv x2), (3, iv x3), (4, iv x4), (5, iv x5), (6, iv x6), (7, iv x7), (8, iv (x8 + 1))] [] h76)))) ∧ (x6 ≠ 0 → ((r75 > x7 → ((x4 ≠ 0 → R32 (x8 + 1) ∧ (EX h0 h76 ∧ R32 x1 ∧ R32 x2 ∧ R32 x3 ∧ R32 x4 ∧ R32 x5 ∧ R32 x6 ∧ R32 r75 ∧ R32 (x8 + 1) → V G X 12 0 0 (QF G X 0 0 0 (PI h0 P)) 87 [(0, rf 1), (1, iv x1), (2, iv x2), (3, iv x3), (4, iv x4), (5, iv x5), (6, iv x6), (7, iv r75), (8, iv (x8 + 1))] [] h76)) ∧ (x4 = 0 → ∀ h100 : Mem, h100 = up h76 1 20 y19 → R32 (x8 + 1) ∧ (EX h0 h100 ∧ R32 x1 ∧ R32 x2 ∧ R32 x3 ∧ R32 x4 ∧ R32 x5 ∧ R32 x6 ∧ R32 r75 ∧ R32 (x8 + 1) → V G X 12 0 0 (QF G X 0 0 0 (PI h0 P)) 87 [(0, rf 1), (1, iv x1), (2, iv x2), (3, iv x3), (4, iv x4), (5, iv x5), (6, iv x6), (7, iv r75), (8, iv (x8 + 1))] [] h100)))) ∧ (r75 ≤ x7 → R32 (x8 + 1) ∧ (EX h0 h76 ∧ R32 x1 ∧ R32 x2 ∧ R32 x3 ∧ R32 x4 ∧ R32 x5 ∧ R32 x6 ∧ R32 x7 ∧ R32 (x8 + 1) → V G X 12 0 0 (QF G X 0 0 0 (PI h0 P)) 87 [(0, rf 1), (1, iv x1), (2, iv x2), (3, iv x3), (4, iv x4), (5, iv x5), (6, iv x6), (7, iv x7), (8, iv (x8 + 1))] [] h76))))))))))) ∧ (x6 ≠ 0 → h11 (h 38 (x4 + 1)) (-1) = 2 ∧ kX1_putsCoat G X.2.1 (h 38 (x4 + 1)) y19 x1 (h11 (h 38 (x4 + 1)) 11) h11 (fun _ h107 => EX h11 h107 → h107 (h 38 (x4 + 1)) (-1) = 2 ∧ kX1_closes G X.2.1 (h 38 (x4 + 1)) 165 h107 (fun _ h114 => EX h107 h114 → R32 (x4 + 1) ∧ kX0_worthFrom G X.2.1 d0 x1 x2 x3 (x4 + 1) x5 h114 (fun r120 h121 => EX h114 h121 → ((x8 = (-1) → ((x4 ≠ 0 → R32 (x8 + 1) ∧ (EX h0 h121 ∧ R32 x1 ∧ R32 x2 ∧ R32 x3 ∧ R32 x4 ∧ R32 x5 ∧ R32 x6 ∧ R32 r120 ∧ R32 (x8 + 1) → V G X 12 0 0 (QF G X 0 0 0 (PI h0 P)) 87 [(0, rf 1), (1, iv x1), (2, iv x2), (3, iv x3), (4, iv x4), (5, iv x5), (6, iv x6), (7, iv r120), (8, iv (x8 + 1))] [] h121)) ∧ (x4 = 0 → ∀ h129 : Mem, h129 = up h121 1 20 y19 → R32 (x8 + 1) ∧ (EX h0 h129 ∧ R32 x1 ∧ R32 x2 ∧ R32 x3 ∧ R32 x4 ∧ R32 x5 ∧ R32 x6 ∧ R32 r120 ∧ R32 (x8 + 1) → V G X 12 0 0 (QF G X 0 0 0 (PI h0 P)) 87 [(0, rf 1), (1, iv x1), (2, iv x2), (3, iv x3), (4, iv x4), (5, iv x5), (6, iv x6), (7, iv r120), (8, iv (x8 + 1))] [] h129)))) ∧ (x8 ≠ (-1) → ((x6 = 0 → ((r120 < x7 → ((x4 ≠ 0 → R32 (x8 + 1) ∧ (EX h0 h121 ∧ R32 x1 ∧ R32 x2 ∧ R32 x3 ∧ R32 x4 ∧ R32 x5 ∧ R32 x6 ∧ R32 r120 ∧ R32 (x8 + 1) → V G X 12 0 0 (QF G X 0 0 0 (PI h0 P)) 87 [(0, rf 1), (1, iv x1), (2, iv x2), (3, iv x3), (4, iv x4), (5, iv x5), (6, iv x6), (7, iv r120), (8, iv (x8 + 1))] [] h121)) ∧ (x4 = 0 → ∀ h137 : Mem, h137 = up h121 1 20 y19 → R32 (x8 + 1) ∧ (EX h0 h137 ∧ R32 x1 ∧ R32 x2 ∧ R32 x3 ∧ R32 x4 ∧ R32 x5 ∧ R32 x6 ∧ R32 r120 ∧ R32 (x8 + 1) → V G X 12 0 0 (QF G X 0 0 0 (PI h0 P)) 87 [(0, rf 1), (1, iv x1), (2, iv x2), (3, iv x3), (4, iv x4), (5, iv x5), (6, iv x6), (7, iv r120), (8, iv (x8 + 1))] [] h137)))) ∧ (r120 ≥ x7 → R32 (x8 + 1) ∧ (EX h0 h121 ∧ R32 x1 ∧ R32 x2 ∧ R32 x3 ∧ R32 x4 ∧ R32 x5 ∧ R32 x6 ∧ R32 x7 ∧ R32 (x8 + 1) → V G X 12 0 0 (QF G X 0 0 0 (PI h0 P)) 87 [(0, rf 1), (1, iv x1), (2, iv x2), (3, iv x3), (4, iv x4), (5, iv x5), (6, iv x6), (7, iv x7), (8, iv (x8 + 1))] [] h121)))) ∧ (x6 ≠ 0 → ((r120 > x7 → ((x4 ≠ 0 → R32 (x8 + 1) ∧ (EX h0 h121 ∧ R32 x1 ∧ R32 x2 ∧ R32 x3 ∧ R32 x4 ∧ R32 x5 ∧ R32 x6 ∧ R32 r120 ∧ R32 (x8 + 1) → V G X 12 0 0 (QF G X 0 0 0 (PI h0 P)) 87 [(0, rf 1), (1, iv x1), (2, iv x2), (3, iv x3), (4, iv x4), (5, iv x5), (6, iv x6), (7, iv r120), (8, iv (x8 + 1))] [] h121)) ∧ (x4 = 0 → ∀ h145 : Mem, h145 = up h121 1 20 y19 → R32 (x8 + 1) ∧ (EX h0 h145 ∧ R32 x1 ∧ R32 x2 ∧ R32 x3 ∧ R32 x4 ∧ R32 x5 ∧ R32 x6 ∧ R32 r120 ∧ R32 (x8 + 1) → V G X 12 0 0 (QF G X 0 0 0 (PI h0 P)) 87 [(0, rf 1), (1, iv x1), (2, iv x2), (3, iv x3), (4, iv x4), (5, iv x5), (6, iv x6), (7, iv r120), (8, iv (x8 + 1))] [] h145)))) ∧ (r120 ≤ x7 → R32 (x8 + 1) ∧ (EX h0 h121 ∧ R32 x1 ∧ R32 x2 ∧ R32 x3 ∧ R32 x4 ∧ R32 x5 ∧ R32 x6 ∧ R32 x7 ∧ R32 (x8 + 1) → V G X 12 0 0 (QF G X 0 0 0 (PI h0 P)) 87 [(0, rf 1), (1, iv x1), (2, iv x2), (3, iv x3), (4, iv x4), (5, iv x5), (6, iv x6), (7, iv x7), (8, iv (x8 + 1))] [] h121))))))))))))))) ∧ (x8 = (-1) → h11 (h 38 (x4 + 1)) (-1) = 2 ∧ kX1_closes G X.2.1 (h 38 (x4 + 1)) 165 h11 (fun _ h152 => EX h11 h152 → R32 (x4 + 1) ∧ kX0_worthFrom G X.2.1 d0 x1 x2 x3 (x4 + 1) x5 h152 (fun r158 h159 => EX h152 h159 → ((x8 = (-1) → ((x4 ≠ 0 → R32 (x8 + 1) ∧ (EX h0 h159 ∧ R32 x1 ∧ R32 x2 ∧ R32 x3 ∧ R32 x4 ∧ R32 x5 ∧ R32 x6 ∧ R32 r158 ∧ R32 (x8 + 1) → V G X 12 0 0 (QF G X 0 0 0 (PI h0 P)) 87 [(0, rf 1), (1, iv x1), (2, iv x2), (3, iv x3), (4, iv x4), (5, iv x5), (6, iv x6), (7, iv r158), (8, iv (x8 + 1))] [] h159)) ∧ (x4 = 0 → ∀ h167 : Mem, h167 = up h159 1 20 (-1) → R32 (x8 + 1) ∧ (EX h0 h167 ∧ R32 x1 ∧ R32 x2 ∧ R32 x3 ∧ R32 x4 ∧ R32 x5 ∧ R32 x6 ∧ R32 r158 ∧ R32 (x8 + 1) → V G X 12 0 0 (QF G X 0 0 0 (PI h0 P)) 87 [(0, rf 1), (1, iv x1), (2, iv x2), (3, iv x3), (4, iv x4), (5, iv x5), (6, iv x6), (7, iv r158), (8, iv (x8 + 1))] [] h167)))) ∧ (x8 ≠ (-1) → ((x6 = 0 → ((r158 < x7 → ((x4 ≠ 0 → R32 (x8 + 1) ∧ (EX h0 h159 ∧ R32 x1 ∧ R32 x2 ∧ R32 x3 ∧ R32 x4 ∧ R32 x5 ∧ R32 x6 ∧ R32 r158 ∧ R32 (x8 + 1) → V G X 12 0 0 (QF G X 0 0 0 (PI h0 P)) 87 [(0, rf 1), (1, iv x1), (2, iv x2), (3, iv x3), (4, iv x4), (5, iv x5), (6, iv x6), (7, iv r158), (8, iv (x8 + 1))] [] h159)) ∧ (x4 = 0 → ∀ h175 : Mem, h175 = up h159 1 20 (-1) → R32 (x8 + 1) ∧ (EX h0 h175 ∧ R32 x1 ∧ R32 x2 ∧ R32 x3 ∧ R32 x4 ∧ R32 x5 ∧ R32 x6 ∧ R32 r158 ∧ R32 (x8 + 1) → V G X 12 0 0 (QF G X 0 0 0 (PI h0 P)) 87 [(0, rf 1), (1, iv x1), (2, iv x2), (3, iv x3), (4, iv x4), (5, iv x5), (6, iv x6), (7, iv r158), (8, iv (x8 + 1))] [] h175)))) ∧ (r158 ≥ x7 → R32 (x8 + 1) ∧ (EX h0 h159 ∧ R32 x1 ∧ R32 x2 ∧ R32 x3 ∧ R32 x4 ∧ R32 x5 ∧ R32 x6 ∧ R32 x7 ∧ R32 (x8 + 1) → V G X 12 0 0 (QF G X 0 0 0 (PI h0 P)) 87 [(0, rf 1), (1, iv x1), (2, iv x2), (3, iv x3), (4, iv x4), (5, iv x5), (6, iv x6), (7, iv x7), (8, iv (x8 + 1))] [] h159)))) ∧ (x6 ≠ 0 → ((r158 > x7 → ((x4 ≠ 0 → R32 (x8 + 1) ∧ (EX h0 h159 ∧ R32 x1 ∧ R32 x2 ∧ R32 x3 ∧ R32 x4 ∧ R32 x5 ∧ R32 x6 ∧ R32 r158 ∧ R32 (x8 + 1) → V G X 12 0 0 (QF G X 0 0 0 (PI h0 P)) 87 [(0, rf 1), (1, iv x1), (2, iv x2), (3, iv x3), (4, iv x4), (5, iv x5), (6, iv x6), (7, iv r158), (8, iv (x8 + 1))] [] h159)) ∧ (x4 = 0 → ∀ h183 : Mem, h183 = up h159 1 20 (-1) → R32 (x8 + 1) ∧ (EX h0 h183 ∧ R32 x1 ∧ R32 x2 ∧ R32 x3 ∧ R32 x4 ∧ R32 x5 ∧ R32 x6 ∧ R32 r158 ∧ R32 (x8 + 1) → V G X 12 0 0 (QF G X 0 0 0 (PI h0 P)) 87 [(0, rf 1), (1, iv x1), (2, iv x2), (3, iv x3), (4, iv x4), (5, iv x5), (6, iv x6), (7, iv r158), (8, iv (x8 + 1))] [] h183)))) ∧ (r158 ≤ x7 → R32 (x8 + 1) ∧ (EX h0 h159 ∧ R32 x1 ∧ R32 x2 ∧ R32 x3 ∧ R32 x4 ∧ R32 x5 ∧ R32 x6 ∧ R32 x7 ∧ R32 (x8 + 1) → V G X 12 0 0 (QF G X 0 0 0 (PI h0 P)) 87 [(0, rf 1), (1, iv x1), (2, iv x2), (3, iv x3), (4, iv x4), (5, iv x5), (6, iv x6), (7, iv x7), (8, iv (x8 + 1))] [] h159))))))))))))))) :
    V G X 12 0 0 (QF G X 0 0 0 (PI h0 P)) 87 [(0, rf 1), (1, iv x1), (2, iv x2), (3, iv x3), (4, iv x4), (5, iv x5), (6, iv x6), (7, iv x7), (8, iv x8)] [] h := by
  obtain ⟨B, R1, R2, R3, R4, R5, R6, R7, R8⟩ := B0
  have E : EX h h := EX.rf B.2
  obtain ⟨SX, F⟩ := F
  refine v_iload C 8 rfl dX0_worthFrom_87 ?_
  refine v_aload_n C 0 rfl rfl dX0_worthFrom_89 ?_
  obtain ⟨o1, F⟩ := F
  refine gX0_149 C (SX.ext E.1).k1 o1 dX0_worthFrom_90 ?_
  refine gX0_218 C ((SX.ext E.1).t2).k ((SX.ext E.1).t2).f14 dX0_worthFrom_93 ?_
  refine v_iload_n C 3 rfl rfl dX0_worthFrom_96 ?_
  obtain ⟨o2, F⟩ := F
  obtain ⟨o3, F⟩ := F
  refine v_iald C ((SX.ext E.1).t2).k14 o2 (by rw [((SX.ext E.1).t2).l14]; exact o3) rfl dX0_worthFrom_97 ?_
  refine v_icmp_ge C 250 R8 (EX.rI B (j := x3) ((SX.ext E.1).t2).k14 rfl) dX0_worthFrom_98 (by decide) (fun c4 => ?_) (fun c4 => ?_)
  · have F := F.1 (c4)
    refine v_iload C 7 rfl dX0_worthFrom_250 ?_
    exact v_iret C (Nat.le_refl _) (Nat.le_refl _) dX0_worthFrom_252 ⟨B, R7, F⟩
  · have F := F.2 (c4)
    refine v_aload_n C 0 rfl rfl dX0_worthFrom_101 ?_
    refine gX0_21 C (SX.ext E.1).k1 (SX.ext E.1).f3 dX0_worthFrom_102 ?_
    refine v_iload C 4 rfl dX0_worthFrom_105 ?_
    refine v_iconst C dX0_worthFrom_107 ?_
    refine v_iadd C dX0_worthFrom_108 ?_
    obtain ⟨o5, F⟩ := F
    obtain ⟨o6, F⟩ := F
    refine v_aald C 5 (by decide) (by decide) (SX.ext E.1).k38 o5 (by rw [(SX.ext E.1).l38]; exact o6) rfl dX0_worthFrom_109 ?_
    refine v_aload_n C 0 rfl rfl dX0_worthFrom_110 ?_
    refine gX0_21 C (SX.ext E.1).k1 (SX.ext E.1).f3 dX0_worthFrom_111 ?_
    refine v_iload C 4 rfl dX0_worthFrom_114 ?_
    obtain ⟨o7, F⟩ := F
    obtain ⟨o8, F⟩ := F
    refine v_aald C 5 (by decide) (by decide) (SX.ext E.1).k38 o7 (by rw [(SX.ext E.1).l38]; exact o8) rfl dX0_worthFrom_116 ?_
    obtain ⟨o9, F⟩ := F
    refine mX0_294 C o9 (d2 := 1) (kc2 := 0) (ks2 := 0) (by omega) (Nat.le_refl _) (Nat.le_refl _) (Nat.le_of_ble_eq_true rfl) dX0_worthFrom_117 (Ct.mono (F) ?_)
    rintro r10 h11 ⟨e12, F⟩
    replace F := F e12
    have B14 := B.tr e12
    have E15 := E.tr e12
    obtain ⟨r10q, F⟩ := F
    subst r10q
    refine v_astore C (by decide) dX0_worthFrom_120 (lv2 := [(9, rf (h 38 (x4 + 1))), (0, rf 1), (1, iv x1), (2, iv x2), (3, iv x3), (4, iv x4), (5, iv x5), (6, iv x6), (7, iv x7), (8, iv x8)]) rfl ?_
    refine v_iload C 9 rfl dX0_worthFrom_122 ?_
    refine v_iconst C dX0_worthFrom_124 ?_
    refine v_icmp_ne C 132 R8 ⟨by decide, by decide⟩ dX0_worthFrom_125 (by decide) (fun c16 => ?_) (fun c16 => ?_)
    · have F := F.1 (c16)
      refine v_aload_n C 1 rfl rfl dX0_worthFrom_132 ?_
      obtain ⟨o17, F⟩ := F
      refine gX0_149 C (SX.ext E15.1).k1 o17 dX0_worthFrom_133 ?_
      refine gX0_215 C ((SX.ext E15.1).t2).k ((SX.ext E15.1).t2).f13 dX0_worthFrom_136 ?_
      refine v_iload_n C 4 rfl rfl dX0_worthFrom_139 ?_
      refine v_iald C ((SX.ext E15.1).t2).k13 o2 (by rw [((SX.ext E15.1).t2).l13]; exact o3) rfl dX0_worthFrom_140 ?_
      refine v_iload C 9 rfl dX0_worthFrom_141 ?_
      refine v_iadd C dX0_worthFrom_143 ?_
      obtain ⟨o18, F⟩ := F
      obtain ⟨y19, ey19⟩ : ∃ z : Int, z = h11 3 x3 + x8 := ⟨_, rfl⟩
      have F := F y19 ey19
      have Ry19 : R32 y19 := by rw [ey19]; exact o18
      refine v_istore C (by decide) dX0_worthFrom_144 (lv2 := [(10, iv y19), (9, rf (h 38 (x4 + 1))), (0, rf 1), (1, iv x1), (2, iv x2), (3, iv x3), (4, iv x4), (5, iv x5), (6, iv x6), (7, iv x7), (8, iv x8)]) (by rw [ey19]; rfl) ?_
      refine v_iload C 0 rfl dX0_worthFrom_146 ?_
      refine v_iconst C dX0_worthFrom_148 ?_
      refine v_icmp_eq C 174 Ry19 ⟨by decide, by decide⟩ dX0_worthFrom_149 (by decide) (fun c20 => ?_) (fun c20 => ?_)
      · have F := F.1 (c20)
        refine v_aload C 1 rfl dX0_worthFrom_174 ?_
        refine v_aload_n C 2 rfl rfl dX0_worthFrom_176 ?_
        refine gX0_31 C (SX.ext E15.1).k1 (SX.ext E15.1).f6 dX0_worthFrom_177 ?_
        obtain ⟨o21, F⟩ := F
        refine mX0_297 C o21 (d2 := 4) (kc2 := 0) (ks2 := 0) (by omega) (Nat.le_refl _) (Nat.le_refl _) (Nat.le_of_ble_eq_true rfl) dX0_worthFrom_180 (Ct.mono (F) ?_)
        rintro r22 h23 ⟨e24, F⟩
        have F := F e24
        have B26 := B14.tr e24
        have E27 := E15.tr e24
        refine v_aload_n C 2 rfl rfl dX0_worthFrom_183 ?_
        refine v_iload_n C 3 rfl rfl dX0_worthFrom_184 ?_
        refine v_iload_n C 4 rfl rfl dX0_worthFrom_185 ?_
        refine v_iload_n C 5 rfl rfl dX0_worthFrom_186 ?_
        refine v_iload C 6 rfl dX0_worthFrom_187 ?_
        refine v_iconst C dX0_worthFrom_189 ?_
        refine v_iadd C dX0_worthFrom_190 ?_
        refine v_iload C 7 rfl dX0_worthFrom_191 ?_
        obtain ⟨o28, F⟩ := F
        refine mX0_328 C (SX.ext E27.1).k1 (d2 := (d0 + 5)) (kc2 := 0) (ks2 := 0) (by omega) (Nat.le_refl _) (Nat.le_refl _) (Nat.le_of_ble_eq_true rfl) dX0_worthFrom_193 (Ct.mono (F R1 R2 R3 o28 R5) ?_)
        rintro r29 h30 ⟨e31, g32, F⟩
        have F := F e31
        have B33 := B26.tr e31
        have E34 := E27.tr e31
        refine v_istore C (by decide) dX0_worthFrom_196 (lv2 := [(11, iv r29), (10, iv y19), (9, rf (h 38 (x4 + 1))), (0, rf 1), (1, iv x1), (2, iv x2), (3, iv x3), (4, iv x4), (5, iv x5), (6, iv x6), (7, iv x7), (8, iv x8)]) rfl ?_
        refine v_iload C 11 rfl dX0_worthFrom_198 ?_
        refine v_iconst C dX0_worthFrom_200 ?_
        refine v_icmp_eq C 229 R8 ⟨by decide, by decide⟩ dX0_worthFrom_201 (by decide) (fun c35 => ?_) (fun c35 => ?_)
        · have F := F.1 (c35)
          refine v_iload C 0 rfl dX0_worthFrom_229 ?_
          refine v_istore C (by decide) dX0_worthFrom_231 (lv2 := [(7, iv r29), (11, iv r29), (10, iv y19), (9, rf (h 38 (x4 + 1))), (0, rf 1), (1, iv x1), (2, iv x2), (3, iv x3), (4, iv x4), (5, iv x5), (6, iv x6), (8, iv x8)]) rfl ?_
          refine v_iload C 8 rfl dX0_worthFrom_233 ?_
          refine v_if_ne C 244 R4 dX0_worthFrom_235 (by decide) (fun c36 => ?_) (fun c36 => ?_)
          · have F := F.1 (c36)
            obtain ⟨o37, F⟩ := F
            refine v_iinc C 11 rfl (by decide) dX0_worthFrom_244 (lv2 := [(8, iv (x8 + 1)), (7, iv r29), (11, iv r29), (10, iv y19), (9, rf (h 38 (x4 + 1))), (0, rf 1), (1, iv x1), (2, iv x2), (3, iv x3), (4, iv x4), (5, iv x5), (6, iv x6)]) rfl ?_
            refine v_goto C 87 dX0_worthFrom_247 (by decide) ?_
            refine v_sub (lv2 := [(0, rf 1), (1, iv x1), (2, iv x2), (3, iv x3), (4, iv x4), (5, iv x5), (6, iv x6), (7, iv r29), (8, iv (x8 + 1))]) [5, 6, 7, 8, 9, 10, 11, 1, 0] rfl ?_
            exact F ⟨B33, R1, R2, R3, R4, R5, R6, g32, o37⟩
          · have F := F.2 (c36)
            refine v_aload_n C 4 rfl rfl dX0_worthFrom_238 ?_
            refine v_iload C 2 rfl dX0_worthFrom_239 ?_
            refine pX0_332 C (SX.ext E34.1).k1 (okI_i rfl Ry19) dX0_worthFrom_241 ?_
            obtain ⟨h38, eh38⟩ : ∃ m : Mem, m = up h30 1 20 y19 := ⟨_, rfl⟩
            have B39 : EX h0 h38 := by rw [eh38]; exact EX_up B33 (SX.ext E34.1).k1 (by decide) rfl (by decide) (okI_i rfl Ry19)
            have E40 : EX h h38 := by rw [eh38]; exact EX_up E34 (SX.ext E34.1).k1 (by decide) rfl (by decide) (okI_i rfl Ry19)
            refine v_mem eh38 ?_
            have F := F h38 eh38
            obtain ⟨o41, F⟩ := F
            refine v_iinc C 11 rfl (by decide) dX0_worthFrom_244 (lv2 := [(8, iv (x8 + 1)), (7, iv r29), (11, iv r29), (10, iv y19), (9, rf (h 38 (x4 + 1))), (0, rf 1), (1, iv x1), (2, iv x2), (3, iv x3), (4, iv x4), (5, iv x5), (6, iv x6)]) rfl ?_
            refine v_goto C 87 dX0_worthFrom_247 (by decide) ?_
            refine v_sub (lv2 := [(0, rf 1), (1, iv x1), (2, iv x2), (3, iv x3), (4, iv x4), (5, iv x5), (6, iv x6), (7, iv r29), (8, iv (x8 + 1))]) [5, 6, 7, 8, 9, 10, 11, 1, 0] rfl ?_
            exact F ⟨B39, R1, R2, R3, R4, R5, R6, g32, o41⟩
        · have F := F.2 (c35)
          refine v_iload C 9 rfl dX0_worthFrom_204 ?_
          refine v_if_eq C 219 R6 dX0_worthFrom_206 (by decide) (fun c42 => ?_) (fun c42 => ?_)
          · have F := F.1 (c42)
            refine v_iload C 0 rfl dX0_worthFrom_219 ?_
            refine v_iload C 10 rfl dX0_worthFrom_221 ?_
            refine v_icmp_lt C 229 g32 R7 dX0_worthFrom_223 (by decide) (fun c43 => ?_) (fun c43 => ?_)
            · have F := F.1 (c43)
              refine v_iload C 0 rfl dX0_worthFrom_229 ?_
              refine v_istore C (by decide) dX0_worthFrom_231 (lv2 := [(7, iv r29), (11, iv r29), (10, iv y19), (9, rf (h 38 (x4 + 1))), (0, rf 1), (1, iv x1), (2, iv x2), (3, iv x3), (4, iv x4), (5, iv x5), (6, iv x6), (8, iv x8)]) rfl ?_
              refine v_iload C 8 rfl dX0_worthFrom_233 ?_
              refine v_if_ne C 244 R4 dX0_worthFrom_235 (by decide) (fun c44 => ?_) (fun c44 => ?_)
              · have F := F.1 (c44)
                obtain ⟨o45, F⟩ := F
                refine v_iinc C 11 rfl (by decide) dX0_worthFrom_244 (lv2 := [(8, iv (x8 + 1)), (7, iv r29), (11, iv r29), (10, iv y19), (9, rf (h 38 (x4 + 1))), (0, rf 1), (1, iv x1), (2, iv x2), (3, iv x3), (4, iv x4), (5, iv x5), (6, iv x6)]) rfl ?_
                refine v_goto C 87 dX0_worthFrom_247 (by decide) ?_
                refine v_sub (lv2 := [(0, rf 1), (1, iv x1), (2, iv x2), (3, iv x3), (4, iv x4), (5, iv x5), (6, iv x6), (7, iv r29), (8, iv (x8 + 1))]) [5, 6, 7, 8, 9, 10, 11, 1, 0] rfl ?_
                exact F ⟨B33, R1, R2, R3, R4, R5, R6, g32, o45⟩
              · have F := F.2 (c44)
                refine v_aload_n C 4 rfl rfl dX0_worthFrom_238 ?_
                refine v_iload C 2 rfl dX0_worthFrom_239 ?_
                refine pX0_332 C (SX.ext E34.1).k1 (okI_i rfl Ry19) dX0_worthFrom_241 ?_
                obtain ⟨h46, eh46⟩ : ∃ m : Mem, m = up h30 1 20 y19 := ⟨_, rfl⟩
                have B47 : EX h0 h46 := by rw [eh46]; exact EX_up B33 (SX.ext E34.1).k1 (by decide) rfl (by decide) (okI_i rfl Ry19)
                have E48 : EX h h46 := by rw [eh46]; exact EX_up E34 (SX.ext E34.1).k1 (by decide) rfl (by decide) (okI_i rfl Ry19)
                refine v_mem eh46 ?_
                have F := F h46 eh46
                obtain ⟨o49, F⟩ := F
                refine v_iinc C 11 rfl (by decide) dX0_worthFrom_244 (lv2 := [(8, iv (x8 + 1)), (7, iv r29), (11, iv r29), (10, iv y19), (9, rf (h 38 (x4 + 1))), (0, rf 1), (1, iv x1), (2, iv x2), (3, iv x3), (4, iv x4), (5, iv x5), (6, iv x6)]) rfl ?_
                refine v_goto C 87 dX0_worthFrom_247 (by decide) ?_
                refine v_sub (lv2 := [(0, rf 1), (1, iv x1), (2, iv x2), (3, iv x3), (4, iv x4), (5, iv x5), (6, iv x6), (7, iv r29), (8, iv (x8 + 1))]) [5, 6, 7, 8, 9, 10, 11, 1, 0] rfl ?_
                exact F ⟨B47, R1, R2, R3, R4, R5, R6, g32, o49⟩
            · have F := F.2 (c43)
              refine v_goto C 244 dX0_worthFrom_226 (by decide) ?_
              obtain ⟨o50, F⟩ := F
              refine v_iinc C 11 rfl (by decide) dX0_worthFrom_244 (lv2 := [(8, iv (x8 + 1)), (11, iv r29), (10, iv y19), (9, rf (h 38 (x4 + 1))), (0, rf 1), (1, iv x1), (2, iv x2), (3, iv x3), (4, iv x4), (5, iv x5), (6, iv x6), (7, iv x7)]) rfl ?_
              refine v_goto C 87 dX0_worthFrom_247 (by decide) ?_
              refine v_sub (lv2 := [(0, rf 1), (1, iv x1), (2, iv x2), (3, iv x3), (4, iv x4), (5, iv x5), (6, iv x6), (7, iv x7), (8, iv (x8 + 1))]) [4, 5, 6, 7, 8, 9, 10, 11, 0] rfl ?_
              exact F ⟨B33, R1, R2, R3, R4, R5, R6, R7, o50⟩
          · have F := F.2 (c42)
            refine v_iload C 0 rfl dX0_worthFrom_209 ?_
            refine v_iload C 10 rfl dX0_worthFrom_211 ?_
            refine v_icmp_gt C 229 g32 R7 dX0_worthFrom_213 (by decide) (fun c51 => ?_) (fun c51 => ?_)
            · have F := F.1 (c51)
              refine v_iload C 0 rfl dX0_worthFrom_229 ?_
              refine v_istore C (by decide) dX0_worthFrom_231 (lv2 := [(7, iv r29), (11, iv r29), (10, iv y19), (9, rf (h 38 (x4 + 1))), (0, rf 1), (1, iv x1), (2, iv x2), (3, iv x3), (4, iv x4), (5, iv x5), (6, iv x6), (8, iv x8)]) rfl ?_
              refine v_iload C 8 rfl dX0_worthFrom_233 ?_
              refine v_if_ne C 244 R4 dX0_worthFrom_235 (by decide) (fun c52 => ?_) (fun c52 => ?_)
              · have F := F.1 (c52)
                obtain ⟨o53, F⟩ := F
                refine v_iinc C 11 rfl (by decide) dX0_worthFrom_244 (lv2 := [(8, iv (x8 + 1)), (7, iv r29), (11, iv r29), (10, iv y19), (9, rf (h 38 (x4 + 1))), (0, rf 1), (1, iv x1), (2, iv x2), (3, iv x3), (4, iv x4), (5, iv x5), (6, iv x6)]) rfl ?_
                refine v_goto C 87 dX0_worthFrom_247 (by decide) ?_
                refine v_sub (lv2 := [(0, rf 1), (1, iv x1), (2, iv x2), (3, iv x3), (4, iv x4), (5, iv x5), (6, iv x6), (7, iv r29), (8, iv (x8 + 1))]) [5, 6, 7, 8, 9, 10, 11, 1, 0] rfl ?_
                exact F ⟨B33, R1, R2, R3, R4, R5, R6, g32, o53⟩
              · have F := F.2 (c52)
                refine v_aload_n C 4 rfl rfl dX0_worthFrom_238 ?_
                refine v_iload C 2 rfl dX0_worthFrom_239 ?_
                refine pX0_332 C (SX.ext E34.1).k1 (okI_i rfl Ry19) dX0_worthFrom_241 ?_
                obtain ⟨h54, eh54⟩ : ∃ m : Mem, m = up h30 1 20 y19 := ⟨_, rfl⟩
                have B55 : EX h0 h54 := by rw [eh54]; exact EX_up B33 (SX.ext E34.1).k1 (by decide) rfl (by decide) (okI_i rfl Ry19)
                have E56 : EX h h54 := by rw [eh54]; exact EX_up E34 (SX.ext E34.1).k1 (by decide) rfl (by decide) (okI_i rfl Ry19)
                refine v_mem eh54 ?_
                have F := F h54 eh54
                obtain ⟨o57, F⟩ := F
                refine v_iinc C 11 rfl (by decide) dX0_worthFrom_244 (lv2 := [(8, iv (x8 + 1)), (7, iv r29), (11, iv r29), (10, iv y19), (9, rf (h 38 (x4 + 1))), (0, rf 1), (1, iv x1), (2, iv x2), (3, iv x3), (4, iv x4), (5, iv x5), (6, iv x6)]) rfl ?_
                refine v_goto C 87 dX0_worthFrom_247 (by decide) ?_
                refine v_sub (lv2 := [(0, rf 1), (1, iv x1), (2, iv x2), (3, iv x3), (4, iv x4), (5, iv x5), (6, iv x6), (7, iv r29), (8, iv (x8 + 1))]) [5, 6, 7, 8, 9, 10, 11, 1, 0] rfl ?_
                exact F ⟨B55, R1, R2, R3, R4, R5, R6, g32, o57⟩
            · have F := F.2 (c51)
              refine v_goto C 244 dX0_worthFrom_216 (by decide) ?_
              obtain ⟨o58, F⟩ := F
              refine v_iinc C 11 rfl (by decide) dX0_worthFrom_244 (lv2 := [(8, iv (x8 + 1)), (11, iv r29), (10, iv y19), (9, rf (h 38 (x4 + 1))), (0, rf 1), (1, iv x1), (2, iv x2), (3, iv x3), (4, iv x4), (5, iv x5), (6, iv x6), (7, iv x7)]) rfl ?_
              refine v_goto C 87 dX0_worthFrom_247 (by decide) ?_
              refine v_sub (lv2 := [(0, rf 1), (1, iv x1), (2, iv x2), (3, iv x3), (4, iv x4), (5, iv x5), (6, iv x6), (7, iv x7), (8, iv (x8 + 1))]) [4, 5, 6, 7, 8, 9, 10, 11, 0] rfl ?_
              exact F ⟨B33, R1, R2, R3, R4, R5, R6, R7, o58⟩
      · have F := F.2 (c20)
        refine v_aload C 1 rfl dX0_worthFrom_152 ?_
        refine v_iload C 0 rfl dX0_worthFrom_154 ?_
        refine v_iload C 8 rfl dX0_worthFrom_156 ?_
        refine v_if_eq C 165 R6 dX0_worthFrom_158 (by decide) (fun c59 => ?_) (fun c59 => ?_)
        · have F := F.1 (c59)
          refine v_iload_n C 4 rfl rfl dX0_worthFrom_165 ?_
          refine v_aload C 1 rfl dX0_worthFrom_166 ?_
          obtain ⟨o60, F⟩ := F
          refine gX0_257 C o60 rfl dX0_worthFrom_168 ?_
          refine mX0_290 C o60 (d2 := 0) (kc2 := 0) (ks2 := 0) (by omega) (Nat.le_refl _) (Nat.le_refl _) (Nat.le_of_ble_eq_true rfl) dX0_worthFrom_171 (Ct.mono (F Ry19 R2 (EX.rI B14 (j := 11) o60 rfl)) ?_)
          rintro r61 h62 ⟨e63, F⟩
          have F := F e63
          have B65 := B14.tr e63
          have E66 := E15.tr e63
          refine v_aload C 1 rfl dX0_worthFrom_174 ?_
          refine v_aload_n C 2 rfl rfl dX0_worthFrom_176 ?_
          refine gX0_31 C (SX.ext E66.1).k1 (SX.ext E66.1).f6 dX0_worthFrom_177 ?_
          obtain ⟨o67, F⟩ := F
          refine mX0_297 C o67 (d2 := 4) (kc2 := 0) (ks2 := 0) (by omega) (Nat.le_refl _) (Nat.le_refl _) (Nat.le_of_ble_eq_true rfl) dX0_worthFrom_180 (Ct.mono (F) ?_)
          rintro r68 h69 ⟨e70, F⟩
          have F := F e70
          have B72 := B65.tr e70
          have E73 := E66.tr e70
          refine v_aload_n C 2 rfl rfl dX0_worthFrom_183 ?_
          refine v_iload_n C 3 rfl rfl dX0_worthFrom_184 ?_
          refine v_iload_n C 4 rfl rfl dX0_worthFrom_185 ?_
          refine v_iload_n C 5 rfl rfl dX0_worthFrom_186 ?_
          refine v_iload C 6 rfl dX0_worthFrom_187 ?_
          refine v_iconst C dX0_worthFrom_189 ?_
          refine v_iadd C dX0_worthFrom_190 ?_
          refine v_iload C 7 rfl dX0_worthFrom_191 ?_
          obtain ⟨o74, F⟩ := F
          refine mX0_328 C (SX.ext E73.1).k1 (d2 := (d0 + 5)) (kc2 := 0) (ks2 := 0) (by omega) (Nat.le_refl _) (Nat.le_refl _) (Nat.le_of_ble_eq_true rfl) dX0_worthFrom_193 (Ct.mono (F R1 R2 R3 o74 R5) ?_)
          rintro r75 h76 ⟨e77, g78, F⟩
          have F := F e77
          have B79 := B72.tr e77
          have E80 := E73.tr e77
          refine v_istore C (by decide) dX0_worthFrom_196 (lv2 := [(11, iv r75), (10, iv y19), (9, rf (h 38 (x4 + 1))), (0, rf 1), (1, iv x1), (2, iv x2), (3, iv x3), (4, iv x4), (5, iv x5), (6, iv x6), (7, iv x7), (8, iv x8)]) rfl ?_
          refine v_iload C 11 rfl dX0_worthFrom_198 ?_
          refine v_iconst C dX0_worthFrom_200 ?_
          refine v_icmp_eq C 229 R8 ⟨by decide, by decide⟩ dX0_worthFrom_201 (by decide) (fun c81 => ?_) (fun c81 => ?_)
          · have F := F.1 (c81)
            refine v_iload C 0 rfl dX0_worthFrom_229 ?_
            refine v_istore C (by decide) dX0_worthFrom_231 (lv2 := [(7, iv r75), (11, iv r75), (10, iv y19), (9, rf (h 38 (x4 + 1))), (0, rf 1), (1, iv x1), (2, iv x2), (3, iv x3), (4, iv x4), (5, iv x5), (6, iv x6), (8, iv x8)]) rfl ?_
            refine v_iload C 8 rfl dX0_worthFrom_233 ?_
            refine v_if_ne C 244 R4 dX0_worthFrom_235 (by decide) (fun c82 => ?_) (fun c82 => ?_)
            · have F := F.1 (c82)
              obtain ⟨o83, F⟩ := F
              refine v_iinc C 11 rfl (by decide) dX0_worthFrom_244 (lv2 := [(8, iv (x8 + 1)), (7, iv r75), (11, iv r75), (10, iv y19), (9, rf (h 38 (x4 + 1))), (0, rf 1), (1, iv x1), (2, iv x2), (3, iv x3), (4, iv x4), (5, iv x5), (6, iv x6)]) rfl ?_
              refine v_goto C 87 dX0_worthFrom_247 (by decide) ?_
              refine v_sub (lv2 := [(0, rf 1), (1, iv x1), (2, iv x2), (3, iv x3), (4, iv x4), (5, iv x5), (6, iv x6), (7, iv r75), (8, iv (x8 + 1))]) [5, 6, 7, 8, 9, 10, 11, 1, 0] rfl ?_
              exact F ⟨B79, R1, R2, R3, R4, R5, R6, g78, o83⟩
            · have F := F.2 (c82)
              refine v_aload_n C 4 rfl rfl dX0_worthFrom_238 ?_
              refine v_iload C 2 rfl dX0_worthFrom_239 ?_
              refine pX0_332 C (SX.ext E80.1).k1 (okI_i rfl Ry19) dX0_worthFrom_241 ?_
              obtain ⟨h84, eh84⟩ : ∃ m : Mem, m = up h76 1 20 y19 := ⟨_, rfl⟩
              have B85 : EX h0 h84 := by rw [eh84]; exact EX_up B79 (SX.ext E80.1).k1 (by decide) rfl (by decide) (okI_i rfl Ry19)
              have E86 : EX h h84 := by rw [eh84]; exact EX_up E80 (SX.ext E80.1).k1 (by decide) rfl (by decide) (okI_i rfl Ry19)
              refine v_mem eh84 ?_
              have F := F h84 eh84
              obtain ⟨o87, F⟩ := F
              refine v_iinc C 11 rfl (by decide) dX0_worthFrom_244 (lv2 := [(8, iv (x8 + 1)), (7, iv r75), (11, iv r75), (10, iv y19), (9, rf (h 38 (x4 + 1))), (0, rf 1), (1, iv x1), (2, iv x2), (3, iv x3), (4, iv x4), (5, iv x5), (6, iv x6)]) rfl ?_
              refine v_goto C 87 dX0_worthFrom_247 (by decide) ?_
              refine v_sub (lv2 := [(0, rf 1), (1, iv x1), (2, iv x2), (3, iv x3), (4, iv x4), (5, iv x5), (6, iv x6), (7, iv r75), (8, iv (x8 + 1))]) [5, 6, 7, 8, 9, 10, 11, 1, 0] rfl ?_
              exact F ⟨B85, R1, R2, R3, R4, R5, R6, g78, o87⟩
          · have F := F.2 (c81)
            refine v_iload C 9 rfl dX0_worthFrom_204 ?_
            refine v_if_eq C 219 R6 dX0_worthFrom_206 (by decide) (fun c88 => ?_) (fun c88 => ?_)
            · have F := F.1 (c88)
              refine v_iload C 0 rfl dX0_worthFrom_219 ?_
              refine v_iload C 10 rfl dX0_worthFrom_221 ?_
              refine v_icmp_lt C 229 g78 R7 dX0_worthFrom_223 (by decide) (fun c89 => ?_) (fun c89 => ?_)
              · have F := F.1 (c89)
                refine v_iload C 0 rfl dX0_worthFrom_229 ?_
                refine v_istore C (by decide) dX0_worthFrom_231 (lv2 := [(7, iv r75), (11, iv r75), (10, iv y19), (9, rf (h 38 (x4 + 1))), (0, rf 1), (1, iv x1), (2, iv x2), (3, iv x3), (4, iv x4), (5, iv x5), (6, iv x6), (8, iv x8)]) rfl ?_
                refine v_iload C 8 rfl dX0_worthFrom_233 ?_
                refine v_if_ne C 244 R4 dX0_worthFrom_235 (by decide) (fun c90 => ?_) (fun c90 => ?_)
                · have F := F.1 (c90)
                  obtain ⟨o91, F⟩ := F
                  refine v_iinc C 11 rfl (by decide) dX0_worthFrom_244 (lv2 := [(8, iv (x8 + 1)), (7, iv r75), (11, iv r75), (10, iv y19), (9, rf (h 38 (x4 + 1))), (0, rf 1), (1, iv x1), (2, iv x2), (3, iv x3), (4, iv x4), (5, iv x5), (6, iv x6)]) rfl ?_
                  refine v_goto C 87 dX0_worthFrom_247 (by decide) ?_
                  refine v_sub (lv2 := [(0, rf 1), (1, iv x1), (2, iv x2), (3, iv x3), (4, iv x4), (5, iv x5), (6, iv x6), (7, iv r75), (8, iv (x8 + 1))]) [5, 6, 7, 8, 9, 10, 11, 1, 0] rfl ?_
                  exact F ⟨B79, R1, R2, R3, R4, R5, R6, g78, o91⟩
                · have F := F.2 (c90)
                  refine v_aload_n C 4 rfl rfl dX0_worthFrom_238 ?_
                  refine v_iload C 2 rfl dX0_worthFrom_239 ?_
                  refine pX0_332 C (SX.ext E80.1).k1 (okI_i rfl Ry19) dX0_worthFrom_241 ?_
                  obtain ⟨h92, eh92⟩ : ∃ m : Mem, m = up h76 1 20 y19 := ⟨_, rfl⟩
                  have B93 : EX h0 h92 := by rw [eh92]; exact EX_up B79 (SX.ext E80.1).k1 (by decide) rfl (by decide) (okI_i rfl Ry19)
                  have E94 : EX h h92 := by rw [eh92]; exact EX_up E80 (SX.ext E80.1).k1 (by decide) rfl (by decide) (okI_i rfl Ry19)
                  refine v_mem eh92 ?_
                  have F := F h92 eh92
                  obtain ⟨o95, F⟩ := F
                  refine v_iinc C 11 rfl (by decide) dX0_worthFrom_244 (lv2 := [(8, iv (x8 + 1)), (7, iv r75), (11, iv r75), (10, iv y19), (9, rf (h 38 (x4 + 1))), (0, rf 1), (1, iv x1), (2, iv x2), (3, iv x3), (4, iv x4), (5, iv x5), (6, iv x6)]) rfl ?_
                  refine v_goto C 87 dX0_worthFrom_247 (by decide) ?_
                  refine v_sub (lv2 := [(0, rf 1), (1, iv x1), (2, iv x2), (3, iv x3), (4, iv x4), (5, iv x5), (6, iv x6), (7, iv r75), (8, iv (x8 + 1))]) [5, 6, 7, 8, 9, 10, 11, 1, 0] rfl ?_
                  exact F ⟨B93, R1, R2, R3, R4, R5, R6, g78, o95⟩
              · have F := F.2 (c89)
                refine v_goto C 244 dX0_worthFrom_226 (by decide) ?_
                obtain ⟨o96, F⟩ := F
                refine v_iinc C 11 rfl (by decide) dX0_worthFrom_244 (lv2 := [(8, iv (x8 + 1)), (11, iv r75), (10, iv y19), (9, rf (h 38 (x4 + 1))), (0, rf 1), (1, iv x1), (2, iv x2), (3, iv x3), (4, iv x4), (5, iv x5), (6, iv x6), (7, iv x7)]) rfl ?_
                refine v_goto C 87 dX0_worthFrom_247 (by decide) ?_
                refine v_sub (lv2 := [(0, rf 1), (1, iv x1), (2, iv x2), (3, iv x3), (4, iv x4), (5, iv x5), (6, iv x6), (7, iv x7), (8, iv (x8 + 1))]) [4, 5, 6, 7, 8, 9, 10, 11, 0] rfl ?_
                exact F ⟨B79, R1, R2, R3, R4, R5, R6, R7, o96⟩
            · have F := F.2 (c88)
              refine v_iload C 0 rfl dX0_worthFrom_209 ?_
              refine v_iload C 10 rfl dX0_worthFrom_211 ?_
              refine v_icmp_gt C 229 g78 R7 dX0_worthFrom_213 (by decide) (fun c97 => ?_) (fun c97 => ?_)
              · have F := F.1 (c97)
                refine v_iload C 0 rfl dX0_worthFrom_229 ?_
                refine v_istore C (by decide) dX0_worthFrom_231 (lv2 := [(7, iv r75), (11, iv r75), (10, iv y19), (9, rf (h 38 (x4 + 1))), (0, rf 1), (1, iv x1), (2, iv x2), (3, iv x3), (4, iv x4), (5, iv x5), (6, iv x6), (8, iv x8)]) rfl ?_
                refine v_iload C 8 rfl dX0_worthFrom_233 ?_
                refine v_if_ne C 244 R4 dX0_worthFrom_235 (by decide) (fun c98 => ?_) (fun c98 => ?_)
                · have F := F.1 (c98)
                  obtain ⟨o99, F⟩ := F
                  refine v_iinc C 11 rfl (by decide) dX0_worthFrom_244 (lv2 := [(8, iv (x8 + 1)), (7, iv r75), (11, iv r75), (10, iv y19), (9, rf (h 38 (x4 + 1))), (0, rf 1), (1, iv x1), (2, iv x2), (3, iv x3), (4, iv x4), (5, iv x5), (6, iv x6)]) rfl ?_
                  refine v_goto C 87 dX0_worthFrom_247 (by decide) ?_
                  refine v_sub (lv2 := [(0, rf 1), (1, iv x1), (2, iv x2), (3, iv x3), (4, iv x4), (5, iv x5), (6, iv x6), (7, iv r75), (8, iv (x8 + 1))]) [5, 6, 7, 8, 9, 10, 11, 1, 0] rfl ?_
                  exact F ⟨B79, R1, R2, R3, R4, R5, R6, g78, o99⟩
                · have F := F.2 (c98)
                  refine v_aload_n C 4 rfl rfl dX0_worthFrom_238 ?_
                  refine v_iload C 2 rfl dX0_worthFrom_239 ?_
                  refine pX0_332 C (SX.ext E80.1).k1 (okI_i rfl Ry19) dX0_worthFrom_241 ?_
                  obtain ⟨h100, eh100⟩ : ∃ m : Mem, m = up h76 1 20 y19 := ⟨_, rfl⟩
                  have B101 : EX h0 h100 := by rw [eh100]; exact EX_up B79 (SX.ext E80.1).k1 (by decide) rfl (by decide) (okI_i rfl Ry19)
                  have E102 : EX h h100 := by rw [eh100]; exact EX_up E80 (SX.ext E80.1).k1 (by decide) rfl (by decide) (okI_i rfl Ry19)
                  refine v_mem eh100 ?_
                  have F := F h100 eh100
                  obtain ⟨o103, F⟩ := F
                  refine v_iinc C 11 rfl (by decide) dX0_worthFrom_244 (lv2 := [(8, iv (x8 + 1)), (7, iv r75), (11, iv r75), (10, iv y19), (9, rf (h 38 (x4 + 1))), (0, rf 1), (1, iv x1), (2, iv x2), (3, iv x3), (4, iv x4), (5, iv x5), (6, iv x6)]) rfl ?_
                  refine v_goto C 87 dX0_worthFrom_247 (by decide) ?_
                  refine v_sub (lv2 := [(0, rf 1), (1, iv x1), (2, iv x2), (3, iv x3), (4, iv x4), (5, iv x5), (6, iv x6), (7, iv r75), (8, iv (x8 + 1))]) [5, 6, 7, 8, 9, 10, 11, 1, 0] rfl ?_
                  exact F ⟨B101, R1, R2, R3, R4, R5, R6, g78, o103⟩
              · have F := F.2 (c97)
                refine v_goto C 244 dX0_worthFrom_216 (by decide) ?_
                obtain ⟨o104, F⟩ := F
                refine v_iinc C 11 rfl (by decide) dX0_worthFrom_244 (lv2 := [(8, iv (x8 + 1)), (11, iv r75), (10, iv y19), (9, rf (h 38 (x4 + 1))), (0, rf 1), (1, iv x1), (2, iv x2), (3, iv x3), (4, iv x4), (5, iv x5), (6, iv x6), (7, iv x7)]) rfl ?_
                refine v_goto C 87 dX0_worthFrom_247 (by decide) ?_
                refine v_sub (lv2 := [(0, rf 1), (1, iv x1), (2, iv x2), (3, iv x3), (4, iv x4), (5, iv x5), (6, iv x6), (7, iv x7), (8, iv (x8 + 1))]) [4, 5, 6, 7, 8, 9, 10, 11, 0] rfl ?_
                exact F ⟨B79, R1, R2, R3, R4, R5, R6, R7, o104⟩
        · have F := F.2 (c59)
          refine v_iload_n C 3 rfl rfl dX0_worthFrom_161 ?_
          refine v_goto C 166 dX0_worthFrom_162 (by decide) ?_
          refine v_aload C 1 rfl dX0_worthFrom_166 ?_
          obtain ⟨o105, F⟩ := F
          refine gX0_257 C o105 rfl dX0_worthFrom_168 ?_
          refine mX0_290 C o105 (d2 := 0) (kc2 := 0) (ks2 := 0) (by omega) (Nat.le_refl _) (Nat.le_refl _) (Nat.le_of_ble_eq_true rfl) dX0_worthFrom_171 (Ct.mono (F Ry19 R1 (EX.rI B14 (j := 11) o105 rfl)) ?_)
          rintro r106 h107 ⟨e108, F⟩
          have F := F e108
          have B110 := B14.tr e108
          have E111 := E15.tr e108
          refine v_aload C 1 rfl dX0_worthFrom_174 ?_
          refine v_aload_n C 2 rfl rfl dX0_worthFrom_176 ?_
          refine gX0_31 C (SX.ext E111.1).k1 (SX.ext E111.1).f6 dX0_worthFrom_177 ?_
          obtain ⟨o112, F⟩ := F
          refine mX0_297 C o112 (d2 := 4) (kc2 := 0) (ks2 := 0) (by omega) (Nat.le_refl _) (Nat.le_refl _) (Nat.le_of_ble_eq_true rfl) dX0_worthFrom_180 (Ct.mono (F) ?_)
          rintro r113 h114 ⟨e115, F⟩
          have F := F e115
          have B117 := B110.tr e115
          have E118 := E111.tr e115
          refine v_aload_n C 2 rfl rfl dX0_worthFrom_183 ?_
          refine v_iload_n C 3 rfl rfl dX0_worthFrom_184 ?_
          refine v_iload_n C 4 rfl rfl dX0_worthFrom_185 ?_
          refine v_iload_n C 5 rfl rfl dX0_worthFrom_186 ?_
          refine v_iload C 6 rfl dX0_worthFrom_187 ?_
          refine v_iconst C dX0_worthFrom_189 ?_
          refine v_iadd C dX0_worthFrom_190 ?_
          refine v_iload C 7 rfl dX0_worthFrom_191 ?_
          obtain ⟨o119, F⟩ := F
          refine mX0_328 C (SX.ext E118.1).k1 (d2 := (d0 + 5)) (kc2 := 0) (ks2 := 0) (by omega) (Nat.le_refl _) (Nat.le_refl _) (Nat.le_of_ble_eq_true rfl) dX0_worthFrom_193 (Ct.mono (F R1 R2 R3 o119 R5) ?_)
          rintro r120 h121 ⟨e122, g123, F⟩
          have F := F e122
          have B124 := B117.tr e122
          have E125 := E118.tr e122
          refine v_istore C (by decide) dX0_worthFrom_196 (lv2 := [(11, iv r120), (10, iv y19), (9, rf (h 38 (x4 + 1))), (0, rf 1), (1, iv x1), (2, iv x2), (3, iv x3), (4, iv x4), (5, iv x5), (6, iv x6), (7, iv x7), (8, iv x8)]) rfl ?_
          refine v_iload C 11 rfl dX0_worthFrom_198 ?_
          refine v_iconst C dX0_worthFrom_200 ?_
          refine v_icmp_eq C 229 R8 ⟨by decide, by decide⟩ dX0_worthFrom_201 (by decide) (fun c126 => ?_) (fun c126 => ?_)
          · have F := F.1 (c126)
            refine v_iload C 0 rfl dX0_worthFrom_229 ?_
            refine v_istore C (by decide) dX0_worthFrom_231 (lv2 := [(7, iv r120), (11, iv r120), (10, iv y19), (9, rf (h 38 (x4 + 1))), (0, rf 1), (1, iv x1), (2, iv x2), (3, iv x3), (4, iv x4), (5, iv x5), (6, iv x6), (8, iv x8)]) rfl ?_
            refine v_iload C 8 rfl dX0_worthFrom_233 ?_
            refine v_if_ne C 244 R4 dX0_worthFrom_235 (by decide) (fun c127 => ?_) (fun c127 => ?_)
            · have F := F.1 (c127)
              obtain ⟨o128, F⟩ := F
              refine v_iinc C 11 rfl (by decide) dX0_worthFrom_244 (lv2 := [(8, iv (x8 + 1)), (7, iv r120), (11, iv r120), (10, iv y19), (9, rf (h 38 (x4 + 1))), (0, rf 1), (1, iv x1), (2, iv x2), (3, iv x3), (4, iv x4), (5, iv x5), (6, iv x6)]) rfl ?_
              refine v_goto C 87 dX0_worthFrom_247 (by decide) ?_
              refine v_sub (lv2 := [(0, rf 1), (1, iv x1), (2, iv x2), (3, iv x3), (4, iv x4), (5, iv x5), (6, iv x6), (7, iv r120), (8, iv (x8 + 1))]) [5, 6, 7, 8, 9, 10, 11, 1, 0] rfl ?_
              exact F ⟨B124, R1, R2, R3, R4, R5, R6, g123, o128⟩
            · have F := F.2 (c127)
              refine v_aload_n C 4 rfl rfl dX0_worthFrom_238 ?_
              refine v_iload C 2 rfl dX0_worthFrom_239 ?_
              refine pX0_332 C (SX.ext E125.1).k1 (okI_i rfl Ry19) dX0_worthFrom_241 ?_
              obtain ⟨h129, eh129⟩ : ∃ m : Mem, m = up h121 1 20 y19 := ⟨_, rfl⟩
              have B130 : EX h0 h129 := by rw [eh129]; exact EX_up B124 (SX.ext E125.1).k1 (by decide) rfl (by decide) (okI_i rfl Ry19)
              have E131 : EX h h129 := by rw [eh129]; exact EX_up E125 (SX.ext E125.1).k1 (by decide) rfl (by decide) (okI_i rfl Ry19)
              refine v_mem eh129 ?_
              have F := F h129 eh129
              obtain ⟨o132, F⟩ := F
              refine v_iinc C 11 rfl (by decide) dX0_worthFrom_244 (lv2 := [(8, iv (x8 + 1)), (7, iv r120), (11, iv r120), (10, iv y19), (9, rf (h 38 (x4 + 1))), (0, rf 1), (1, iv x1), (2, iv x2), (3, iv x3), (4, iv x4), (5, iv x5), (6, iv x6)]) rfl ?_
              refine v_goto C 87 dX0_worthFrom_247 (by decide) ?_
              refine v_sub (lv2 := [(0, rf 1), (1, iv x1), (2, iv x2), (3, iv x3), (4, iv x4), (5, iv x5), (6, iv x6), (7, iv r120), (8, iv (x8 + 1))]) [5, 6, 7, 8, 9, 10, 11, 1, 0] rfl ?_
              exact F ⟨B130, R1, R2, R3, R4, R5, R6, g123, o132⟩
          · have F := F.2 (c126)
            refine v_iload C 9 rfl dX0_worthFrom_204 ?_
            refine v_if_eq C 219 R6 dX0_worthFrom_206 (by decide) (fun c133 => ?_) (fun c133 => ?_)
            · have F := F.1 (c133)
              refine v_iload C 0 rfl dX0_worthFrom_219 ?_
              refine v_iload C 10 rfl dX0_worthFrom_221 ?_
              refine v_icmp_lt C 229 g123 R7 dX0_worthFrom_223 (by decide) (fun c134 => ?_) (fun c134 => ?_)
              · have F := F.1 (c134)
                refine v_iload C 0 rfl dX0_worthFrom_229 ?_
                refine v_istore C (by decide) dX0_worthFrom_231 (lv2 := [(7, iv r120), (11, iv r120), (10, iv y19), (9, rf (h 38 (x4 + 1))), (0, rf 1), (1, iv x1), (2, iv x2), (3, iv x3), (4, iv x4), (5, iv x5), (6, iv x6), (8, iv x8)]) rfl ?_
                refine v_iload C 8 rfl dX0_worthFrom_233 ?_
                refine v_if_ne C 244 R4 dX0_worthFrom_235 (by decide) (fun c135 => ?_) (fun c135 => ?_)
                · have F := F.1 (c135)
                  obtain ⟨o136, F⟩ := F
                  refine v_iinc C 11 rfl (by decide) dX0_worthFrom_244 (lv2 := [(8, iv (x8 + 1)), (7, iv r120), (11, iv r120), (10, iv y19), (9, rf (h 38 (x4 + 1))), (0, rf 1), (1, iv x1), (2, iv x2), (3, iv x3), (4, iv x4), (5, iv x5), (6, iv x6)]) rfl ?_
                  refine v_goto C 87 dX0_worthFrom_247 (by decide) ?_
                  refine v_sub (lv2 := [(0, rf 1), (1, iv x1), (2, iv x2), (3, iv x3), (4, iv x4), (5, iv x5), (6, iv x6), (7, iv r120), (8, iv (x8 + 1))]) [5, 6, 7, 8, 9, 10, 11, 1, 0] rfl ?_
                  exact F ⟨B124, R1, R2, R3, R4, R5, R6, g123, o136⟩
                · have F := F.2 (c135)
                  refine v_aload_n C 4 rfl rfl dX0_worthFrom_238 ?_
                  refine v_iload C 2 rfl dX0_worthFrom_239 ?_
                  refine pX0_332 C (SX.ext E125.1).k1 (okI_i rfl Ry19) dX0_worthFrom_241 ?_
                  obtain ⟨h137, eh137⟩ : ∃ m : Mem, m = up h121 1 20 y19 := ⟨_, rfl⟩
                  have B138 : EX h0 h137 := by rw [eh137]; exact EX_up B124 (SX.ext E125.1).k1 (by decide) rfl (by decide) (okI_i rfl Ry19)
                  have E139 : EX h h137 := by rw [eh137]; exact EX_up E125 (SX.ext E125.1).k1 (by decide) rfl (by decide) (okI_i rfl Ry19)
                  refine v_mem eh137 ?_
                  have F := F h137 eh137
                  obtain ⟨o140, F⟩ := F
                  refine v_iinc C 11 rfl (by decide) dX0_worthFrom_244 (lv2 := [(8, iv (x8 + 1)), (7, iv r120), (11, iv r120), (10, iv y19), (9, rf (h 38 (x4 + 1))), (0, rf 1), (1, iv x1), (2, iv x2), (3, iv x3), (4, iv x4), (5, iv x5), (6, iv x6)]) rfl ?_
                  refine v_goto C 87 dX0_worthFrom_247 (by decide) ?_
                  refine v_sub (lv2 := [(0, rf 1), (1, iv x1), (2, iv x2), (3, iv x3), (4, iv x4), (5, iv x5), (6, iv x6), (7, iv r120), (8, iv (x8 + 1))]) [5, 6, 7, 8, 9, 10, 11, 1, 0] rfl ?_
                  exact F ⟨B138, R1, R2, R3, R4, R5, R6, g123, o140⟩
              · have F := F.2 (c134)
                refine v_goto C 244 dX0_worthFrom_226 (by decide) ?_
                obtain ⟨o141, F⟩ := F
                refine v_iinc C 11 rfl (by decide) dX0_worthFrom_244 (lv2 := [(8, iv (x8 + 1)), (11, iv r120), (10, iv y19), (9, rf (h 38 (x4 + 1))), (0, rf 1), (1, iv x1), (2, iv x2), (3, iv x3), (4, iv x4), (5, iv x5), (6, iv x6), (7, iv x7)]) rfl ?_
                refine v_goto C 87 dX0_worthFrom_247 (by decide) ?_
                refine v_sub (lv2 := [(0, rf 1), (1, iv x1), (2, iv x2), (3, iv x3), (4, iv x4), (5, iv x5), (6, iv x6), (7, iv x7), (8, iv (x8 + 1))]) [4, 5, 6, 7, 8, 9, 10, 11, 0] rfl ?_
                exact F ⟨B124, R1, R2, R3, R4, R5, R6, R7, o141⟩
            · have F := F.2 (c133)
              refine v_iload C 0 rfl dX0_worthFrom_209 ?_
              refine v_iload C 10 rfl dX0_worthFrom_211 ?_
              refine v_icmp_gt C 229 g123 R7 dX0_worthFrom_213 (by decide) (fun c142 => ?_) (fun c142 => ?_)
              · have F := F.1 (c142)
                refine v_iload C 0 rfl dX0_worthFrom_229 ?_
                refine v_istore C (by decide) dX0_worthFrom_231 (lv2 := [(7, iv r120), (11, iv r120), (10, iv y19), (9, rf (h 38 (x4 + 1))), (0, rf 1), (1, iv x1), (2, iv x2), (3, iv x3), (4, iv x4), (5, iv x5), (6, iv x6), (8, iv x8)]) rfl ?_
                refine v_iload C 8 rfl dX0_worthFrom_233 ?_
                refine v_if_ne C 244 R4 dX0_worthFrom_235 (by decide) (fun c143 => ?_) (fun c143 => ?_)
                · have F := F.1 (c143)
                  obtain ⟨o144, F⟩ := F
                  refine v_iinc C 11 rfl (by decide) dX0_worthFrom_244 (lv2 := [(8, iv (x8 + 1)), (7, iv r120), (11, iv r120), (10, iv y19), (9, rf (h 38 (x4 + 1))), (0, rf 1), (1, iv x1), (2, iv x2), (3, iv x3), (4, iv x4), (5, iv x5), (6, iv x6)]) rfl ?_
                  refine v_goto C 87 dX0_worthFrom_247 (by decide) ?_
                  refine v_sub (lv2 := [(0, rf 1), (1, iv x1), (2, iv x2), (3, iv x3), (4, iv x4), (5, iv x5), (6, iv x6), (7, iv r120), (8, iv (x8 + 1))]) [5, 6, 7, 8, 9, 10, 11, 1, 0] rfl ?_
                  exact F ⟨B124, R1, R2, R3, R4, R5, R6, g123, o144⟩
                · have F := F.2 (c143)
                  refine v_aload_n C 4 rfl rfl dX0_worthFrom_238 ?_
                  refine v_iload C 2 rfl dX0_worthFrom_239 ?_
                  refine pX0_332 C (SX.ext E125.1).k1 (okI_i rfl Ry19) dX0_worthFrom_241 ?_
                  obtain ⟨h145, eh145⟩ : ∃ m : Mem, m = up h121 1 20 y19 := ⟨_, rfl⟩
                  have B146 : EX h0 h145 := by rw [eh145]; exact EX_up B124 (SX.ext E125.1).k1 (by decide) rfl (by decide) (okI_i rfl Ry19)
                  have E147 : EX h h145 := by rw [eh145]; exact EX_up E125 (SX.ext E125.1).k1 (by decide) rfl (by decide) (okI_i rfl Ry19)
                  refine v_mem eh145 ?_
                  have F := F h145 eh145
                  obtain ⟨o148, F⟩ := F
                  refine v_iinc C 11 rfl (by decide) dX0_worthFrom_244 (lv2 := [(8, iv (x8 + 1)), (7, iv r120), (11, iv r120), (10, iv y19), (9, rf (h 38 (x4 + 1))), (0, rf 1), (1, iv x1), (2, iv x2), (3, iv x3), (4, iv x4), (5, iv x5), (6, iv x6)]) rfl ?_
                  refine v_goto C 87 dX0_worthFrom_247 (by decide) ?_
                  refine v_sub (lv2 := [(0, rf 1), (1, iv x1), (2, iv x2), (3, iv x3), (4, iv x4), (5, iv x5), (6, iv x6), (7, iv r120), (8, iv (x8 + 1))]) [5, 6, 7, 8, 9, 10, 11, 1, 0] rfl ?_
                  exact F ⟨B146, R1, R2, R3, R4, R5, R6, g123, o148⟩
              · have F := F.2 (c142)
                refine v_goto C 244 dX0_worthFrom_216 (by decide) ?_
                obtain ⟨o149, F⟩ := F
                refine v_iinc C 11 rfl (by decide) dX0_worthFrom_244 (lv2 := [(8, iv (x8 + 1)), (11, iv r120), (10, iv y19), (9, rf (h 38 (x4 + 1))), (0, rf 1), (1, iv x1), (2, iv x2), (3, iv x3), (4, iv x4), (5, iv x5), (6, iv x6), (7, iv x7)]) rfl ?_
                refine v_goto C 87 dX0_worthFrom_247 (by decide) ?_
                refine v_sub (lv2 := [(0, rf 1), (1, iv x1), (2, iv x2), (3, iv x3), (4, iv x4), (5, iv x5), (6, iv x6), (7, iv x7), (8, iv (x8 + 1))]) [4, 5, 6, 7, 8, 9, 10, 11, 0] rfl ?_
                exact F ⟨B124, R1, R2, R3, R4, R5, R6, R7, o149⟩
    · have F := F.2 (c16)
      refine v_iconst C dX0_worthFrom_128 ?_
      refine v_goto C 144 dX0_worthFrom_129 (by decide) ?_
      refine v_istore C (by decide) dX0_worthFrom_144 (lv2 := [(10, iv (-1)), (9, rf (h 38 (x4 + 1))), (0, rf 1), (1, iv x1), (2, iv x2), (3, iv x3), (4, iv x4), (5, iv x5), (6, iv x6), (7, iv x7), (8, iv x8)]) rfl ?_
      refine v_iload C 0 rfl dX0_worthFrom_146 ?_
      refine v_iconst C dX0_worthFrom_148 ?_
      refine v_icmp_eq C 174 ⟨by decide, by decide⟩ ⟨by decide, by decide⟩ dX0_worthFrom_149 (by decide) (fun _ => ?_) (fun c => absurd c (by decide))
      refine v_aload C 1 rfl dX0_worthFrom_174 ?_
      refine v_aload_n C 2 rfl rfl dX0_worthFrom_176 ?_
      refine gX0_31 C (SX.ext E15.1).k1 (SX.ext E15.1).f6 dX0_worthFrom_177 ?_
      obtain ⟨o150, F⟩ := F
      refine mX0_297 C o150 (d2 := 4) (kc2 := 0) (ks2 := 0) (by omega) (Nat.le_refl _) (Nat.le_refl _) (Nat.le_of_ble_eq_true rfl) dX0_worthFrom_180 (Ct.mono (F) ?_)
      rintro r151 h152 ⟨e153, F⟩
      have F := F e153
      have B155 := B14.tr e153
      have E156 := E15.tr e153
      refine v_aload_n C 2 rfl rfl dX0_worthFrom_183 ?_
      refine v_iload_n C 3 rfl rfl dX0_worthFrom_184 ?_
      refine v_iload_n C 4 rfl rfl dX0_worthFrom_185 ?_
      refine v_iload_n C 5 rfl rfl dX0_worthFrom_186 ?_
      refine v_iload C 6 rfl dX0_worthFrom_187 ?_
      refine v_iconst C dX0_worthFrom_189 ?_
      refine v_iadd C dX0_worthFrom_190 ?_
      refine v_iload C 7 rfl dX0_worthFrom_191 ?_
      obtain ⟨o157, F⟩ := F
      refine mX0_328 C (SX.ext E156.1).k1 (d2 := (d0 + 5)) (kc2 := 0) (ks2 := 0) (by omega) (Nat.le_refl _) (Nat.le_refl _) (Nat.le_of_ble_eq_true rfl) dX0_worthFrom_193 (Ct.mono (F R1 R2 R3 o157 R5) ?_)
      rintro r158 h159 ⟨e160, g161, F⟩
      have F := F e160
      have B162 := B155.tr e160
      have E163 := E156.tr e160
      refine v_istore C (by decide) dX0_worthFrom_196 (lv2 := [(11, iv r158), (10, iv (-1)), (9, rf (h 38 (x4 + 1))), (0, rf 1), (1, iv x1), (2, iv x2), (3, iv x3), (4, iv x4), (5, iv x5), (6, iv x6), (7, iv x7), (8, iv x8)]) rfl ?_
      refine v_iload C 11 rfl dX0_worthFrom_198 ?_
      refine v_iconst C dX0_worthFrom_200 ?_
      refine v_icmp_eq C 229 R8 ⟨by decide, by decide⟩ dX0_worthFrom_201 (by decide) (fun c164 => ?_) (fun c164 => ?_)
      · have F := F.1 (c164)
        refine v_iload C 0 rfl dX0_worthFrom_229 ?_
        refine v_istore C (by decide) dX0_worthFrom_231 (lv2 := [(7, iv r158), (11, iv r158), (10, iv (-1)), (9, rf (h 38 (x4 + 1))), (0, rf 1), (1, iv x1), (2, iv x2), (3, iv x3), (4, iv x4), (5, iv x5), (6, iv x6), (8, iv x8)]) rfl ?_
        refine v_iload C 8 rfl dX0_worthFrom_233 ?_
        refine v_if_ne C 244 R4 dX0_worthFrom_235 (by decide) (fun c165 => ?_) (fun c165 => ?_)
        · have F := F.1 (c165)
          obtain ⟨o166, F⟩ := F
          refine v_iinc C 11 rfl (by decide) dX0_worthFrom_244 (lv2 := [(8, iv (x8 + 1)), (7, iv r158), (11, iv r158), (10, iv (-1)), (9, rf (h 38 (x4 + 1))), (0, rf 1), (1, iv x1), (2, iv x2), (3, iv x3), (4, iv x4), (5, iv x5), (6, iv x6)]) rfl ?_
          refine v_goto C 87 dX0_worthFrom_247 (by decide) ?_
          refine v_sub (lv2 := [(0, rf 1), (1, iv x1), (2, iv x2), (3, iv x3), (4, iv x4), (5, iv x5), (6, iv x6), (7, iv r158), (8, iv (x8 + 1))]) [5, 6, 7, 8, 9, 10, 11, 1, 0] rfl ?_
          exact F ⟨B162, R1, R2, R3, R4, R5, R6, g161, o166⟩
        · have F := F.2 (c165)
          refine v_aload_n C 4 rfl rfl dX0_worthFrom_238 ?_
          refine v_iload C 2 rfl dX0_worthFrom_239 ?_
          refine pX0_332 C (SX.ext E163.1).k1 (okI_i rfl ⟨by decide, by decide⟩) dX0_worthFrom_241 ?_
          obtain ⟨h167, eh167⟩ : ∃ m : Mem, m = up h159 1 20 (-1) := ⟨_, rfl⟩
          have B168 : EX h0 h167 := by rw [eh167]; exact EX_up B162 (SX.ext E163.1).k1 (by decide) rfl (by decide) (okI_i rfl ⟨by decide, by decide⟩)
          have E169 : EX h h167 := by rw [eh167]; exact EX_up E163 (SX.ext E163.1).k1 (by decide) rfl (by decide) (okI_i rfl ⟨by decide, by decide⟩)
          refine v_mem eh167 ?_
          have F := F h167 eh167
          obtain ⟨o170, F⟩ := F
          refine v_iinc C 11 rfl (by decide) dX0_worthFrom_244 (lv2 := [(8, iv (x8 + 1)), (7, iv r158), (11, iv r158), (10, iv (-1)), (9, rf (h 38 (x4 + 1))), (0, rf 1), (1, iv x1), (2, iv x2), (3, iv x3), (4, iv x4), (5, iv x5), (6, iv x6)]) rfl ?_
          refine v_goto C 87 dX0_worthFrom_247 (by decide) ?_
          refine v_sub (lv2 := [(0, rf 1), (1, iv x1), (2, iv x2), (3, iv x3), (4, iv x4), (5, iv x5), (6, iv x6), (7, iv r158), (8, iv (x8 + 1))]) [5, 6, 7, 8, 9, 10, 11, 1, 0] rfl ?_
          exact F ⟨B168, R1, R2, R3, R4, R5, R6, g161, o170⟩
      · have F := F.2 (c164)
        refine v_iload C 9 rfl dX0_worthFrom_204 ?_
        refine v_if_eq C 219 R6 dX0_worthFrom_206 (by decide) (fun c171 => ?_) (fun c171 => ?_)
        · have F := F.1 (c171)
          refine v_iload C 0 rfl dX0_worthFrom_219 ?_
          refine v_iload C 10 rfl dX0_worthFrom_221 ?_
          refine v_icmp_lt C 229 g161 R7 dX0_worthFrom_223 (by decide) (fun c172 => ?_) (fun c172 => ?_)
          · have F := F.1 (c172)
            refine v_iload C 0 rfl dX0_worthFrom_229 ?_
            refine v_istore C (by decide) dX0_worthFrom_231 (lv2 := [(7, iv r158), (11, iv r158), (10, iv (-1)), (9, rf (h 38 (x4 + 1))), (0, rf 1), (1, iv x1), (2, iv x2), (3, iv x3), (4, iv x4), (5, iv x5), (6, iv x6), (8, iv x8)]) rfl ?_
            refine v_iload C 8 rfl dX0_worthFrom_233 ?_
            refine v_if_ne C 244 R4 dX0_worthFrom_235 (by decide) (fun c173 => ?_) (fun c173 => ?_)
            · have F := F.1 (c173)
              obtain ⟨o174, F⟩ := F
              refine v_iinc C 11 rfl (by decide) dX0_worthFrom_244 (lv2 := [(8, iv (x8 + 1)), (7, iv r158), (11, iv r158), (10, iv (-1)), (9, rf (h 38 (x4 + 1))), (0, rf 1), (1, iv x1), (2, iv x2), (3, iv x3), (4, iv x4), (5, iv x5), (6, iv x6)]) rfl ?_
              refine v_goto C 87 dX0_worthFrom_247 (by decide) ?_
              refine v_sub (lv2 := [(0, rf 1), (1, iv x1), (2, iv x2), (3, iv x3), (4, iv x4), (5, iv x5), (6, iv x6), (7, iv r158), (8, iv (x8 + 1))]) [5, 6, 7, 8, 9, 10, 11, 1, 0] rfl ?_
              exact F ⟨B162, R1, R2, R3, R4, R5, R6, g161, o174⟩
            · have F := F.2 (c173)
              refine v_aload_n C 4 rfl rfl dX0_worthFrom_238 ?_
              refine v_iload C 2 rfl dX0_worthFrom_239 ?_
              refine pX0_332 C (SX.ext E163.1).k1 (okI_i rfl ⟨by decide, by decide⟩) dX0_worthFrom_241 ?_
              obtain ⟨h175, eh175⟩ : ∃ m : Mem, m = up h159 1 20 (-1) := ⟨_, rfl⟩
              have B176 : EX h0 h175 := by rw [eh175]; exact EX_up B162 (SX.ext E163.1).k1 (by decide) rfl (by decide) (okI_i rfl ⟨by decide, by decide⟩)
              have E177 : EX h h175 := by rw [eh175]; exact EX_up E163 (SX.ext E163.1).k1 (by decide) rfl (by decide) (okI_i rfl ⟨by decide, by decide⟩)
              refine v_mem eh175 ?_
              have F := F h175 eh175
              obtain ⟨o178, F⟩ := F
              refine v_iinc C 11 rfl (by decide) dX0_worthFrom_244 (lv2 := [(8, iv (x8 + 1)), (7, iv r158), (11, iv r158), (10, iv (-1)), (9, rf (h 38 (x4 + 1))), (0, rf 1), (1, iv x1), (2, iv x2), (3, iv x3), (4, iv x4), (5, iv x5), (6, iv x6)]) rfl ?_
              refine v_goto C 87 dX0_worthFrom_247 (by decide) ?_
              refine v_sub (lv2 := [(0, rf 1), (1, iv x1), (2, iv x2), (3, iv x3), (4, iv x4), (5, iv x5), (6, iv x6), (7, iv r158), (8, iv (x8 + 1))]) [5, 6, 7, 8, 9, 10, 11, 1, 0] rfl ?_
              exact F ⟨B176, R1, R2, R3, R4, R5, R6, g161, o178⟩
          · have F := F.2 (c172)
            refine v_goto C 244 dX0_worthFrom_226 (by decide) ?_
            obtain ⟨o179, F⟩ := F
            refine v_iinc C 11 rfl (by decide) dX0_worthFrom_244 (lv2 := [(8, iv (x8 + 1)), (11, iv r158), (10, iv (-1)), (9, rf (h 38 (x4 + 1))), (0, rf 1), (1, iv x1), (2, iv x2), (3, iv x3), (4, iv x4), (5, iv x5), (6, iv x6), (7, iv x7)]) rfl ?_
            refine v_goto C 87 dX0_worthFrom_247 (by decide) ?_
            refine v_sub (lv2 := [(0, rf 1), (1, iv x1), (2, iv x2), (3, iv x3), (4, iv x4), (5, iv x5), (6, iv x6), (7, iv x7), (8, iv (x8 + 1))]) [4, 5, 6, 7, 8, 9, 10, 11, 0] rfl ?_
            exact F ⟨B162, R1, R2, R3, R4, R5, R6, R7, o179⟩
        · have F := F.2 (c171)
          refine v_iload C 0 rfl dX0_worthFrom_209 ?_
          refine v_iload C 10 rfl dX0_worthFrom_211 ?_
          refine v_icmp_gt C 229 g161 R7 dX0_worthFrom_213 (by decide) (fun c180 => ?_) (fun c180 => ?_)
          · have F := F.1 (c180)
            refine v_iload C 0 rfl dX0_worthFrom_229 ?_
            refine v_istore C (by decide) dX0_worthFrom_231 (lv2 := [(7, iv r158), (11, iv r158), (10, iv (-1)), (9, rf (h 38 (x4 + 1))), (0, rf 1), (1, iv x1), (2, iv x2), (3, iv x3), (4, iv x4), (5, iv x5), (6, iv x6), (8, iv x8)]) rfl ?_
            refine v_iload C 8 rfl dX0_worthFrom_233 ?_
            refine v_if_ne C 244 R4 dX0_worthFrom_235 (by decide) (fun c181 => ?_) (fun c181 => ?_)
            · have F := F.1 (c181)
              obtain ⟨o182, F⟩ := F
              refine v_iinc C 11 rfl (by decide) dX0_worthFrom_244 (lv2 := [(8, iv (x8 + 1)), (7, iv r158), (11, iv r158), (10, iv (-1)), (9, rf (h 38 (x4 + 1))), (0, rf 1), (1, iv x1), (2, iv x2), (3, iv x3), (4, iv x4), (5, iv x5), (6, iv x6)]) rfl ?_
              refine v_goto C 87 dX0_worthFrom_247 (by decide) ?_
              refine v_sub (lv2 := [(0, rf 1), (1, iv x1), (2, iv x2), (3, iv x3), (4, iv x4), (5, iv x5), (6, iv x6), (7, iv r158), (8, iv (x8 + 1))]) [5, 6, 7, 8, 9, 10, 11, 1, 0] rfl ?_
              exact F ⟨B162, R1, R2, R3, R4, R5, R6, g161, o182⟩
            · have F := F.2 (c181)
              refine v_aload_n C 4 rfl rfl dX0_worthFrom_238 ?_
              refine v_iload C 2 rfl dX0_worthFrom_239 ?_
              refine pX0_332 C (SX.ext E163.1).k1 (okI_i rfl ⟨by decide, by decide⟩) dX0_worthFrom_241 ?_
              obtain ⟨h183, eh183⟩ : ∃ m : Mem, m = up h159 1 20 (-1) := ⟨_, rfl⟩
              have B184 : EX h0 h183 := by rw [eh183]; exact EX_up B162 (SX.ext E163.1).k1 (by decide) rfl (by decide) (okI_i rfl ⟨by decide, by decide⟩)
              have E185 : EX h h183 := by rw [eh183]; exact EX_up E163 (SX.ext E163.1).k1 (by decide) rfl (by decide) (okI_i rfl ⟨by decide, by decide⟩)
              refine v_mem eh183 ?_
              have F := F h183 eh183
              obtain ⟨o186, F⟩ := F
              refine v_iinc C 11 rfl (by decide) dX0_worthFrom_244 (lv2 := [(8, iv (x8 + 1)), (7, iv r158), (11, iv r158), (10, iv (-1)), (9, rf (h 38 (x4 + 1))), (0, rf 1), (1, iv x1), (2, iv x2), (3, iv x3), (4, iv x4), (5, iv x5), (6, iv x6)]) rfl ?_
              refine v_goto C 87 dX0_worthFrom_247 (by decide) ?_
              refine v_sub (lv2 := [(0, rf 1), (1, iv x1), (2, iv x2), (3, iv x3), (4, iv x4), (5, iv x5), (6, iv x6), (7, iv r158), (8, iv (x8 + 1))]) [5, 6, 7, 8, 9, 10, 11, 1, 0] rfl ?_
              exact F ⟨B184, R1, R2, R3, R4, R5, R6, g161, o186⟩
          · have F := F.2 (c180)
            refine v_goto C 244 dX0_worthFrom_216 (by decide) ?_
            obtain ⟨o187, F⟩ := F
            refine v_iinc C 11 rfl (by decide) dX0_worthFrom_244 (lv2 := [(8, iv (x8 + 1)), (11, iv r158), (10, iv (-1)), (9, rf (h 38 (x4 + 1))), (0, rf 1), (1, iv x1), (2, iv x2), (3, iv x3), (4, iv x4), (5, iv x5), (6, iv x6), (7, iv x7)]) rfl ?_
            refine v_goto C 87 dX0_worthFrom_247 (by decide) ?_
            refine v_sub (lv2 := [(0, rf 1), (1, iv x1), (2, iv x2), (3, iv x3), (4, iv x4), (5, iv x5), (6, iv x6), (7, iv x7), (8, iv (x8 + 1))]) [4, 5, 6, 7, 8, 9, 10, 11, 0] rfl ?_
            exact F ⟨B162, R1, R2, R3, R4, R5, R6, R7, o187⟩
set_option maxHeartbeats 4000000 in
theorem wX0_worthFrom_L26 {G : GT} {X : MX} {h0 h : Mem} {P : Int → Mem → Prop} {d0 : Nat} {x1 x2 x3 x7 : Int} (C : Cx G X cX0_worthFrom 12 RX0 ((d0 + 1) + 5) 0 0 (some .int) "worthFrom") (B0 : EX h0 h ∧ R32 x1 ∧ R32 x2 ∧ R32 x3 ∧ R32 x7)
    (F : XS h ∧ ((x7 ≥ h 20 0 → kX1_cellsOf G X.2.1 20 x1 x3 h (fun r2 h3 => EX h h3 → kX1_cellsOf G X.2.1 20 x2 x3 h3 (fun r8 h9 => EX h3 h9 → R32 (r2 - r8) ∧ P (r2 - r8) h9))) ∧ (x7 < h 20 0 → kX1_closes G X.2.1 20 165 h (fun _ h16 => EX h h16 → R32 (x7 + 1) ∧ (EX h0 h16 ∧ R32 x1 ∧ R32 x2 ∧ R32 x3 ∧ R32 (x7 + 1) → V G X 12 0 0 (QF G X 0 0 0 (PI h0 P)) 26 [(0, rf 1), (1, iv x1), (2, iv x2), (3, iv x3), (6, rf 20), (7, iv (x7 + 1))] [] h16))))) :
    V G X 12 0 0 (QF G X 0 0 0 (PI h0 P)) 26 [(0, rf 1), (1, iv x1), (2, iv x2), (3, iv x3), (6, rf 20), (7, iv x7)] [] h := by
  obtain ⟨B, R1, R2, R3, R7⟩ := B0
  have E : EX h h := EX.rf B.2
  obtain ⟨SX, F⟩ := F
  refine v_iload C 5 rfl dX0_worthFrom_26 ?_
  refine v_aload C 4 rfl dX0_worthFrom_28 ?_
  refine gX0_319 C ((SX.ext E.1).t20).k rfl dX0_worthFrom_30 ?_
  refine v_icmp_ge C 51 R7 (EX.rI B (j := 0) ((SX.ext E.1).t20).k rfl) dX0_worthFrom_33 (by decide) (fun c1 => ?_) (fun c1 => ?_)
  · have F := F.1 (c1)
    refine v_aload C 4 rfl dX0_worthFrom_51 ?_
    refine v_iload_n C 1 rfl rfl dX0_worthFrom_53 ?_
    refine v_iload_n C 3 rfl rfl dX0_worthFrom_54 ?_
    refine mX0_325 C ((SX.ext E.1).t20).k (d2 := 2) (kc2 := 0) (ks2 := 0) (by omega) (Nat.le_refl _) (Nat.le_refl _) (Nat.le_of_ble_eq_true rfl) dX0_worthFrom_55 (Ct.mono (F R1 R3) ?_)
    rintro r2 h3 ⟨e4, g5, F⟩
    have F := F e4
    have B6 := B.tr e4
    have E7 := E.tr e4
    refine v_aload C 4 rfl dX0_worthFrom_58 ?_
    refine v_iload_n C 2 rfl rfl dX0_worthFrom_60 ?_
    refine v_iload_n C 3 rfl rfl dX0_worthFrom_61 ?_
    refine mX0_325 C ((SX.ext E7.1).t20).k (d2 := 2) (kc2 := 0) (ks2 := 0) (by omega) (Nat.le_refl _) (Nat.le_refl _) (Nat.le_of_ble_eq_true rfl) dX0_worthFrom_62 (Ct.mono (F R2 R3) ?_)
    rintro r8 h9 ⟨e10, g11, F⟩
    have F := F e10
    have B12 := B6.tr e10
    have E13 := E7.tr e10
    refine v_isub C dX0_worthFrom_65 ?_
    obtain ⟨o14, F⟩ := F
    exact v_iret C (Nat.le_refl _) (Nat.le_refl _) dX0_worthFrom_66 ⟨B12, o14, F⟩
  · have F := F.2 (c1)
    refine v_aload C 4 rfl dX0_worthFrom_36 ?_
    refine v_aload_n C 0 rfl rfl dX0_worthFrom_38 ?_
    refine gX0_31 C (SX.ext E.1).k1 (SX.ext E.1).f6 dX0_worthFrom_39 ?_
    refine mX0_297 C ((SX.ext E.1).t20).k (d2 := 4) (kc2 := 0) (ks2 := 0) (by omega) (Nat.le_refl _) (Nat.le_refl _) (Nat.le_of_ble_eq_true rfl) dX0_worthFrom_42 (Ct.mono (F) ?_)
    rintro r15 h16 ⟨e17, F⟩
    have F := F e17
    have B19 := B.tr e17
    have E20 := E.tr e17
    obtain ⟨o21, F⟩ := F
    refine v_iinc C 5 rfl (by decide) dX0_worthFrom_45 (lv2 := [(7, iv (x7 + 1)), (0, rf 1), (1, iv x1), (2, iv x2), (3, iv x3), (6, rf 20)]) rfl ?_
    refine v_goto C 26 dX0_worthFrom_48 (by decide) ?_
    refine v_sub (lv2 := [(0, rf 1), (1, iv x1), (2, iv x2), (3, iv x3), (6, rf 20), (7, iv (x7 + 1))]) [1, 2, 3, 4, 5, 0] rfl ?_
    exact F ⟨B19, R1, R2, R3, o21⟩
set_option maxHeartbeats 1000000 in
theorem eX0_worthFrom {G : GT} {l : Launch} {d0 : Nat} {x1 x2 x3 x4 x5 : Int} {h : Mem} {P : Int → Mem → Prop} (F : ∀ X : MX, Cx G X cX0_worthFrom 12 RX0 ((d0 + 1) + 5) 0 0 (some .int) "worthFrom" → X.2.1 = l → (EX h h ∧ R32 x1 ∧ R32 x2 ∧ R32 x3 ∧ R32 x4 ∧ R32 x5) →
    XS h ∧ ((x4 ≠ x5 → ((x4.tmod 2 ≠ 0 → (EX h h ∧ R32 x1 ∧ R32 x2 ∧ R32 x3 ∧ R32 x4 ∧ R32 x5 ∧ R32 0 ∧ R32 0 ∧ R32 (-1) → V G X 12 0 0 (QF G X 0 0 0 (PI h P)) 87 [(0, rf 1), (1, iv x1), (2, iv x2), (3, iv x3), (4, iv x4), (5, iv x5), (6, iv 0), (7, iv 0), (8, iv (-1))] [] h)) ∧ (x4.tmod 2 = 0 → (EX h h ∧ R32 x1 ∧ R32 x2 ∧ R32 x3 ∧ R32 x4 ∧ R32 x5 ∧ R32 1 ∧ R32 0 ∧ R32 (-1) → V G X 12 0 0 (QF G X 0 0 0 (PI h P)) 87 [(0, rf 1), (1, iv x1), (2, iv x2), (3, iv x3), (4, iv x4), (5, iv x5), (6, iv 1), (7, iv 0), (8, iv (-1))] [] h)))) ∧ (x4 = x5 → 0 ≤ x4 ∧ x4 < 5 ∧ kX1_standsAs G X.2.1 20 (h 38 x4) h (fun r5 h6 => EX h h6 → r5 = 20 ∧ (EX h h6 ∧ R32 x1 ∧ R32 x2 ∧ R32 x3 ∧ R32 0 → V G X 12 0 0 (QF G X 0 0 0 (PI h P)) 26 [(0, rf 1), (1, iv x1), (2, iv x2), (3, iv x3), (6, rf 20), (7, iv 0)] [] h6))))) :
    kX0_worthFrom G l (d0 + 1) x1 x2 x3 x4 x5 h P := by
  intro R1 R2 R3 R4 R5
  refine ct_of (by decide +kernel) (Nat.le_of_ble_eq_true rfl) fun X C e => ?_
  refine v_okz fun O => ?_
  exact wX0_worthFrom_0 C ⟨EX.rf O, R1, R2, R3, R4, R5⟩ (F X C e ⟨EX.rf O, R1, R2, R3, R4, R5⟩)
def kX0_fewest (G : GT) (l : Launch) (x1 x2 x3 : Int) (h : Mem) (P : Int → Mem → Prop) : Prop := R32 x1 → R32 x2 → R32 x3 → Ct G l yX0_fewest cX0_fewest 4 (some .int) 0 12 0 0 [rf 1, iv x1, iv x2, iv x3] h (PI h P)
set_option maxHeartbeats 4000000 in
theorem wX0_fewest_0 {G : GT} {X : MX} {h0 h : Mem} {P : Int → Mem → Prop} {x1 x2 x3 : Int} (C : Cx G X cX0_fewest 4 RX0 12 0 0 (some .int) "fewest") (B0 : EX h0 h ∧ R32 x1 ∧ R32 x2 ∧ R32 x3)
    (F : XS h ∧ kX0_isPainter G X.2.1 x1 h (fun r1 h2 => EX h h2 → ((r1 = 0 → P (-1) h2) ∧ (r1 ≠ 0 → kX0_isThing G X.2.1 x2 h2 (fun r8 h9 => EX h2 h9 → ((r8 = 0 → P (-1) h9) ∧ (r8 ≠ 0 → kX0_in G X.2.1 x3 0 6 h9 (fun r15 h16 => EX h9 h16 → ((r15 ≠ 0 → h16 1 0 = 2 ∧ kX1_copies G X.2.1 20 2 h16 (fun r23 h24 => EX h16 h24 → r23 = 20 ∧ ∀ h29 : Mem, h29 = up h24 1 19 (-1) → kX0_triesScrapes G X.2.1 8 x1 x2 0 0 h29 (fun _ h33 => EX h29 h33 → ((h33 1 19 = (-1) → P (-2) h33) ∧ (h33 1 19 ≠ (-1) → h33 1 0 = 2 ∧ 0 ≤ x2 ∧ x2 < 4 ∧ ((x3 ≤ h33 4 x2 → ((x3 ≠ 0 → 0 ≤ x3 - 1 ∧ x3 - 1 < 6 ∧ P (h33 173 (x3 - 1)) h33) ∧ (x3 = 0 → P (h33 1 19) h33))) ∧ (x3 > h33 4 x2 → P (-2) h33))))))) ∧ (r15 = 0 → P (-1) h16)))))))))) :
    V G X 4 0 0 (QF G X 0 0 0 (PI h0 P)) 0 [(0, rf 1), (1, iv x1), (2, iv x2), (3, iv x3)] [] h := by
  obtain ⟨B, R1, R2, R3⟩ := B0
  have E : EX h h := EX.rf B.2
  obtain ⟨SX, F⟩ := F
  refine v_aload_n C 0 rfl rfl dX0_fewest_0 ?_
  refine v_iload_n C 1 rfl rfl dX0_fewest_1 ?_
  refine mX0_231 C (SX.ext E.1).k1 (d2 := 0) (kc2 := 0) (ks2 := 0) (by decide) (Nat.le_refl _) (Nat.le_refl _) (Nat.le_of_ble_eq_true rfl) dX0_fewest_2 (Ct.mono (F R1) ?_)
  rintro r1 h2 ⟨e3, g4, F⟩
  have F := F e3
  have B5 := B.tr e3
  have E6 := E.tr e3
  refine v_if_eq C 28 (bR g4) dX0_fewest_5 (by decide) (fun c7 => ?_) (fun c7 => ?_)
  · have F := F.1 (c7)
    refine v_iconst C dX0_fewest_28 ?_
    exact v_iret C (Nat.le_refl _) (Nat.le_refl _) dX0_fewest_29 ⟨B5, ⟨by decide, by decide⟩, F⟩
  · have F := F.2 (c7)
    refine v_aload_n C 0 rfl rfl dX0_fewest_8 ?_
    refine v_iload_n C 2 rfl rfl dX0_fewest_9 ?_
    refine mX0_212 C (SX.ext E6.1).k1 (d2 := 0) (kc2 := 0) (ks2 := 0) (by decide) (Nat.le_refl _) (Nat.le_refl _) (Nat.le_of_ble_eq_true rfl) dX0_fewest_10 (Ct.mono (F R2) ?_)
    rintro r8 h9 ⟨e10, g11, F⟩
    have F := F e10
    have B12 := B5.tr e10
    have E13 := E6.tr e10
    refine v_if_eq C 28 (bR g11) dX0_fewest_13 (by decide) (fun c14 => ?_) (fun c14 => ?_)
    · have F := F.1 (c14)
      refine v_iconst C dX0_fewest_28 ?_
      exact v_iret C (Nat.le_refl _) (Nat.le_refl _) dX0_fewest_29 ⟨B12, ⟨by decide, by decide⟩, F⟩
    · have F := F.2 (c14)
      refine v_iload_n C 3 rfl rfl dX0_fewest_16 ?_
      refine v_i2l C R3 dX0_fewest_17 ?_
      refine v_lconst C (x := 0) rfl dX0_fewest_18 ?_
      refine v_ldc2 C (x := 6) q1086 dX0_fewest_19 ?_
      refine mX0_193 C (d2 := 0) (kc2 := 0) (ks2 := 0) (by decide) (Nat.le_refl _) (Nat.le_refl _) (Nat.le_of_ble_eq_true rfl) dX0_fewest_22 (Ct.mono (F (R32.l R3) ⟨by decide, by decide⟩ ⟨by decide, by decide⟩) ?_)
      rintro r15 h16 ⟨e17, g18, F⟩
      have F := F e17
      have B19 := B12.tr e17
      have E20 := E13.tr e17
      refine v_if_ne C 30 (bR g18) dX0_fewest_25 (by decide) (fun c21 => ?_) (fun c21 => ?_)
      · have F := F.1 (c21)
        refine v_aload_n C 0 rfl rfl dX0_fewest_30 ?_
        refine gX0_18 C (SX.ext E20.1).k1 (SX.ext E20.1).f2 dX0_fewest_31 ?_
        refine v_aload_n C 0 rfl rfl dX0_fewest_34 ?_
        obtain ⟨o22, F⟩ := F
        refine gX0_149 C (SX.ext E20.1).k1 o22 dX0_fewest_35 ?_
        refine mX0_145 C ((SX.ext E20.1).t20).k (d2 := 2) (kc2 := 0) (ks2 := 0) (by decide) (Nat.le_refl _) (Nat.le_refl _) (Nat.le_of_ble_eq_true rfl) dX0_fewest_38 (Ct.mono (F) ?_)
        rintro r23 h24 ⟨e25, F⟩
        replace F := F e25
        have B27 := B19.tr e25
        have E28 := E20.tr e25
        obtain ⟨r23q, F⟩ := F
        subst r23q
        refine v_pop C (rf_n1 _) dX0_fewest_41 ?_
        refine v_aload_n C 0 rfl rfl dX0_fewest_42 ?_
        refine v_iconst C dX0_fewest_43 ?_
        refine pX0_310 C (SX.ext E28.1).k1 (okI_i rfl ⟨by decide, by decide⟩) dX0_fewest_44 ?_
        obtain ⟨h29, eh29⟩ : ∃ m : Mem, m = up h24 1 19 (-1) := ⟨_, rfl⟩
        have B30 : EX h0 h29 := by rw [eh29]; exact EX_up B27 (SX.ext E28.1).k1 (by decide) rfl (by decide) (okI_i rfl ⟨by decide, by decide⟩)
        have E31 : EX h h29 := by rw [eh29]; exact EX_up E28 (SX.ext E28.1).k1 (by decide) rfl (by decide) (okI_i rfl ⟨by decide, by decide⟩)
        refine v_mem eh29 ?_
        have F := F h29 eh29
        refine v_aload_n C 0 rfl rfl dX0_fewest_47 ?_
        refine v_iload_n C 1 rfl rfl dX0_fewest_48 ?_
        refine v_iload_n C 2 rfl rfl dX0_fewest_49 ?_
        refine v_iconst C dX0_fewest_50 ?_
        refine v_iconst C dX0_fewest_51 ?_
        refine mX0_313 C (SX.ext E31.1).k1 (d2 := (8 + 3)) (kc2 := 0) (ks2 := 0) (by decide) (Nat.le_refl _) (Nat.le_refl _) (Nat.le_of_ble_eq_true rfl) dX0_fewest_52 (Ct.mono (F R1 R2 ⟨by decide, by decide⟩ ⟨by decide, by decide⟩) ?_)
        rintro r32 h33 ⟨e34, F⟩
        have F := F e34
        have B36 := B30.tr e34
        have E37 := E31.tr e34
        refine v_aload_n C 0 rfl rfl dX0_fewest_55 ?_
        refine gX0_310 C (SX.ext E37.1).k1 rfl dX0_fewest_56 ?_
        refine v_iconst C dX0_fewest_59 ?_
        refine v_icmp_eq C 76 (EX.rI B36 (j := 19) (SX.ext E37.1).k1 rfl) ⟨by decide, by decide⟩ dX0_fewest_60 (by decide) (fun c38 => ?_) (fun c38 => ?_)
        · have F := F.1 (c38)
          refine v_bipush C rfl dX0_fewest_76 ?_
          exact v_iret C (Nat.le_refl _) (Nat.le_refl _) dX0_fewest_78 ⟨B36, ⟨by decide, by decide⟩, F⟩
        · have F := F.2 (c38)
          refine v_iload_n C 3 rfl rfl dX0_fewest_63 ?_
          refine v_aload_n C 0 rfl rfl dX0_fewest_64 ?_
          obtain ⟨o39, F⟩ := F
          refine gX0_149 C (SX.ext E37.1).k1 o39 dX0_fewest_65 ?_
          refine gX0_218 C ((SX.ext E37.1).t2).k ((SX.ext E37.1).t2).f14 dX0_fewest_68 ?_
          refine v_iload_n C 2 rfl rfl dX0_fewest_71 ?_
          obtain ⟨o40, F⟩ := F
          obtain ⟨o41, F⟩ := F
          refine v_iald C ((SX.ext E37.1).t2).k14 o40 (by rw [((SX.ext E37.1).t2).l14]; exact o41) rfl dX0_fewest_72 ?_
          refine v_icmp_le C 79 R3 (EX.rI B36 (j := x2) ((SX.ext E37.1).t2).k14 rfl) dX0_fewest_73 (by decide) (fun c42 => ?_) (fun c42 => ?_)
          · have F := F.1 (c42)
            refine v_iload_n C 3 rfl rfl dX0_fewest_79 ?_
            refine v_if_ne C 90 R3 dX0_fewest_80 (by decide) (fun c43 => ?_) (fun c43 => ?_)
            · have F := F.1 (c43)
              refine v_aload_n C 0 rfl rfl dX0_fewest_90 ?_
              refine gX0_107 C (SX.ext E37.1).k1 (SX.ext E37.1).f18 dX0_fewest_91 ?_
              refine v_iload_n C 3 rfl rfl dX0_fewest_94 ?_
              refine v_iconst C dX0_fewest_95 ?_
              refine v_isub C dX0_fewest_96 ?_
              obtain ⟨o44, F⟩ := F
              obtain ⟨o45, F⟩ := F
              refine v_iald C (SX.ext E37.1).k173 o44 (by rw [(SX.ext E37.1).l173]; exact o45) rfl dX0_fewest_97 ?_
              exact v_iret C (Nat.le_refl _) (Nat.le_refl _) dX0_fewest_98 ⟨B36, (EX.rI B36 (j := x3 - 1) (SX.ext E37.1).k173 rfl), F⟩
            · have F := F.2 (c43)
              refine v_aload_n C 0 rfl rfl dX0_fewest_83 ?_
              refine gX0_310 C (SX.ext E37.1).k1 rfl dX0_fewest_84 ?_
              refine v_goto C 98 dX0_fewest_87 (by decide) ?_
              exact v_iret C (Nat.le_refl _) (Nat.le_refl _) dX0_fewest_98 ⟨B36, (EX.rI B36 (j := 19) (SX.ext E37.1).k1 rfl), F⟩
          · have F := F.2 (c42)
            refine v_bipush C rfl dX0_fewest_76 ?_
            exact v_iret C (Nat.le_refl _) (Nat.le_refl _) dX0_fewest_78 ⟨B36, ⟨by decide, by decide⟩, F⟩
      · have F := F.2 (c21)
        refine v_iconst C dX0_fewest_28 ?_
        exact v_iret C (Nat.le_refl _) (Nat.le_refl _) dX0_fewest_29 ⟨B19, ⟨by decide, by decide⟩, F⟩
set_option maxHeartbeats 1000000 in
theorem eX0_fewest {G : GT} {l : Launch} {x1 x2 x3 : Int} {h : Mem} {P : Int → Mem → Prop} (F : ∀ X : MX, Cx G X cX0_fewest 4 RX0 12 0 0 (some .int) "fewest" → X.2.1 = l → (EX h h ∧ R32 x1 ∧ R32 x2 ∧ R32 x3) →
    XS h ∧ kX0_isPainter G X.2.1 x1 h (fun r1 h2 => EX h h2 → ((r1 = 0 → P (-1) h2) ∧ (r1 ≠ 0 → kX0_isThing G X.2.1 x2 h2 (fun r8 h9 => EX h2 h9 → ((r8 = 0 → P (-1) h9) ∧ (r8 ≠ 0 → kX0_in G X.2.1 x3 0 6 h9 (fun r15 h16 => EX h9 h16 → ((r15 ≠ 0 → h16 1 0 = 2 ∧ kX1_copies G X.2.1 20 2 h16 (fun r23 h24 => EX h16 h24 → r23 = 20 ∧ ∀ h29 : Mem, h29 = up h24 1 19 (-1) → kX0_triesScrapes G X.2.1 8 x1 x2 0 0 h29 (fun _ h33 => EX h29 h33 → ((h33 1 19 = (-1) → P (-2) h33) ∧ (h33 1 19 ≠ (-1) → h33 1 0 = 2 ∧ 0 ≤ x2 ∧ x2 < 4 ∧ ((x3 ≤ h33 4 x2 → ((x3 ≠ 0 → 0 ≤ x3 - 1 ∧ x3 - 1 < 6 ∧ P (h33 173 (x3 - 1)) h33) ∧ (x3 = 0 → P (h33 1 19) h33))) ∧ (x3 > h33 4 x2 → P (-2) h33))))))) ∧ (r15 = 0 → P (-1) h16)))))))))) :
    kX0_fewest G l x1 x2 x3 h P := by
  intro R1 R2 R3
  refine ct_of (by decide +kernel) (Nat.le_of_ble_eq_true rfl) fun X C e => ?_
  refine v_okz fun O => ?_
  exact wX0_fewest_0 C ⟨EX.rf O, R1, R2, R3⟩ (F X C e ⟨EX.rf O, R1, R2, R3⟩)
def kX0_game (G : GT) (l : Launch) (x1 x2 x3 x4 x5 : Int) (h : Mem) (P : Int → Mem → Prop) : Prop := R32 x1 → R32 x2 → R32 x3 → R32 x4 → R32 x5 → Ct G l yX0_game cX0_game 7 (some .int) 0 12 0 0 [rf 1, iv x1, iv x2, iv x3, iv x4, iv x5] h (PI h P)
set_option maxHeartbeats 4000000 in
theorem wX0_game_0 {G : GT} {X : MX} {h0 h : Mem} {P : Int → Mem → Prop} {x1 x2 x3 x4 x5 : Int} (C : Cx G X cX0_game 7 RX0 12 0 0 (some .int) "game") (B0 : EX h0 h ∧ R32 x1 ∧ R32 x2 ∧ R32 x3 ∧ R32 x4 ∧ R32 x5)
    (F : XS h ∧ kX0_isPainter G X.2.1 x1 h (fun r1 h2 => EX h h2 → ((r1 = 0 → P (-100) h2) ∧ (r1 ≠ 0 → kX0_isPainter G X.2.1 x2 h2 (fun r8 h9 => EX h2 h9 → ((r8 = 0 → P (-100) h9) ∧ (r8 ≠ 0 → ((x1 = x2 → P (-100) h9) ∧ (x1 ≠ x2 → kX0_isThing G X.2.1 x3 h9 (fun r16 h17 => EX h9 h17 → ((r16 = 0 → P (-100) h17) ∧ (r16 ≠ 0 → h17 1 0 = 2 ∧ kX0_has G X.2.1 (h17 2 12) x3 h17 (fun r24 h25 => EX h17 h25 → ((r24 = 0 → kX0_in G X.2.1 x4 1 4 h25 (fun r31 h32 => EX h25 h32 → ((r31 = 0 → P (-100) h32) ∧ (r31 ≠ 0 → kX0_in G X.2.1 x5 0 1 h32 (fun r38 h39 => EX h32 h39 → ((r38 ≠ 0 → h39 1 0 = 2 ∧ kX1_copies G X.2.1 20 2 h39 (fun r46 h47 => EX h39 h47 → r46 = 20 ∧ (EX h0 h47 ∧ R32 x1 ∧ R32 x2 ∧ R32 x3 ∧ R32 x4 ∧ R32 x5 ∧ R32 0 → V G X 7 0 0 (QF G X 0 0 0 (PI h0 P)) 88 [(0, rf 1), (1, iv x1), (2, iv x2), (3, iv x3), (4, iv x4), (5, iv x5), (6, iv 0)] [] h47))) ∧ (r38 = 0 → P (-100) h39))))))) ∧ (r24 ≠ 0 → P (-100) h25))))))))))))))) :
    V G X 7 0 0 (QF G X 0 0 0 (PI h0 P)) 0 [(0, rf 1), (1, iv x1), (2, iv x2), (3, iv x3), (4, iv x4), (5, iv x5)] [] h := by
  obtain ⟨B, R1, R2, R3, R4, R5⟩ := B0
  have E : EX h h := EX.rf B.2
  obtain ⟨SX, F⟩ := F
  refine v_aload_n C 0 rfl rfl dX0_game_0 ?_
  refine v_iload_n C 1 rfl rfl dX0_game_1 ?_
  refine mX0_231 C (SX.ext E.1).k1 (d2 := 0) (kc2 := 0) (ks2 := 0) (by decide) (Nat.le_refl _) (Nat.le_refl _) (Nat.le_of_ble_eq_true rfl) dX0_game_2 (Ct.mono (F R1) ?_)
  rintro r1 h2 ⟨e3, g4, F⟩
  have F := F e3
  have B5 := B.tr e3
  have E6 := E.tr e3
  refine v_if_eq C 43 (bR g4) dX0_game_5 (by decide) (fun c7 => ?_) (fun c7 => ?_)
  · have F := F.1 (c7)
    refine v_bipush C rfl dX0_game_43 ?_
    exact v_iret C (Nat.le_refl _) (Nat.le_refl _) dX0_game_45 ⟨B5, ⟨by decide, by decide⟩, F⟩
  · have F := F.2 (c7)
    refine v_aload_n C 0 rfl rfl dX0_game_8 ?_
    refine v_iload_n C 2 rfl rfl dX0_game_9 ?_
    refine mX0_231 C (SX.ext E6.1).k1 (d2 := 0) (kc2 := 0) (ks2 := 0) (by decide) (Nat.le_refl _) (Nat.le_refl _) (Nat.le_of_ble_eq_true rfl) dX0_game_10 (Ct.mono (F R2) ?_)
    rintro r8 h9 ⟨e10, g11, F⟩
    have F := F e10
    have B12 := B5.tr e10
    have E13 := E6.tr e10
    refine v_if_eq C 43 (bR g11) dX0_game_13 (by decide) (fun c14 => ?_) (fun c14 => ?_)
    · have F := F.1 (c14)
      refine v_bipush C rfl dX0_game_43 ?_
      exact v_iret C (Nat.le_refl _) (Nat.le_refl _) dX0_game_45 ⟨B12, ⟨by decide, by decide⟩, F⟩
    · have F := F.2 (c14)
      refine v_iload_n C 1 rfl rfl dX0_game_16 ?_
      refine v_iload_n C 2 rfl rfl dX0_game_17 ?_
      refine v_icmp_eq C 43 R1 R2 dX0_game_18 (by decide) (fun c15 => ?_) (fun c15 => ?_)
      · have F := F.1 (c15)
        refine v_bipush C rfl dX0_game_43 ?_
        exact v_iret C (Nat.le_refl _) (Nat.le_refl _) dX0_game_45 ⟨B12, ⟨by decide, by decide⟩, F⟩
      · have F := F.2 (c15)
        refine v_aload_n C 0 rfl rfl dX0_game_21 ?_
        refine v_iload_n C 3 rfl rfl dX0_game_22 ?_
        refine mX0_212 C (SX.ext E13.1).k1 (d2 := 0) (kc2 := 0) (ks2 := 0) (by decide) (Nat.le_refl _) (Nat.le_refl _) (Nat.le_of_ble_eq_true rfl) dX0_game_23 (Ct.mono (F R3) ?_)
        rintro r16 h17 ⟨e18, g19, F⟩
        have F := F e18
        have B20 := B12.tr e18
        have E21 := E13.tr e18
        refine v_if_eq C 43 (bR g19) dX0_game_26 (by decide) (fun c22 => ?_) (fun c22 => ?_)
        · have F := F.1 (c22)
          refine v_bipush C rfl dX0_game_43 ?_
          exact v_iret C (Nat.le_refl _) (Nat.le_refl _) dX0_game_45 ⟨B20, ⟨by decide, by decide⟩, F⟩
        · have F := F.2 (c22)
          refine v_aload_n C 0 rfl rfl dX0_game_29 ?_
          obtain ⟨o23, F⟩ := F
          refine gX0_149 C (SX.ext E21.1).k1 o23 dX0_game_30 ?_
          refine gX0_225 C ((SX.ext E21.1).t2).k rfl dX0_game_33 ?_
          refine v_iload_n C 3 rfl rfl dX0_game_36 ?_
          refine mX0_227 C (d2 := 0) (kc2 := 0) (ks2 := 0) (by decide) (Nat.le_refl _) (Nat.le_refl _) (Nat.le_of_ble_eq_true rfl) dX0_game_37 (Ct.mono (F (EX.rI B20 (j := 12) ((SX.ext E21.1).t2).k rfl) R3) ?_)
          rintro r24 h25 ⟨e26, g27, F⟩
          have F := F e26
          have B28 := B20.tr e26
          have E29 := E21.tr e26
          refine v_if_eq C 46 (bR g27) dX0_game_40 (by decide) (fun c30 => ?_) (fun c30 => ?_)
          · have F := F.1 (c30)
            refine v_iload C 4 rfl dX0_game_46 ?_
            refine v_i2l C R4 dX0_game_48 ?_
            refine v_lconst C (x := 1) rfl dX0_game_49 ?_
            refine v_ldc2 C (x := 4) q1103 dX0_game_50 ?_
            refine mX0_193 C (d2 := 0) (kc2 := 0) (ks2 := 0) (by decide) (Nat.le_refl _) (Nat.le_refl _) (Nat.le_of_ble_eq_true rfl) dX0_game_53 (Ct.mono (F (R32.l R4) ⟨by decide, by decide⟩ ⟨by decide, by decide⟩) ?_)
            rintro r31 h32 ⟨e33, g34, F⟩
            have F := F e33
            have B35 := B28.tr e33
            have E36 := E29.tr e33
            refine v_if_eq C 70 (bR g34) dX0_game_56 (by decide) (fun c37 => ?_) (fun c37 => ?_)
            · have F := F.1 (c37)
              refine v_bipush C rfl dX0_game_70 ?_
              exact v_iret C (Nat.le_refl _) (Nat.le_refl _) dX0_game_72 ⟨B35, ⟨by decide, by decide⟩, F⟩
            · have F := F.2 (c37)
              refine v_iload C 5 rfl dX0_game_59 ?_
              refine v_i2l C R5 dX0_game_61 ?_
              refine v_lconst C (x := 0) rfl dX0_game_62 ?_
              refine v_lconst C (x := 1) rfl dX0_game_63 ?_
              refine mX0_193 C (d2 := 0) (kc2 := 0) (ks2 := 0) (by decide) (Nat.le_refl _) (Nat.le_refl _) (Nat.le_of_ble_eq_true rfl) dX0_game_64 (Ct.mono (F (R32.l R5) ⟨by decide, by decide⟩ ⟨by decide, by decide⟩) ?_)
              rintro r38 h39 ⟨e40, g41, F⟩
              have F := F e40
              have B42 := B35.tr e40
              have E43 := E36.tr e40
              refine v_if_ne C 73 (bR g41) dX0_game_67 (by decide) (fun c44 => ?_) (fun c44 => ?_)
              · have F := F.1 (c44)
                refine v_aload_n C 0 rfl rfl dX0_game_73 ?_
                refine gX0_18 C (SX.ext E43.1).k1 (SX.ext E43.1).f2 dX0_game_74 ?_
                refine v_aload_n C 0 rfl rfl dX0_game_77 ?_
                obtain ⟨o45, F⟩ := F
                refine gX0_149 C (SX.ext E43.1).k1 o45 dX0_game_78 ?_
                refine mX0_145 C ((SX.ext E43.1).t20).k (d2 := 2) (kc2 := 0) (ks2 := 0) (by decide) (Nat.le_refl _) (Nat.le_refl _) (Nat.le_of_ble_eq_true rfl) dX0_game_81 (Ct.mono (F) ?_)
                rintro r46 h47 ⟨e48, F⟩
                replace F := F e48
                have B50 := B42.tr e48
                have E51 := E43.tr e48
                obtain ⟨r46q, F⟩ := F
                subst r46q
                refine v_pop C (rf_n1 _) dX0_game_84 ?_
                refine v_iconst C dX0_game_85 ?_
                refine v_istore C (by decide) dX0_game_86 (lv2 := [(6, iv 0), (0, rf 1), (1, iv x1), (2, iv x2), (3, iv x3), (4, iv x4), (5, iv x5)]) rfl ?_
                refine v_sub (lv2 := [(0, rf 1), (1, iv x1), (2, iv x2), (3, iv x3), (4, iv x4), (5, iv x5), (6, iv 0)]) [1, 2, 3, 4, 5, 6, 0] rfl ?_
                exact F ⟨B50, R1, R2, R3, R4, R5, ⟨by decide, by decide⟩⟩
              · have F := F.2 (c44)
                refine v_bipush C rfl dX0_game_70 ?_
                exact v_iret C (Nat.le_refl _) (Nat.le_refl _) dX0_game_72 ⟨B42, ⟨by decide, by decide⟩, F⟩
          · have F := F.2 (c30)
            refine v_bipush C rfl dX0_game_43 ?_
            exact v_iret C (Nat.le_refl _) (Nat.le_refl _) dX0_game_45 ⟨B28, ⟨by decide, by decide⟩, F⟩
set_option maxHeartbeats 4000000 in
theorem wX0_game_L88 {G : GT} {X : MX} {h0 h : Mem} {P : Int → Mem → Prop} {x1 x2 x3 x4 x5 x6 : Int} (C : Cx G X cX0_game 7 RX0 12 0 0 (some .int) "game") (B0 : EX h0 h ∧ R32 x1 ∧ R32 x2 ∧ R32 x3 ∧ R32 x4 ∧ R32 x5 ∧ R32 x6)
    (F : XS h ∧ ((x6 > x4 → kX0_worthFrom G X.2.1 6 x1 x2 x3 0 x4 h (fun r2 h3 => EX h h3 → ((x5 ≠ 0 → P (h3 1 20) h3) ∧ (x5 = 0 → P r2 h3)))) ∧ (x6 ≤ x4 → 0 ≤ x6 ∧ x6 < 5 ∧ h 1 0 = 2 ∧ h (h 38 x6) (-1) = 2 ∧ kX1_copies G X.2.1 (h 38 x6) 2 h (fun r13 h14 => EX h h14 → r13 = h 38 x6 ∧ R32 (x6 + 1) ∧ (EX h0 h14 ∧ R32 x1 ∧ R32 x2 ∧ R32 x3 ∧ R32 x4 ∧ R32 x5 ∧ R32 (x6 + 1) → V G X 7 0 0 (QF G X 0 0 0 (PI h0 P)) 88 [(0, rf 1), (1, iv x1), (2, iv x2), (3, iv x3), (4, iv x4), (5, iv x5), (6, iv (x6 + 1))] [] h14))))) :
    V G X 7 0 0 (QF G X 0 0 0 (PI h0 P)) 88 [(0, rf 1), (1, iv x1), (2, iv x2), (3, iv x3), (4, iv x4), (5, iv x5), (6, iv x6)] [] h := by
  obtain ⟨B, R1, R2, R3, R4, R5, R6⟩ := B0
  have E : EX h h := EX.rf B.2
  obtain ⟨SX, F⟩ := F
  refine v_iload C 6 rfl dX0_game_88 ?_
  refine v_iload C 4 rfl dX0_game_90 ?_
  refine v_icmp_gt C 116 R6 R4 dX0_game_92 (by decide) (fun c1 => ?_) (fun c1 => ?_)
  · have F := F.1 (c1)
    refine v_aload_n C 0 rfl rfl dX0_game_116 ?_
    refine v_iload_n C 1 rfl rfl dX0_game_117 ?_
    refine v_iload_n C 2 rfl rfl dX0_game_118 ?_
    refine v_iload_n C 3 rfl rfl dX0_game_119 ?_
    refine v_iconst C dX0_game_120 ?_
    refine v_iload C 4 rfl dX0_game_121 ?_
    refine mX0_328 C (SX.ext E.1).k1 (d2 := (6 + 5)) (kc2 := 0) (ks2 := 0) (by decide) (Nat.le_refl _) (Nat.le_refl _) (Nat.le_of_ble_eq_true rfl) dX0_game_123 (Ct.mono (F R1 R2 R3 ⟨by decide, by decide⟩ R4) ?_)
    rintro r2 h3 ⟨e4, g5, F⟩
    have F := F e4
    have B6 := B.tr e4
    have E7 := E.tr e4
    refine v_istore C (by decide) dX0_game_126 (lv2 := [(6, iv r2), (0, rf 1), (1, iv x1), (2, iv x2), (3, iv x3), (4, iv x4), (5, iv x5)]) rfl ?_
    refine v_iload C 6 rfl dX0_game_128 ?_
    refine v_if_ne C 138 R5 dX0_game_130 (by decide) (fun c8 => ?_) (fun c8 => ?_)
    · have F := F.1 (c8)
      refine v_aload_n C 1 rfl rfl dX0_game_138 ?_
      refine gX0_332 C (SX.ext E7.1).k1 rfl dX0_game_139 ?_
      exact v_iret C (Nat.le_refl _) (Nat.le_refl _) dX0_game_142 ⟨B6, (EX.rI B6 (j := 20) (SX.ext E7.1).k1 rfl), F⟩
    · have F := F.2 (c8)
      refine v_iload C 0 rfl dX0_game_133 ?_
      refine v_goto C 142 dX0_game_135 (by decide) ?_
      exact v_iret C (Nat.le_refl _) (Nat.le_refl _) dX0_game_142 ⟨B6, g5, F⟩
  · have F := F.2 (c1)
    refine v_aload_n C 0 rfl rfl dX0_game_95 ?_
    refine gX0_21 C (SX.ext E.1).k1 (SX.ext E.1).f3 dX0_game_96 ?_
    refine v_iload C 6 rfl dX0_game_99 ?_
    obtain ⟨o9, F⟩ := F
    obtain ⟨o10, F⟩ := F
    refine v_aald C 5 (by decide) (by decide) (SX.ext E.1).k38 o9 (by rw [(SX.ext E.1).l38]; exact o10) rfl dX0_game_101 ?_
    refine v_aload_n C 0 rfl rfl dX0_game_102 ?_
    obtain ⟨o11, F⟩ := F
    refine gX0_149 C (SX.ext E.1).k1 o11 dX0_game_103 ?_
    obtain ⟨o12, F⟩ := F
    refine mX0_145 C o12 (d2 := 2) (kc2 := 0) (ks2 := 0) (by decide) (Nat.le_refl _) (Nat.le_refl _) (Nat.le_of_ble_eq_true rfl) dX0_game_106 (Ct.mono (F) ?_)
    rintro r13 h14 ⟨e15, F⟩
    replace F := F e15
    have B17 := B.tr e15
    have E18 := E.tr e15
    obtain ⟨r13q, F⟩ := F
    subst r13q
    refine v_pop C (rf_n1 _) dX0_game_109 ?_
    obtain ⟨o19, F⟩ := F
    refine v_iinc C 6 rfl (by decide) dX0_game_110 (lv2 := [(6, iv (x6 + 1)), (0, rf 1), (1, iv x1), (2, iv x2), (3, iv x3), (4, iv x4), (5, iv x5)]) rfl ?_
    refine v_goto C 88 dX0_game_113 (by decide) ?_
    refine v_sub (lv2 := [(0, rf 1), (1, iv x1), (2, iv x2), (3, iv x3), (4, iv x4), (5, iv x5), (6, iv (x6 + 1))]) [1, 2, 3, 4, 5, 6, 0] rfl ?_
    exact F ⟨B17, R1, R2, R3, R4, R5, o19⟩
set_option maxHeartbeats 1000000 in
theorem eX0_game {G : GT} {l : Launch} {x1 x2 x3 x4 x5 : Int} {h : Mem} {P : Int → Mem → Prop} (F : ∀ X : MX, Cx G X cX0_game 7 RX0 12 0 0 (some .int) "game" → X.2.1 = l → (EX h h ∧ R32 x1 ∧ R32 x2 ∧ R32 x3 ∧ R32 x4 ∧ R32 x5) →
    XS h ∧ kX0_isPainter G X.2.1 x1 h (fun r1 h2 => EX h h2 → ((r1 = 0 → P (-100) h2) ∧ (r1 ≠ 0 → kX0_isPainter G X.2.1 x2 h2 (fun r8 h9 => EX h2 h9 → ((r8 = 0 → P (-100) h9) ∧ (r8 ≠ 0 → ((x1 = x2 → P (-100) h9) ∧ (x1 ≠ x2 → kX0_isThing G X.2.1 x3 h9 (fun r16 h17 => EX h9 h17 → ((r16 = 0 → P (-100) h17) ∧ (r16 ≠ 0 → h17 1 0 = 2 ∧ kX0_has G X.2.1 (h17 2 12) x3 h17 (fun r24 h25 => EX h17 h25 → ((r24 = 0 → kX0_in G X.2.1 x4 1 4 h25 (fun r31 h32 => EX h25 h32 → ((r31 = 0 → P (-100) h32) ∧ (r31 ≠ 0 → kX0_in G X.2.1 x5 0 1 h32 (fun r38 h39 => EX h32 h39 → ((r38 ≠ 0 → h39 1 0 = 2 ∧ kX1_copies G X.2.1 20 2 h39 (fun r46 h47 => EX h39 h47 → r46 = 20 ∧ (EX h h47 ∧ R32 x1 ∧ R32 x2 ∧ R32 x3 ∧ R32 x4 ∧ R32 x5 ∧ R32 0 → V G X 7 0 0 (QF G X 0 0 0 (PI h P)) 88 [(0, rf 1), (1, iv x1), (2, iv x2), (3, iv x3), (4, iv x4), (5, iv x5), (6, iv 0)] [] h47))) ∧ (r38 = 0 → P (-100) h39))))))) ∧ (r24 ≠ 0 → P (-100) h25))))))))))))))) :
    kX0_game G l x1 x2 x3 x4 x5 h P := by
  intro R1 R2 R3 R4 R5
  refine ct_of (by decide +kernel) (Nat.le_of_ble_eq_true rfl) fun X C e => ?_
  refine v_okz fun O => ?_
  exact wX0_game_0 C ⟨EX.rf O, R1, R2, R3, R4, R5⟩ (F X C e ⟨EX.rf O, R1, R2, R3, R4, R5⟩)
def kX0_rule (G : GT) (l : Launch) (kc ks : Nat) (h : Mem) (P : Int → Mem → Prop) : Prop := CtW G l yX0_rule cX0_rule 3 (some .int) [(16, 46, 49, 39)] 0 47 kc ks [rf 1] h (PI h P)
set_option maxHeartbeats 4000000 in
theorem wX0_rule_0 {G : GT} {X : MX} {h0 h : Mem} {P : Int → Mem → Prop} {kc ks uc us : Nat} (C : Cx G X cX0_rule 3 RX0 47 kc ks (some .int) "rule") (N : HasH X [(16, 46, 49, 39)]) (B0 : EX h0 h)
    (F : XS h ∧ ((h 1 16 ≠ 6 → ∀ y2 : Int, y2 = h 1 16 → 0 + 1 ≤ kc ∧ 0 + 7 ≤ ks ∧ ∀ h5 : Mem, h5 = alloc h 5 0 → ∀ a6 : Int, a6 = h 0 0 → kX4_init G X.2.1 a6 1 h5 (fun _ h10 => BX a6 h5 h10 → h10 a6 (-1) = 5 ∧ ∃ c16 s17 : Nat, 0 + 1 + c16 ≤ kc ∧ 0 + 7 + s17 ≤ ks ∧ kX4_ruleTold G X.2.1 c16 s17 a6 h10 (fun r20 h21 => EX h10 h21 → 0 ≤ h 1 16 ∧ h 1 16 < 6 ∧ h21 r20 (-1) = 6 ∧ ∀ h42 : Mem, h42 = up h21 171 (h 1 16) r20 → R32 (h21 1 16 + 1) ∧ ∀ h46 : Mem, h46 = up h42 1 16 (h21 1 16 + 1) → ∀ h49 : Mem, h49 = up h46 1 11 0 → P y2 h49) (fun h29 => EX h10 h29 → kX0_faulted G X.2.1 h29 (fun r30 h31 => EX h29 h31 → ∀ h36 : Mem, h36 = up h31 1 11 0 → P r30 h36)))) ∧ (h 1 16 = 6 → P (-1) h))) :
    V G X 3 0 0 (QF G X 0 kc ks (PI h0 P)) 0 [(0, rf 1)] [] h := by
  have B := B0
  have E : EX h h := EX.rf B.2
  obtain ⟨SX, F⟩ := F
  refine v_aload_n C 0 rfl rfl dX0_rule_0 ?_
  refine gX0_159 C (SX.ext E.1).k1 rfl dX0_rule_1 ?_
  refine v_bipush C rfl dX0_rule_4 ?_
  refine v_icmp_ne C 11 (EX.rI B (j := 16) (SX.ext E.1).k1 rfl) ⟨by decide, by decide⟩ dX0_rule_6 (by decide) (fun c1 => ?_) (fun c1 => ?_)
  · have F := F.1 (c1)
    refine v_aload_n C 0 rfl rfl dX0_rule_11 ?_
    refine gX0_159 C (SX.ext E.1).k1 rfl dX0_rule_12 ?_
    obtain ⟨y2, ey2⟩ : ∃ z : Int, z = h 1 16 := ⟨_, rfl⟩
    have F := F y2 ey2
    have Ry2 : R32 y2 := by rw [ey2]; exact (EX.rI B (j := 16) (SX.ext E.1).k1 rfl)
    refine v_istore_n C rfl (by decide) dX0_rule_15 (lv2 := [(1, iv y2), (0, rf 1)]) (by rw [ey2]; rfl) ?_
    refine v_aload_n C 1 rfl rfl dX0_rule_16 ?_
    refine gX0_100 C (SX.ext E.1).k1 (SX.ext E.1).f15 dX0_rule_17 ?_
    refine v_aload_n C 1 rfl rfl dX0_rule_20 ?_
    refine gX0_159 C (SX.ext E.1).k1 rfl dX0_rule_21 ?_
    obtain ⟨o3, o4, F⟩ := F
    refine nX0_136 C o3 o4 dX0_rule_24 ?_
    obtain ⟨h5, eh5⟩ : ∃ m : Mem, m = alloc h 5 0 := ⟨_, rfl⟩
    obtain ⟨a6, ea6⟩ : ∃ z : Int, z = h 0 0 := ⟨_, rfl⟩
    have La6 : h0 0 0 ≤ a6 := by rw [ea6]; exact B.1.1
    have Ma6 : h 0 0 ≤ a6 := by rw [ea6]; exact E.1.1
    have Na6 : a6 ≠ 0 := by have z := B.pos; rw [ea6]; omega
    have B7 : EX h0 h5 := by rw [eh5]; exact EX_alloc B (by decide) (by decide) (by decide) (by decide)
    have E8 : EX h h5 := by rw [eh5]; exact EX_alloc E (by decide) (by decide) (by decide) (by decide)
    refine v_mem eh5 ?_
    refine v_topi ea6.symm ?_
    have F := F h5 eh5 a6 ea6
    refine v_dup C (rf_n1 _) dX0_rule_27 ?_
    refine v_aload_n C 1 rfl rfl dX0_rule_28 ?_
    refine mX0_138 C Na6 (d2 := 1) (kc2 := 0) (ks2 := 0) (by decide) o3 o4 (Nat.le_of_ble_eq_true rfl) dX0_rule_29 (Ct.mono (F) ?_)
    rintro r9 h10 ⟨e11, F⟩
    have F := F e11
    have B13 := e11.2 _ B7 La6
    have E14 := e11.2 _ E8 Ma6
    obtain ⟨o15, F⟩ := F
    obtain ⟨c16, s17, o18, o19, F⟩ := F
    refine tX0_162 C N o15 (d2 := 46) (kc2 := c16) (ks2 := s17) (by decide) o18 o19 (Nat.le_of_ble_eq_true rfl) dX0_rule_32 (by decide) rfl (by decide) dX0_rule_49 (lv9 := [(1, iv y2), (0, rf 1)]) rfl (CtX.mono (F) ?_ ?_)
    · rintro r20 h21 ⟨e22, F⟩
      have F := F e22
      have B24 := B13.tr e22
      have E25 := E14.tr e22
      obtain ⟨o39, F⟩ := F
      obtain ⟨o40, F⟩ := F
      obtain ⟨o41, F⟩ := F
      refine v_aast C 6 (ci := 5) rfl (by decide) (SX.ext E25.1).k171 o39 (by rw [(SX.ext E25.1).l171]; exact o40) rfl o41 dX0_rule_35 ?_
      obtain ⟨h42, eh42⟩ : ∃ m : Mem, m = up h21 171 (h 1 16) r20 := ⟨_, rfl⟩
      have B43 : EX h0 h42 := by rw [eh42]; exact EX_up B24 (SX.ext E25.1).k171 (by decide) rfl o39 (okI_r rfl rfl)
      have E44 : EX h h42 := by rw [eh42]; exact EX_up E25 (SX.ext E25.1).k171 (by decide) rfl o39 (okI_r rfl rfl)
      refine v_mem eh42 ?_
      have F := F h42 eh42
      refine v_aload_n C 1 rfl rfl dX0_rule_36 ?_
      refine v_dup C (rf_n1 _) dX0_rule_37 ?_
      refine gX0_159 C (SX.ext E44.1).k1 (show h42 1 16 = h21 1 16 by rw [eh42, up_a (by decide)]) dX0_rule_38 ?_
      refine v_iconst C dX0_rule_41 ?_
      refine v_iadd C dX0_rule_42 ?_
      obtain ⟨o45, F⟩ := F
      refine pX0_159 C (SX.ext E44.1).k1 (okI_i rfl o45) dX0_rule_43 ?_
      obtain ⟨h46, eh46⟩ : ∃ m : Mem, m = up h42 1 16 (h21 1 16 + 1) := ⟨_, rfl⟩
      have B47 : EX h0 h46 := by rw [eh46]; exact EX_up B43 (SX.ext E44.1).k1 (by decide) rfl (by decide) (okI_i rfl o45)
      have E48 : EX h h46 := by rw [eh46]; exact EX_up E44 (SX.ext E44.1).k1 (by decide) rfl (by decide) (okI_i rfl o45)
      refine v_mem eh46 ?_
      have F := F h46 eh46
      refine v_goto C 55 dX0_rule_46 (by decide) ?_
      refine v_aload_n C 1 rfl rfl dX0_rule_55 ?_
      refine v_iconst C dX0_rule_56 ?_
      refine pX0_123 C (SX.ext E48.1).k1 (okI_i rfl ⟨by decide, by decide⟩) dX0_rule_57 ?_
      obtain ⟨h49, eh49⟩ : ∃ m : Mem, m = up h46 1 11 0 := ⟨_, rfl⟩
      have B50 : EX h0 h49 := by rw [eh49]; exact EX_up B47 (SX.ext E48.1).k1 (by decide) rfl (by decide) (okI_i rfl ⟨by decide, by decide⟩)
      have E51 : EX h h49 := by rw [eh49]; exact EX_up E48 (SX.ext E48.1).k1 (by decide) rfl (by decide) (okI_i rfl ⟨by decide, by decide⟩)
      refine v_mem eh49 ?_
      have F := F h49 eh49
      refine v_iload_n C 0 rfl rfl dX0_rule_60 ?_
      exact v_iret C o18 o19 dX0_rule_61 ⟨B50, Ry2, F⟩
    · rintro h29 ⟨e26, F⟩
      have F := F e26
      have B27 := B13.tr e26
      have E28 := E14.tr e26
      refine v_aload_n C 1 rfl rfl dX0_rule_50 ?_
      refine mX0_155 C (SX.ext E28.1).k1 (d2 := 0) (kc2 := 0) (ks2 := 0) (by decide) o18 o19 (Nat.le_of_ble_eq_true rfl) dX0_rule_51 (Ct.mono (F) ?_)
      rintro r30 h31 ⟨e32, g33, F⟩
      have F := F e32
      have B34 := B27.tr e32
      have E35 := E28.tr e32
      refine v_istore_n C rfl (by decide) dX0_rule_54 (lv2 := [(1, iv r30), (0, rf 1)]) rfl ?_
      refine v_aload_n C 1 rfl rfl dX0_rule_55 ?_
      refine v_iconst C dX0_rule_56 ?_
      refine pX0_123 C (SX.ext E35.1).k1 (okI_i rfl ⟨by decide, by decide⟩) dX0_rule_57 ?_
      obtain ⟨h36, eh36⟩ : ∃ m : Mem, m = up h31 1 11 0 := ⟨_, rfl⟩
      have B37 : EX h0 h36 := by rw [eh36]; exact EX_up B34 (SX.ext E35.1).k1 (by decide) rfl (by decide) (okI_i rfl ⟨by decide, by decide⟩)
      have E38 : EX h h36 := by rw [eh36]; exact EX_up E35 (SX.ext E35.1).k1 (by decide) rfl (by decide) (okI_i rfl ⟨by decide, by decide⟩)
      refine v_mem eh36 ?_
      have F := F h36 eh36
      refine v_iload_n C 0 rfl rfl dX0_rule_60 ?_
      exact v_iret C o18 o19 dX0_rule_61 ⟨B37, g33, F⟩
  · have F := F.2 (c1)
    refine v_iconst C dX0_rule_9 ?_
    exact v_iret C (Nat.zero_le _) (Nat.zero_le _) dX0_rule_10 ⟨B, ⟨by decide, by decide⟩, F⟩
set_option maxHeartbeats 1000000 in
theorem eX0_rule {G : GT} {l : Launch} {kc ks : Nat} {h : Mem} {P : Int → Mem → Prop} (F : ∀ X : MX, Cx G X cX0_rule 3 RX0 47 kc ks (some .int) "rule" → HasH X [(16, 46, 49, 39)] → X.2.1 = l → (EX h h) →
    XS h ∧ ((h 1 16 ≠ 6 → ∀ y2 : Int, y2 = h 1 16 → 0 + 1 ≤ kc ∧ 0 + 7 ≤ ks ∧ ∀ h5 : Mem, h5 = alloc h 5 0 → ∀ a6 : Int, a6 = h 0 0 → kX4_init G X.2.1 a6 1 h5 (fun _ h10 => BX a6 h5 h10 → h10 a6 (-1) = 5 ∧ ∃ c16 s17 : Nat, 0 + 1 + c16 ≤ kc ∧ 0 + 7 + s17 ≤ ks ∧ kX4_ruleTold G X.2.1 c16 s17 a6 h10 (fun r20 h21 => EX h10 h21 → 0 ≤ h 1 16 ∧ h 1 16 < 6 ∧ h21 r20 (-1) = 6 ∧ ∀ h42 : Mem, h42 = up h21 171 (h 1 16) r20 → R32 (h21 1 16 + 1) ∧ ∀ h46 : Mem, h46 = up h42 1 16 (h21 1 16 + 1) → ∀ h49 : Mem, h49 = up h46 1 11 0 → P y2 h49) (fun h29 => EX h10 h29 → kX0_faulted G X.2.1 h29 (fun r30 h31 => EX h29 h31 → ∀ h36 : Mem, h36 = up h31 1 11 0 → P r30 h36)))) ∧ (h 1 16 = 6 → P (-1) h))) :
    kX0_rule G l kc ks h P := by
  refine ct_ofW (by decide +kernel) (Nat.le_of_ble_eq_true rfl) fun X C N e => ?_
  refine v_okz fun O => ?_
  exact wX0_rule_0 (uc := 0) (us := 0) C N (EX.rf O) (F X C N e (EX.rf O))
def kX0_ahead (G : GT) (l : Launch) (x1 x2 x3 : Int) (h : Mem) (P : Int → Mem → Prop) : Prop := R32 x1 → R32 x2 → R32 x3 → Ct G l yX0_ahead cX0_ahead 6 (some .int) 0 405 0 0 [rf 1, iv x1, iv x2, iv x3] h (PI h P)
set_option maxHeartbeats 4000000 in
theorem wX0_ahead_0 {G : GT} {X : MX} {h0 h : Mem} {P : Int → Mem → Prop} {x1 x2 x3 : Int} (C : Cx G X cX0_ahead 6 RX0 405 0 0 (some .int) "ahead") (B0 : EX h0 h ∧ R32 x1 ∧ R32 x2 ∧ R32 x3)
    (F : XS h ∧ kX0_in G X.2.1 x2 0 100 h (fun r1 h2 => EX h h2 → ((r1 = 0 → P (-2) h2) ∧ (r1 ≠ 0 → kX0_in G X.2.1 x3 0 2 h2 (fun r8 h9 => EX h2 h9 → ((r8 ≠ 0 → ((x3 ≠ 0 → ((x3 ≠ 1 → kX0_isCell G X.2.1 x1 h9 (fun r17 h18 => EX h9 h18 → ((r17 ≠ 0 → h18 1 0 = 2 ∧ kX1_copies G X.2.1 20 2 h18 (fun r25 h26 => EX h18 h26 → r25 = 20 ∧ (EX h0 h26 ∧ R32 x1 ∧ R32 x2 ∧ R32 x3 ∧ R32 0 → V G X 6 0 0 (QF G X 0 0 0 (PI h0 P)) 85 [(0, rf 1), (1, iv x1), (2, iv x2), (3, iv x3), (4, rf 20), (5, iv 0)] [] h26))) ∧ (r17 = 0 → P (-2) h18)))) ∧ (x3 = 1 → kX0_isPainter G X.2.1 x1 h9 (fun r31 h32 => EX h9 h32 → ((r31 ≠ 0 → h32 1 0 = 2 ∧ kX1_copies G X.2.1 20 2 h32 (fun r39 h40 => EX h32 h40 → r39 = 20 ∧ (EX h0 h40 ∧ R32 x1 ∧ R32 x2 ∧ R32 x3 ∧ R32 0 → V G X 6 0 0 (QF G X 0 0 0 (PI h0 P)) 85 [(0, rf 1), (1, iv x1), (2, iv x2), (3, iv x3), (4, rf 20), (5, iv 0)] [] h40))) ∧ (r31 = 0 → P (-2) h32)))))) ∧ (x3 = 0 → kX0_isThing G X.2.1 x1 h9 (fun r45 h46 => EX h9 h46 → ((r45 ≠ 0 → h46 1 0 = 2 ∧ kX1_copies G X.2.1 20 2 h46 (fun r53 h54 => EX h46 h54 → r53 = 20 ∧ (EX h0 h54 ∧ R32 x1 ∧ R32 x2 ∧ R32 x3 ∧ R32 0 → V G X 6 0 0 (QF G X 0 0 0 (PI h0 P)) 85 [(0, rf 1), (1, iv x1), (2, iv x2), (3, iv x3), (4, rf 20), (5, iv 0)] [] h54))) ∧ (r45 = 0 → P (-2) h46)))))) ∧ (r8 = 0 → P (-2) h9))))))) :
    V G X 6 0 0 (QF G X 0 0 0 (PI h0 P)) 0 [(0, rf 1), (1, iv x1), (2, iv x2), (3, iv x3)] [] h := by
  obtain ⟨B, R1, R2, R3⟩ := B0
  have E : EX h h := EX.rf B.2
  obtain ⟨SX, F⟩ := F
  refine v_iload_n C 2 rfl rfl dX0_ahead_0 ?_
  refine v_i2l C R2 dX0_ahead_1 ?_
  refine v_lconst C (x := 0) rfl dX0_ahead_2 ?_
  refine v_ldc2 C (x := 100) q1049 dX0_ahead_3 ?_
  refine mX0_193 C (d2 := 0) (kc2 := 0) (ks2 := 0) (by decide) (Nat.le_refl _) (Nat.le_refl _) (Nat.le_of_ble_eq_true rfl) dX0_ahead_6 (Ct.mono (F (R32.l R2) ⟨by decide, by decide⟩ ⟨by decide, by decide⟩) ?_)
  rintro r1 h2 ⟨e3, g4, F⟩
  have F := F e3
  have B5 := B.tr e3
  have E6 := E.tr e3
  refine v_if_eq C 24 (bR g4) dX0_ahead_9 (by decide) (fun c7 => ?_) (fun c7 => ?_)
  · have F := F.1 (c7)
    refine v_bipush C rfl dX0_ahead_24 ?_
    exact v_iret C (Nat.le_refl _) (Nat.le_refl _) dX0_ahead_26 ⟨B5, ⟨by decide, by decide⟩, F⟩
  · have F := F.2 (c7)
    refine v_iload_n C 3 rfl rfl dX0_ahead_12 ?_
    refine v_i2l C R3 dX0_ahead_13 ?_
    refine v_lconst C (x := 0) rfl dX0_ahead_14 ?_
    refine v_ldc2 C (x := 2) q874 dX0_ahead_15 ?_
    refine mX0_193 C (d2 := 0) (kc2 := 0) (ks2 := 0) (by decide) (Nat.le_refl _) (Nat.le_refl _) (Nat.le_of_ble_eq_true rfl) dX0_ahead_18 (Ct.mono (F (R32.l R3) ⟨by decide, by decide⟩ ⟨by decide, by decide⟩) ?_)
    rintro r8 h9 ⟨e10, g11, F⟩
    have F := F e10
    have B12 := B5.tr e10
    have E13 := E6.tr e10
    refine v_if_ne C 27 (bR g11) dX0_ahead_21 (by decide) (fun c14 => ?_) (fun c14 => ?_)
    · have F := F.1 (c14)
      refine v_iload_n C 3 rfl rfl dX0_ahead_27 ?_
      refine v_if_ne C 42 R3 dX0_ahead_28 (by decide) (fun c15 => ?_) (fun c15 => ?_)
      · have F := F.1 (c15)
        refine v_iload_n C 3 rfl rfl dX0_ahead_42 ?_
        refine v_iconst C dX0_ahead_43 ?_
        refine v_icmp_ne C 58 R3 ⟨by decide, by decide⟩ dX0_ahead_44 (by decide) (fun c16 => ?_) (fun c16 => ?_)
        · have F := F.1 (c16)
          refine v_aload_n C 0 rfl rfl dX0_ahead_58 ?_
          refine v_iload_n C 1 rfl rfl dX0_ahead_59 ?_
          refine mX0_172 C (SX.ext E13.1).k1 (d2 := 0) (kc2 := 0) (ks2 := 0) (by decide) (Nat.le_refl _) (Nat.le_refl _) (Nat.le_of_ble_eq_true rfl) dX0_ahead_60 (Ct.mono (F R1) ?_)
          rintro r17 h18 ⟨e19, g20, F⟩
          have F := F e19
          have B21 := B12.tr e19
          have E22 := E13.tr e19
          refine v_if_ne C 69 (bR g20) dX0_ahead_63 (by decide) (fun c23 => ?_) (fun c23 => ?_)
          · have F := F.1 (c23)
            refine v_aload_n C 0 rfl rfl dX0_ahead_69 ?_
            refine gX0_18 C (SX.ext E22.1).k1 (SX.ext E22.1).f2 dX0_ahead_70 ?_
            refine v_aload_n C 0 rfl rfl dX0_ahead_73 ?_
            obtain ⟨o24, F⟩ := F
            refine gX0_149 C (SX.ext E22.1).k1 o24 dX0_ahead_74 ?_
            refine mX0_145 C ((SX.ext E22.1).t20).k (d2 := 2) (kc2 := 0) (ks2 := 0) (by decide) (Nat.le_refl _) (Nat.le_refl _) (Nat.le_of_ble_eq_true rfl) dX0_ahead_77 (Ct.mono (F) ?_)
            rintro r25 h26 ⟨e27, F⟩
            replace F := F e27
            have B29 := B21.tr e27
            have E30 := E22.tr e27
            obtain ⟨r25q, F⟩ := F
            subst r25q
            refine v_astore C (by decide) dX0_ahead_80 (lv2 := [(4, rf 20), (0, rf 1), (1, iv x1), (2, iv x2), (3, iv x3)]) rfl ?_
            refine v_iconst C dX0_ahead_82 ?_
            refine v_istore C (by decide) dX0_ahead_83 (lv2 := [(5, iv 0), (4, rf 20), (0, rf 1), (1, iv x1), (2, iv x2), (3, iv x3)]) rfl ?_
            refine v_sub (lv2 := [(0, rf 1), (1, iv x1), (2, iv x2), (3, iv x3), (4, rf 20), (5, iv 0)]) [2, 3, 4, 5, 1, 0] rfl ?_
            exact F ⟨B29, R1, R2, R3, ⟨by decide, by decide⟩⟩
          · have F := F.2 (c23)
            refine v_bipush C rfl dX0_ahead_66 ?_
            exact v_iret C (Nat.le_refl _) (Nat.le_refl _) dX0_ahead_68 ⟨B21, ⟨by decide, by decide⟩, F⟩
        · have F := F.2 (c16)
          refine v_aload_n C 0 rfl rfl dX0_ahead_47 ?_
          refine v_iload_n C 1 rfl rfl dX0_ahead_48 ?_
          refine mX0_231 C (SX.ext E13.1).k1 (d2 := 0) (kc2 := 0) (ks2 := 0) (by decide) (Nat.le_refl _) (Nat.le_refl _) (Nat.le_of_ble_eq_true rfl) dX0_ahead_49 (Ct.mono (F R1) ?_)
          rintro r31 h32 ⟨e33, g34, F⟩
          have F := F e33
          have B35 := B12.tr e33
          have E36 := E13.tr e33
          refine v_if_ne C 69 (bR g34) dX0_ahead_52 (by decide) (fun c37 => ?_) (fun c37 => ?_)
          · have F := F.1 (c37)
            refine v_aload_n C 0 rfl rfl dX0_ahead_69 ?_
            refine gX0_18 C (SX.ext E36.1).k1 (SX.ext E36.1).f2 dX0_ahead_70 ?_
            refine v_aload_n C 0 rfl rfl dX0_ahead_73 ?_
            obtain ⟨o38, F⟩ := F
            refine gX0_149 C (SX.ext E36.1).k1 o38 dX0_ahead_74 ?_
            refine mX0_145 C ((SX.ext E36.1).t20).k (d2 := 2) (kc2 := 0) (ks2 := 0) (by decide) (Nat.le_refl _) (Nat.le_refl _) (Nat.le_of_ble_eq_true rfl) dX0_ahead_77 (Ct.mono (F) ?_)
            rintro r39 h40 ⟨e41, F⟩
            replace F := F e41
            have B43 := B35.tr e41
            have E44 := E36.tr e41
            obtain ⟨r39q, F⟩ := F
            subst r39q
            refine v_astore C (by decide) dX0_ahead_80 (lv2 := [(4, rf 20), (0, rf 1), (1, iv x1), (2, iv x2), (3, iv x3)]) rfl ?_
            refine v_iconst C dX0_ahead_82 ?_
            refine v_istore C (by decide) dX0_ahead_83 (lv2 := [(5, iv 0), (4, rf 20), (0, rf 1), (1, iv x1), (2, iv x2), (3, iv x3)]) rfl ?_
            refine v_sub (lv2 := [(0, rf 1), (1, iv x1), (2, iv x2), (3, iv x3), (4, rf 20), (5, iv 0)]) [2, 3, 4, 5, 1, 0] rfl ?_
            exact F ⟨B43, R1, R2, R3, ⟨by decide, by decide⟩⟩
          · have F := F.2 (c37)
            refine v_goto C 66 dX0_ahead_55 (by decide) ?_
            refine v_bipush C rfl dX0_ahead_66 ?_
            exact v_iret C (Nat.le_refl _) (Nat.le_refl _) dX0_ahead_68 ⟨B35, ⟨by decide, by decide⟩, F⟩
      · have F := F.2 (c15)
        refine v_aload_n C 0 rfl rfl dX0_ahead_31 ?_
        refine v_iload_n C 1 rfl rfl dX0_ahead_32 ?_
        refine mX0_212 C (SX.ext E13.1).k1 (d2 := 0) (kc2 := 0) (ks2 := 0) (by decide) (Nat.le_refl _) (Nat.le_refl _) (Nat.le_of_ble_eq_true rfl) dX0_ahead_33 (Ct.mono (F R1) ?_)
        rintro r45 h46 ⟨e47, g48, F⟩
        have F := F e47
        have B49 := B12.tr e47
        have E50 := E13.tr e47
        refine v_if_ne C 69 (bR g48) dX0_ahead_36 (by decide) (fun c51 => ?_) (fun c51 => ?_)
        · have F := F.1 (c51)
          refine v_aload_n C 0 rfl rfl dX0_ahead_69 ?_
          refine gX0_18 C (SX.ext E50.1).k1 (SX.ext E50.1).f2 dX0_ahead_70 ?_
          refine v_aload_n C 0 rfl rfl dX0_ahead_73 ?_
          obtain ⟨o52, F⟩ := F
          refine gX0_149 C (SX.ext E50.1).k1 o52 dX0_ahead_74 ?_
          refine mX0_145 C ((SX.ext E50.1).t20).k (d2 := 2) (kc2 := 0) (ks2 := 0) (by decide) (Nat.le_refl _) (Nat.le_refl _) (Nat.le_of_ble_eq_true rfl) dX0_ahead_77 (Ct.mono (F) ?_)
          rintro r53 h54 ⟨e55, F⟩
          replace F := F e55
          have B57 := B49.tr e55
          have E58 := E50.tr e55
          obtain ⟨r53q, F⟩ := F
          subst r53q
          refine v_astore C (by decide) dX0_ahead_80 (lv2 := [(4, rf 20), (0, rf 1), (1, iv x1), (2, iv x2), (3, iv x3)]) rfl ?_
          refine v_iconst C dX0_ahead_82 ?_
          refine v_istore C (by decide) dX0_ahead_83 (lv2 := [(5, iv 0), (4, rf 20), (0, rf 1), (1, iv x1), (2, iv x2), (3, iv x3)]) rfl ?_
          refine v_sub (lv2 := [(0, rf 1), (1, iv x1), (2, iv x2), (3, iv x3), (4, rf 20), (5, iv 0)]) [2, 3, 4, 5, 1, 0] rfl ?_
          exact F ⟨B57, R1, R2, R3, ⟨by decide, by decide⟩⟩
        · have F := F.2 (c51)
          refine v_goto C 66 dX0_ahead_39 (by decide) ?_
          refine v_bipush C rfl dX0_ahead_66 ?_
          exact v_iret C (Nat.le_refl _) (Nat.le_refl _) dX0_ahead_68 ⟨B49, ⟨by decide, by decide⟩, F⟩
    · have F := F.2 (c14)
      refine v_bipush C rfl dX0_ahead_24 ?_
      exact v_iret C (Nat.le_refl _) (Nat.le_refl _) dX0_ahead_26 ⟨B12, ⟨by decide, by decide⟩, F⟩
set_option maxHeartbeats 4000000 in
theorem wX0_ahead_L85 {G : GT} {X : MX} {h0 h : Mem} {P : Int → Mem → Prop} {x1 x2 x3 x5 : Int} (C : Cx G X cX0_ahead 6 RX0 405 0 0 (some .int) "ahead") (B0 : EX h0 h ∧ R32 x1 ∧ R32 x2 ∧ R32 x3 ∧ R32 x5)
    (F : XS h ∧ ((x5 ≥ x2 → ((x3 ≠ 0 → ((x3 ≠ 1 → kX1_ownerOf G X.2.1 20 x1 h (fun r4 h5 => EX h h5 → P r4 h5)) ∧ (x3 = 1 → 0 ≤ x1 ∧ x1 < 4 ∧ P (h 34 x1) h))) ∧ (x3 = 0 → kX1_whose G X.2.1 20 x1 h (fun r12 h13 => EX h h13 → P r12 h13)))) ∧ (x5 < x2 → kX0_law G X.2.1 h (fun r18 h19 => EX h h19 → kX1_passes G X.2.1 20 r18 165 h19 (fun r24 h25 => EX h19 h25 → R32 (x5 + 1) ∧ (EX h0 h25 ∧ R32 x1 ∧ R32 x2 ∧ R32 x3 ∧ R32 (x5 + 1) → V G X 6 0 0 (QF G X 0 0 0 (PI h0 P)) 85 [(0, rf 1), (1, iv x1), (2, iv x2), (3, iv x3), (4, rf 20), (5, iv (x5 + 1))] [] h25)))))) :
    V G X 6 0 0 (QF G X 0 0 0 (PI h0 P)) 85 [(0, rf 1), (1, iv x1), (2, iv x2), (3, iv x3), (4, rf 20), (5, iv x5)] [] h := by
  obtain ⟨B, R1, R2, R3, R5⟩ := B0
  have E : EX h h := EX.rf B.2
  obtain ⟨SX, F⟩ := F
  refine v_iload C 5 rfl dX0_ahead_85 ?_
  refine v_iload_n C 2 rfl rfl dX0_ahead_87 ?_
  refine v_icmp_ge C 111 R5 R2 dX0_ahead_88 (by decide) (fun c1 => ?_) (fun c1 => ?_)
  · have F := F.1 (c1)
    refine v_iload_n C 3 rfl rfl dX0_ahead_111 ?_
    refine v_if_ne C 124 R3 dX0_ahead_112 (by decide) (fun c2 => ?_) (fun c2 => ?_)
    · have F := F.1 (c2)
      refine v_iload_n C 3 rfl rfl dX0_ahead_124 ?_
      refine v_iconst C dX0_ahead_125 ?_
      refine v_icmp_ne C 139 R3 ⟨by decide, by decide⟩ dX0_ahead_126 (by decide) (fun c3 => ?_) (fun c3 => ?_)
      · have F := F.1 (c3)
        refine v_aload C 4 rfl dX0_ahead_139 ?_
        refine v_iload_n C 1 rfl rfl dX0_ahead_141 ?_
        refine mX0_182 C ((SX.ext E.1).t20).k (d2 := 1) (kc2 := 0) (ks2 := 0) (by decide) (Nat.le_refl _) (Nat.le_refl _) (Nat.le_of_ble_eq_true rfl) dX0_ahead_142 (Ct.mono (F R1) ?_)
        rintro r4 h5 ⟨e6, g7, F⟩
        have F := F e6
        have B8 := B.tr e6
        have E9 := E.tr e6
        exact v_iret C (Nat.le_refl _) (Nat.le_refl _) dX0_ahead_145 ⟨B8, g7, F⟩
      · have F := F.2 (c3)
        refine v_aload C 4 rfl dX0_ahead_129 ?_
        refine gX0_234 C ((SX.ext E.1).t20).k ((SX.ext E.1).t20).f26 dX0_ahead_131 ?_
        refine v_iload_n C 1 rfl rfl dX0_ahead_134 ?_
        obtain ⟨o10, F⟩ := F
        obtain ⟨o11, F⟩ := F
        refine v_iald C ((SX.ext E.1).t20).k26 o10 (by rw [((SX.ext E.1).t20).l26]; exact o11) rfl dX0_ahead_135 ?_
        refine v_goto C 145 dX0_ahead_136 (by decide) ?_
        exact v_iret C (Nat.le_refl _) (Nat.le_refl _) dX0_ahead_145 ⟨B, (EX.rI B (j := x1) ((SX.ext E.1).t20).k26 rfl), F⟩
    · have F := F.2 (c2)
      refine v_aload C 4 rfl dX0_ahead_115 ?_
      refine v_iload_n C 1 rfl rfl dX0_ahead_117 ?_
      refine mX0_223 C ((SX.ext E.1).t20).k (d2 := 2) (kc2 := 0) (ks2 := 0) (by decide) (Nat.le_refl _) (Nat.le_refl _) (Nat.le_of_ble_eq_true rfl) dX0_ahead_118 (Ct.mono (F R1) ?_)
      rintro r12 h13 ⟨e14, g15, F⟩
      have F := F e14
      have B16 := B.tr e14
      have E17 := E.tr e14
      refine v_goto C 145 dX0_ahead_121 (by decide) ?_
      exact v_iret C (Nat.le_refl _) (Nat.le_refl _) dX0_ahead_145 ⟨B16, g15, F⟩
  · have F := F.2 (c1)
    refine v_aload C 4 rfl dX0_ahead_91 ?_
    refine v_aload_n C 0 rfl rfl dX0_ahead_93 ?_
    refine mX0_263 C (SX.ext E.1).k1 (d2 := 0) (kc2 := 0) (ks2 := 0) (by decide) (Nat.le_refl _) (Nat.le_refl _) (Nat.le_of_ble_eq_true rfl) dX0_ahead_94 (Ct.mono (F) ?_)
    rintro r18 h19 ⟨e20, F⟩
    have F := F e20
    have B22 := B.tr e20
    have E23 := E.tr e20
    refine v_aload_n C 0 rfl rfl dX0_ahead_97 ?_
    refine gX0_31 C (SX.ext E23.1).k1 (SX.ext E23.1).f6 dX0_ahead_98 ?_
    refine mX0_266 C ((SX.ext E23.1).t20).k (d2 := 404) (kc2 := 0) (ks2 := 0) (by decide) (Nat.le_refl _) (Nat.le_refl _) (Nat.le_of_ble_eq_true rfl) dX0_ahead_101 (Ct.mono (F) ?_)
    rintro r24 h25 ⟨e26, g27, F⟩
    have F := F e26
    have B28 := B22.tr e26
    have E29 := E23.tr e26
    refine v_pop C (iv_n1 _) dX0_ahead_104 ?_
    obtain ⟨o30, F⟩ := F
    refine v_iinc C 5 rfl (by decide) dX0_ahead_105 (lv2 := [(5, iv (x5 + 1)), (0, rf 1), (1, iv x1), (2, iv x2), (3, iv x3), (4, rf 20)]) rfl ?_
    refine v_goto C 85 dX0_ahead_108 (by decide) ?_
    refine v_sub (lv2 := [(0, rf 1), (1, iv x1), (2, iv x2), (3, iv x3), (4, rf 20), (5, iv (x5 + 1))]) [1, 2, 3, 4, 5, 0] rfl ?_
    exact F ⟨B28, R1, R2, R3, o30⟩
set_option maxHeartbeats 1000000 in
theorem eX0_ahead {G : GT} {l : Launch} {x1 x2 x3 : Int} {h : Mem} {P : Int → Mem → Prop} (F : ∀ X : MX, Cx G X cX0_ahead 6 RX0 405 0 0 (some .int) "ahead" → X.2.1 = l → (EX h h ∧ R32 x1 ∧ R32 x2 ∧ R32 x3) →
    XS h ∧ kX0_in G X.2.1 x2 0 100 h (fun r1 h2 => EX h h2 → ((r1 = 0 → P (-2) h2) ∧ (r1 ≠ 0 → kX0_in G X.2.1 x3 0 2 h2 (fun r8 h9 => EX h2 h9 → ((r8 ≠ 0 → ((x3 ≠ 0 → ((x3 ≠ 1 → kX0_isCell G X.2.1 x1 h9 (fun r17 h18 => EX h9 h18 → ((r17 ≠ 0 → h18 1 0 = 2 ∧ kX1_copies G X.2.1 20 2 h18 (fun r25 h26 => EX h18 h26 → r25 = 20 ∧ (EX h h26 ∧ R32 x1 ∧ R32 x2 ∧ R32 x3 ∧ R32 0 → V G X 6 0 0 (QF G X 0 0 0 (PI h P)) 85 [(0, rf 1), (1, iv x1), (2, iv x2), (3, iv x3), (4, rf 20), (5, iv 0)] [] h26))) ∧ (r17 = 0 → P (-2) h18)))) ∧ (x3 = 1 → kX0_isPainter G X.2.1 x1 h9 (fun r31 h32 => EX h9 h32 → ((r31 ≠ 0 → h32 1 0 = 2 ∧ kX1_copies G X.2.1 20 2 h32 (fun r39 h40 => EX h32 h40 → r39 = 20 ∧ (EX h h40 ∧ R32 x1 ∧ R32 x2 ∧ R32 x3 ∧ R32 0 → V G X 6 0 0 (QF G X 0 0 0 (PI h P)) 85 [(0, rf 1), (1, iv x1), (2, iv x2), (3, iv x3), (4, rf 20), (5, iv 0)] [] h40))) ∧ (r31 = 0 → P (-2) h32)))))) ∧ (x3 = 0 → kX0_isThing G X.2.1 x1 h9 (fun r45 h46 => EX h9 h46 → ((r45 ≠ 0 → h46 1 0 = 2 ∧ kX1_copies G X.2.1 20 2 h46 (fun r53 h54 => EX h46 h54 → r53 = 20 ∧ (EX h h54 ∧ R32 x1 ∧ R32 x2 ∧ R32 x3 ∧ R32 0 → V G X 6 0 0 (QF G X 0 0 0 (PI h P)) 85 [(0, rf 1), (1, iv x1), (2, iv x2), (3, iv x3), (4, rf 20), (5, iv 0)] [] h54))) ∧ (r45 = 0 → P (-2) h46)))))) ∧ (r8 = 0 → P (-2) h9))))))) :
    kX0_ahead G l x1 x2 x3 h P := by
  intro R1 R2 R3
  refine ct_of (by decide +kernel) (Nat.le_of_ble_eq_true rfl) fun X C e => ?_
  refine v_okz fun O => ?_
  exact wX0_ahead_0 C ⟨EX.rf O, R1, R2, R3⟩ (F X C e ⟨EX.rf O, R1, R2, R3⟩)
def kX0_gathersRules (G : GT) (l : Launch) (x1 : Int) (h : Mem) (P : Int → Mem → Prop) : Prop := R32 x1 → Ct G l yX0_gathersRules cX0_gathersRules 6 none 3 405 0 0 [rf 1, iv x1] h (PR h P)
set_option maxHeartbeats 4000000 in
theorem wX0_gathersRules_0 {G : GT} {X : MX} {h0 h : Mem} {P : Int → Mem → Prop} {x1 : Int} (C : Cx G X cX0_gathersRules 6 RX0 405 0 0 none "gathersRules") (B0 : EX h0 h ∧ R32 x1)
    (F : XS h ∧ h 1 0 = 2 ∧ kX1_copies G X.2.1 20 2 h (fun r2 h3 => EX h h3 → r2 = 20 ∧ (EX h0 h3 ∧ R32 x1 ∧ R32 0 → V G X 6 0 0 (QF G X 3 0 0 (PR h0 P)) 14 [(0, rf 1), (1, iv x1), (2, rf 20), (3, iv 0)] [] h3))) :
    V G X 6 0 0 (QF G X 3 0 0 (PR h0 P)) 0 [(0, rf 1), (1, iv x1)] [] h := by
  obtain ⟨B, R1⟩ := B0
  have E : EX h h := EX.rf B.2
  obtain ⟨SX, F⟩ := F
  refine v_aload_n C 0 rfl rfl dX0_gathersRules_0 ?_
  refine gX0_18 C (SX.ext E.1).k1 (SX.ext E.1).f2 dX0_gathersRules_1 ?_
  refine v_aload_n C 0 rfl rfl dX0_gathersRules_4 ?_
  obtain ⟨o1, F⟩ := F
  refine gX0_149 C (SX.ext E.1).k1 o1 dX0_gathersRules_5 ?_
  refine mX0_145 C ((SX.ext E.1).t20).k (d2 := 2) (kc2 := 0) (ks2 := 0) (by decide) (Nat.le_refl _) (Nat.le_refl _) (Nat.le_of_ble_eq_true rfl) dX0_gathersRules_8 (Ct.mono (F) ?_)
  rintro r2 h3 ⟨e4, F⟩
  replace F := F e4
  have B6 := B.tr e4
  have E7 := E.tr e4
  obtain ⟨r2q, F⟩ := F
  subst r2q
  refine v_astore_n C rfl (by decide) dX0_gathersRules_11 (lv2 := [(2, rf 20), (0, rf 1), (1, iv x1)]) rfl ?_
  refine v_iconst C dX0_gathersRules_12 ?_
  refine v_istore_n C rfl (by decide) dX0_gathersRules_13 (lv2 := [(3, iv 0), (2, rf 20), (0, rf 1), (1, iv x1)]) rfl ?_
  refine v_sub (lv2 := [(0, rf 1), (1, iv x1), (2, rf 20), (3, iv 0)]) [2, 3, 1, 0] rfl ?_
  exact F ⟨B6, R1, ⟨by decide, by decide⟩⟩
set_option maxHeartbeats 4000000 in
theorem wX0_gathersRules_L14 {G : GT} {X : MX} {h0 h : Mem} {P : Int → Mem → Prop} {x1 x3 : Int} (C : Cx G X cX0_gathersRules 6 RX0 405 0 0 none "gathersRules") (B0 : EX h0 h ∧ R32 x1 ∧ R32 x3)
    (F : XS h ∧ ((x3 > h 1 16 → P 0 h) ∧ (x3 ≤ h 1 16 → kX1_begins G X.2.1 20 h (fun _ h3 => EX h h3 → 0 ≤ x3 ∧ x3 < 7 ∧ ∀ h10 : Mem, h10 = up h3 174 x3 1 → (EX h0 h10 ∧ R32 x1 ∧ R32 x3 ∧ R32 0 → V G X 6 0 0 (QF G X 3 0 0 (PR h0 P)) 36 [(0, rf 1), (1, iv x1), (2, rf 20), (3, iv x3), (4, iv 0)] [] h10))))) :
    V G X 6 0 0 (QF G X 3 0 0 (PR h0 P)) 14 [(0, rf 1), (1, iv x1), (2, rf 20), (3, iv x3)] [] h := by
  obtain ⟨B, R1, R3⟩ := B0
  have E : EX h h := EX.rf B.2
  obtain ⟨SX, F⟩ := F
  refine v_iload_n C 3 rfl rfl dX0_gathersRules_14 ?_
  refine v_aload_n C 0 rfl rfl dX0_gathersRules_15 ?_
  refine gX0_159 C (SX.ext E.1).k1 rfl dX0_gathersRules_16 ?_
  refine v_icmp_gt C 135 R3 (EX.rI B (j := 16) (SX.ext E.1).k1 rfl) dX0_gathersRules_19 (by decide) (fun c1 => ?_) (fun c1 => ?_)
  · have F := F.1 (c1)
    exact v_vret C (Nat.le_refl _) (Nat.le_refl _) dX0_gathersRules_135 ⟨B, F⟩
  · have F := F.2 (c1)
    refine v_aload_n C 2 rfl rfl dX0_gathersRules_22 ?_
    refine mX0_360 C ((SX.ext E.1).t20).k (d2 := 1) (kc2 := 0) (ks2 := 0) (by decide) (Nat.le_refl _) (Nat.le_refl _) (Nat.le_of_ble_eq_true rfl) dX0_gathersRules_23 (Ct.mono (F) ?_)
    rintro r2 h3 ⟨e4, F⟩
    have F := F e4
    have B6 := B.tr e4
    have E7 := E.tr e4
    refine v_aload_n C 0 rfl rfl dX0_gathersRules_26 ?_
    refine gX0_110 C (SX.ext E7.1).k1 (SX.ext E7.1).f21 dX0_gathersRules_27 ?_
    refine v_iload_n C 3 rfl rfl dX0_gathersRules_30 ?_
    refine v_iconst C dX0_gathersRules_31 ?_
    obtain ⟨o8, F⟩ := F
    obtain ⟨o9, F⟩ := F
    refine v_zast C (SX.ext E7.1).k174 o8 (by rw [(SX.ext E7.1).l174]; exact o9) (by decide) dX0_gathersRules_32 ?_
    obtain ⟨h10, eh10⟩ : ∃ m : Mem, m = up h3 174 x3 1 := ⟨_, rfl⟩
    have B11 : EX h0 h10 := by rw [eh10]; exact EX_up B6 (SX.ext E7.1).k174 (by decide) rfl o8 (okI_a (Or.inr (Or.inr rfl)) ⟨by decide, by decide⟩)
    have E12 : EX h h10 := by rw [eh10]; exact EX_up E7 (SX.ext E7.1).k174 (by decide) rfl o8 (okI_a (Or.inr (Or.inr rfl)) ⟨by decide, by decide⟩)
    refine v_mem eh10 ?_
    have F := F h10 eh10
    refine v_iconst C dX0_gathersRules_33 ?_
    refine v_istore C (by decide) dX0_gathersRules_34 (lv2 := [(4, iv 0), (0, rf 1), (1, iv x1), (2, rf 20), (3, iv x3)]) rfl ?_
    refine v_sub (lv2 := [(0, rf 1), (1, iv x1), (2, rf 20), (3, iv x3), (4, iv 0)]) [1, 2, 3, 4, 0] rfl ?_
    exact F ⟨B11, R1, R3, ⟨by decide, by decide⟩⟩
set_option maxHeartbeats 4000000 in
theorem wX0_gathersRules_L36 {G : GT} {X : MX} {h0 h : Mem} {P : Int → Mem → Prop} {x1 x3 x4 : Int} (C : Cx G X cX0_gathersRules 6 RX0 405 0 0 none "gathersRules") (B0 : EX h0 h ∧ R32 x1 ∧ R32 x3 ∧ R32 x4)
    (F : XS h ∧ ((x4 ≥ 100 → R32 (x3 + 1) ∧ (EX h0 h ∧ R32 x1 ∧ R32 (x3 + 1) → V G X 6 0 0 (QF G X 3 0 0 (PR h0 P)) 14 [(0, rf 1), (1, iv x1), (2, rf 20), (3, iv (x3 + 1))] [] h)) ∧ (x4 < 100 → 0 ≤ x3 ∧ x3 < 7 ∧ kX0_areLogsSo G X.2.1 20 h (fun r5 h6 => EX h h6 → (bAnd (h 174 x3) r5 = 0 ∨ bAnd (h 174 x3) r5 = 1) ∧ ∀ h12 : Mem, h12 = up h6 174 x3 (bAnd (h 174 x3) r5) → (EX h0 h12 ∧ R32 x1 ∧ R32 x3 ∧ R32 x4 ∧ R32 0 → V G X 6 0 0 (QF G X 3 0 0 (PR h0 P)) 60 [(0, rf 1), (1, iv x1), (2, rf 20), (3, iv x3), (4, iv x4), (5, iv 0)] [] h12))))) :
    V G X 6 0 0 (QF G X 3 0 0 (PR h0 P)) 36 [(0, rf 1), (1, iv x1), (2, rf 20), (3, iv x3), (4, iv x4)] [] h := by
  obtain ⟨B, R1, R3, R4⟩ := B0
  have E : EX h h := EX.rf B.2
  obtain ⟨SX, F⟩ := F
  refine v_iload C 4 rfl dX0_gathersRules_36 ?_
  refine v_bipush C rfl dX0_gathersRules_38 ?_
  refine v_icmp_ge C 129 R4 ⟨by decide, by decide⟩ dX0_gathersRules_40 (by decide) (fun c1 => ?_) (fun c1 => ?_)
  · have F := F.1 (c1)
    obtain ⟨o2, F⟩ := F
    refine v_iinc C 3 rfl (by decide) dX0_gathersRules_129 (lv2 := [(3, iv (x3 + 1)), (0, rf 1), (1, iv x1), (2, rf 20), (4, iv x4)]) rfl ?_
    refine v_goto C 14 dX0_gathersRules_132 (by decide) ?_
    refine v_sub (lv2 := [(0, rf 1), (1, iv x1), (2, rf 20), (3, iv (x3 + 1))]) [1, 2, 3, 0] rfl ?_
    exact F ⟨B, R1, o2⟩
  · have F := F.2 (c1)
    refine v_aload_n C 0 rfl rfl dX0_gathersRules_43 ?_
    refine gX0_110 C (SX.ext E.1).k1 (SX.ext E.1).f21 dX0_gathersRules_44 ?_
    refine v_iload_n C 3 rfl rfl dX0_gathersRules_47 ?_
    refine v_dup2 C (iv_n1 _) (rf_n1 _) dX0_gathersRules_48 ?_
    obtain ⟨o3, F⟩ := F
    obtain ⟨o4, F⟩ := F
    refine v_zald C (SX.ext E.1).k174 o3 (by rw [(SX.ext E.1).l174]; exact o4) rfl dX0_gathersRules_49 ?_
    refine v_aload_n C 0 rfl rfl dX0_gathersRules_50 ?_
    refine v_aload_n C 2 rfl rfl dX0_gathersRules_51 ?_
    refine mX0_363 C (SX.ext E.1).k1 (d2 := 3) (kc2 := 0) (ks2 := 0) (by decide) (Nat.le_refl _) (Nat.le_refl _) (Nat.le_of_ble_eq_true rfl) dX0_gathersRules_52 (Ct.mono (F) ?_)
    rintro r5 h6 ⟨e7, g8, F⟩
    have F := F e7
    have B9 := B.tr e7
    have E10 := E.tr e7
    refine v_iand C dX0_gathersRules_55 ?_
    obtain ⟨o11, F⟩ := F
    refine v_zast C (SX.ext E10.1).k174 o3 (by rw [(SX.ext E10.1).l174]; exact o4) o11 dX0_gathersRules_56 ?_
    obtain ⟨h12, eh12⟩ : ∃ m : Mem, m = up h6 174 x3 (bAnd (h 174 x3) r5) := ⟨_, rfl⟩
    have B13 : EX h0 h12 := by rw [eh12]; exact EX_up B9 (SX.ext E10.1).k174 (by decide) rfl o3 (okI_a (Or.inr (Or.inr rfl)) (R32_toInt _))
    have E14 : EX h h12 := by rw [eh12]; exact EX_up E10 (SX.ext E10.1).k174 (by decide) rfl o3 (okI_a (Or.inr (Or.inr rfl)) (R32_toInt _))
    refine v_mem eh12 ?_
    have F := F h12 eh12
    refine v_iconst C dX0_gathersRules_57 ?_
    refine v_istore C (by decide) dX0_gathersRules_58 (lv2 := [(5, iv 0), (0, rf 1), (1, iv x1), (2, rf 20), (3, iv x3), (4, iv x4)]) rfl ?_
    refine v_sub (lv2 := [(0, rf 1), (1, iv x1), (2, rf 20), (3, iv x3), (4, iv x4), (5, iv 0)]) [1, 2, 3, 4, 5, 0] rfl ?_
    exact F ⟨B13, R1, R3, R4, ⟨by decide, by decide⟩⟩
set_option maxHeartbeats 4000000 in
theorem wX0_gathersRules_L60 {G : GT} {X : MX} {h0 h : Mem} {P : Int → Mem → Prop} {x1 x3 x4 x5 : Int} (C : Cx G X cX0_gathersRules 6 RX0 405 0 0 none "gathersRules") (B0 : EX h0 h ∧ R32 x1 ∧ R32 x3 ∧ R32 x4 ∧ R32 x5)
    (F : XS h ∧ ((x5 ≥ h 20 3 → ((x3 ≠ 0 → 0 ≤ x3 - 1 ∧ x3 - 1 < 6 ∧ kX1_passes G X.2.1 20 (h 171 (x3 - 1)) 165 h (fun r5 h6 => EX h h6 → R32 (x4 + 1) ∧ (EX h0 h6 ∧ R32 x1 ∧ R32 x3 ∧ R32 (x4 + 1) → V G X 6 0 0 (QF G X 3 0 0 (PR h0 P)) 36 [(0, rf 1), (1, iv x1), (2, rf 20), (3, iv x3), (4, iv (x4 + 1))] [] h6))) ∧ (x3 = 0 → kX1_passes G X.2.1 20 0 165 h (fun r12 h13 => EX h h13 → R32 (x4 + 1) ∧ (EX h0 h13 ∧ R32 x1 ∧ R32 x3 ∧ R32 (x4 + 1) → V G X 6 0 0 (QF G X 3 0 0 (PR h0 P)) 36 [(0, rf 1), (1, iv x1), (2, rf 20), (3, iv x3), (4, iv (x4 + 1))] [] h13))))) ∧ (x5 < h 20 3 → ((x4 ≠ x1 → ((x3 ≠ 0 → 0 ≤ x3 - 1 ∧ x3 - 1 < 6 ∧ kX1_passes G X.2.1 20 (h 171 (x3 - 1)) 165 h (fun r23 h24 => EX h h24 → R32 (x4 + 1) ∧ (EX h0 h24 ∧ R32 x1 ∧ R32 x3 ∧ R32 (x4 + 1) → V G X 6 0 0 (QF G X 3 0 0 (PR h0 P)) 36 [(0, rf 1), (1, iv x1), (2, rf 20), (3, iv x3), (4, iv (x4 + 1))] [] h24))) ∧ (x3 = 0 → kX1_passes G X.2.1 20 0 165 h (fun r30 h31 => EX h h31 → R32 (x4 + 1) ∧ (EX h0 h31 ∧ R32 x1 ∧ R32 x3 ∧ R32 (x4 + 1) → V G X 6 0 0 (QF G X 3 0 0 (PR h0 P)) 36 [(0, rf 1), (1, iv x1), (2, rf 20), (3, iv x3), (4, iv (x4 + 1))] [] h31))))) ∧ (x4 = x1 → kX1_whose G X.2.1 20 x5 h (fun r37 h38 => EX h h38 → 0 ≤ 4 * x3 + x5 ∧ 4 * x3 + x5 < 28 ∧ ∀ h45 : Mem, h45 = up h38 175 (4 * x3 + x5) r37 → R32 (x5 + 1) ∧ (EX h0 h45 ∧ R32 x1 ∧ R32 x3 ∧ R32 x4 ∧ R32 (x5 + 1) → V G X 6 0 0 (QF G X 3 0 0 (PR h0 P)) 60 [(0, rf 1), (1, iv x1), (2, rf 20), (3, iv x3), (4, iv x4), (5, iv (x5 + 1))] [] h45))))))) :
    V G X 6 0 0 (QF G X 3 0 0 (PR h0 P)) 60 [(0, rf 1), (1, iv x1), (2, rf 20), (3, iv x3), (4, iv x4), (5, iv x5)] [] h := by
  obtain ⟨B, R1, R3, R4, R5⟩ := B0
  have E : EX h h := EX.rf B.2
  obtain ⟨SX, F⟩ := F
  refine v_iload C 5 rfl dX0_gathersRules_60 ?_
  refine v_aload_n C 2 rfl rfl dX0_gathersRules_62 ?_
  refine gX0_166 C ((SX.ext E.1).t20).k rfl dX0_gathersRules_63 ?_
  refine v_icmp_ge C 98 R5 (EX.rI B (j := 3) ((SX.ext E.1).t20).k rfl) dX0_gathersRules_66 (by decide) (fun c1 => ?_) (fun c1 => ?_)
  · have F := F.1 (c1)
    refine v_aload_n C 2 rfl rfl dX0_gathersRules_98 ?_
    refine v_iload_n C 3 rfl rfl dX0_gathersRules_99 ?_
    refine v_if_ne C 107 R3 dX0_gathersRules_100 (by decide) (fun c2 => ?_) (fun c2 => ?_)
    · have F := F.1 (c2)
      refine v_aload_n C 0 rfl rfl dX0_gathersRules_107 ?_
      refine gX0_100 C (SX.ext E.1).k1 (SX.ext E.1).f15 dX0_gathersRules_108 ?_
      refine v_iload_n C 3 rfl rfl dX0_gathersRules_111 ?_
      refine v_iconst C dX0_gathersRules_112 ?_
      refine v_isub C dX0_gathersRules_113 ?_
      obtain ⟨o3, F⟩ := F
      obtain ⟨o4, F⟩ := F
      refine v_aald C 6 (by decide) (by decide) (SX.ext E.1).k171 o3 (by rw [(SX.ext E.1).l171]; exact o4) rfl dX0_gathersRules_114 ?_
      refine v_aload_n C 0 rfl rfl dX0_gathersRules_115 ?_
      refine gX0_31 C (SX.ext E.1).k1 (SX.ext E.1).f6 dX0_gathersRules_116 ?_
      refine mX0_266 C ((SX.ext E.1).t20).k (d2 := 404) (kc2 := 0) (ks2 := 0) (by decide) (Nat.le_refl _) (Nat.le_refl _) (Nat.le_of_ble_eq_true rfl) dX0_gathersRules_119 (Ct.mono (F) ?_)
      rintro r5 h6 ⟨e7, g8, F⟩
      have F := F e7
      have B9 := B.tr e7
      have E10 := E.tr e7
      refine v_pop C (iv_n1 _) dX0_gathersRules_122 ?_
      obtain ⟨o11, F⟩ := F
      refine v_iinc C 4 rfl (by decide) dX0_gathersRules_123 (lv2 := [(4, iv (x4 + 1)), (0, rf 1), (1, iv x1), (2, rf 20), (3, iv x3), (5, iv x5)]) rfl ?_
      refine v_goto C 36 dX0_gathersRules_126 (by decide) ?_
      refine v_sub (lv2 := [(0, rf 1), (1, iv x1), (2, rf 20), (3, iv x3), (4, iv (x4 + 1))]) [1, 2, 3, 4, 0] rfl ?_
      exact F ⟨B9, R1, R3, o11⟩
    · have F := F.2 (c2)
      refine v_null C dX0_gathersRules_103 ?_
      refine v_goto C 115 dX0_gathersRules_104 (by decide) ?_
      refine v_aload_n C 0 rfl rfl dX0_gathersRules_115 ?_
      refine gX0_31 C (SX.ext E.1).k1 (SX.ext E.1).f6 dX0_gathersRules_116 ?_
      refine mX0_266 C ((SX.ext E.1).t20).k (d2 := 404) (kc2 := 0) (ks2 := 0) (by decide) (Nat.le_refl _) (Nat.le_refl _) (Nat.le_of_ble_eq_true rfl) dX0_gathersRules_119 (Ct.mono (F) ?_)
      rintro r12 h13 ⟨e14, g15, F⟩
      have F := F e14
      have B16 := B.tr e14
      have E17 := E.tr e14
      refine v_pop C (iv_n1 _) dX0_gathersRules_122 ?_
      obtain ⟨o18, F⟩ := F
      refine v_iinc C 4 rfl (by decide) dX0_gathersRules_123 (lv2 := [(4, iv (x4 + 1)), (0, rf 1), (1, iv x1), (2, rf 20), (3, iv x3), (5, iv x5)]) rfl ?_
      refine v_goto C 36 dX0_gathersRules_126 (by decide) ?_
      refine v_sub (lv2 := [(0, rf 1), (1, iv x1), (2, rf 20), (3, iv x3), (4, iv (x4 + 1))]) [1, 2, 3, 4, 0] rfl ?_
      exact F ⟨B16, R1, R3, o18⟩
  · have F := F.2 (c1)
    refine v_iload C 4 rfl dX0_gathersRules_69 ?_
    refine v_iload_n C 1 rfl rfl dX0_gathersRules_71 ?_
    refine v_icmp_ne C 98 R4 R1 dX0_gathersRules_72 (by decide) (fun c19 => ?_) (fun c19 => ?_)
    · have F := F.1 (c19)
      refine v_aload_n C 2 rfl rfl dX0_gathersRules_98 ?_
      refine v_iload_n C 3 rfl rfl dX0_gathersRules_99 ?_
      refine v_if_ne C 107 R3 dX0_gathersRules_100 (by decide) (fun c20 => ?_) (fun c20 => ?_)
      · have F := F.1 (c20)
        refine v_aload_n C 0 rfl rfl dX0_gathersRules_107 ?_
        refine gX0_100 C (SX.ext E.1).k1 (SX.ext E.1).f15 dX0_gathersRules_108 ?_
        refine v_iload_n C 3 rfl rfl dX0_gathersRules_111 ?_
        refine v_iconst C dX0_gathersRules_112 ?_
        refine v_isub C dX0_gathersRules_113 ?_
        obtain ⟨o21, F⟩ := F
        obtain ⟨o22, F⟩ := F
        refine v_aald C 6 (by decide) (by decide) (SX.ext E.1).k171 o21 (by rw [(SX.ext E.1).l171]; exact o22) rfl dX0_gathersRules_114 ?_
        refine v_aload_n C 0 rfl rfl dX0_gathersRules_115 ?_
        refine gX0_31 C (SX.ext E.1).k1 (SX.ext E.1).f6 dX0_gathersRules_116 ?_
        refine mX0_266 C ((SX.ext E.1).t20).k (d2 := 404) (kc2 := 0) (ks2 := 0) (by decide) (Nat.le_refl _) (Nat.le_refl _) (Nat.le_of_ble_eq_true rfl) dX0_gathersRules_119 (Ct.mono (F) ?_)
        rintro r23 h24 ⟨e25, g26, F⟩
        have F := F e25
        have B27 := B.tr e25
        have E28 := E.tr e25
        refine v_pop C (iv_n1 _) dX0_gathersRules_122 ?_
        obtain ⟨o29, F⟩ := F
        refine v_iinc C 4 rfl (by decide) dX0_gathersRules_123 (lv2 := [(4, iv (x4 + 1)), (0, rf 1), (1, iv x1), (2, rf 20), (3, iv x3), (5, iv x5)]) rfl ?_
        refine v_goto C 36 dX0_gathersRules_126 (by decide) ?_
        refine v_sub (lv2 := [(0, rf 1), (1, iv x1), (2, rf 20), (3, iv x3), (4, iv (x4 + 1))]) [1, 2, 3, 4, 0] rfl ?_
        exact F ⟨B27, R1, R3, o29⟩
      · have F := F.2 (c20)
        refine v_null C dX0_gathersRules_103 ?_
        refine v_goto C 115 dX0_gathersRules_104 (by decide) ?_
        refine v_aload_n C 0 rfl rfl dX0_gathersRules_115 ?_
        refine gX0_31 C (SX.ext E.1).k1 (SX.ext E.1).f6 dX0_gathersRules_116 ?_
        refine mX0_266 C ((SX.ext E.1).t20).k (d2 := 404) (kc2 := 0) (ks2 := 0) (by decide) (Nat.le_refl _) (Nat.le_refl _) (Nat.le_of_ble_eq_true rfl) dX0_gathersRules_119 (Ct.mono (F) ?_)
        rintro r30 h31 ⟨e32, g33, F⟩
        have F := F e32
        have B34 := B.tr e32
        have E35 := E.tr e32
        refine v_pop C (iv_n1 _) dX0_gathersRules_122 ?_
        obtain ⟨o36, F⟩ := F
        refine v_iinc C 4 rfl (by decide) dX0_gathersRules_123 (lv2 := [(4, iv (x4 + 1)), (0, rf 1), (1, iv x1), (2, rf 20), (3, iv x3), (5, iv x5)]) rfl ?_
        refine v_goto C 36 dX0_gathersRules_126 (by decide) ?_
        refine v_sub (lv2 := [(0, rf 1), (1, iv x1), (2, rf 20), (3, iv x3), (4, iv (x4 + 1))]) [1, 2, 3, 4, 0] rfl ?_
        exact F ⟨B34, R1, R3, o36⟩
    · have F := F.2 (c19)
      refine v_aload_n C 0 rfl rfl dX0_gathersRules_75 ?_
      refine gX0_114 C (SX.ext E.1).k1 (SX.ext E.1).f22 dX0_gathersRules_76 ?_
      refine v_iconst C dX0_gathersRules_79 ?_
      refine v_iload_n C 3 rfl rfl dX0_gathersRules_80 ?_
      refine v_imul C dX0_gathersRules_81 ?_
      refine v_iload C 5 rfl dX0_gathersRules_82 ?_
      refine v_iadd C dX0_gathersRules_84 ?_
      refine v_aload_n C 2 rfl rfl dX0_gathersRules_85 ?_
      refine v_iload C 5 rfl dX0_gathersRules_86 ?_
      refine mX0_223 C ((SX.ext E.1).t20).k (d2 := 2) (kc2 := 0) (ks2 := 0) (by decide) (Nat.le_refl _) (Nat.le_refl _) (Nat.le_of_ble_eq_true rfl) dX0_gathersRules_88 (Ct.mono (F R5) ?_)
      rintro r37 h38 ⟨e39, g40, F⟩
      have F := F e39
      have B41 := B.tr e39
      have E42 := E.tr e39
      obtain ⟨o43, F⟩ := F
      obtain ⟨o44, F⟩ := F
      refine v_iast C (SX.ext E42.1).k175 o43 (by rw [(SX.ext E42.1).l175]; exact o44) g40 dX0_gathersRules_91 ?_
      obtain ⟨h45, eh45⟩ : ∃ m : Mem, m = up h38 175 (4 * x3 + x5) r37 := ⟨_, rfl⟩
      have B46 : EX h0 h45 := by rw [eh45]; exact EX_up B41 (SX.ext E42.1).k175 (by decide) rfl o43 (okI_a (Or.inl rfl) g40)
      have E47 : EX h h45 := by rw [eh45]; exact EX_up E42 (SX.ext E42.1).k175 (by decide) rfl o43 (okI_a (Or.inl rfl) g40)
      refine v_mem eh45 ?_
      have F := F h45 eh45
      obtain ⟨o48, F⟩ := F
      refine v_iinc C 5 rfl (by decide) dX0_gathersRules_92 (lv2 := [(5, iv (x5 + 1)), (0, rf 1), (1, iv x1), (2, rf 20), (3, iv x3), (4, iv x4)]) rfl ?_
      refine v_goto C 60 dX0_gathersRules_95 (by decide) ?_
      refine v_sub (lv2 := [(0, rf 1), (1, iv x1), (2, rf 20), (3, iv x3), (4, iv x4), (5, iv (x5 + 1))]) [1, 2, 3, 4, 5, 0] rfl ?_
      exact F ⟨B46, R1, R3, R4, o48⟩
set_option maxHeartbeats 1000000 in
theorem eX0_gathersRules {G : GT} {l : Launch} {x1 : Int} {h : Mem} {P : Int → Mem → Prop} (F : ∀ X : MX, Cx G X cX0_gathersRules 6 RX0 405 0 0 none "gathersRules" → X.2.1 = l → (EX h h ∧ R32 x1) →
    XS h ∧ h 1 0 = 2 ∧ kX1_copies G X.2.1 20 2 h (fun r2 h3 => EX h h3 → r2 = 20 ∧ (EX h h3 ∧ R32 x1 ∧ R32 0 → V G X 6 0 0 (QF G X 3 0 0 (PR h P)) 14 [(0, rf 1), (1, iv x1), (2, rf 20), (3, iv 0)] [] h3))) :
    kX0_gathersRules G l x1 h P := by
  intro R1
  refine ct_of (by decide +kernel) (Nat.le_of_ble_eq_true rfl) fun X C e => ?_
  refine v_okz fun O => ?_
  exact wX0_gathersRules_0 C ⟨EX.rf O, R1⟩ (F X C e ⟨EX.rf O, R1⟩)
def kX0_gotIn (G : GT) (l : Launch) (x1 x2 x3 x4 : Int) (h : Mem) (P : Int → Mem → Prop) : Prop := R32 x2 → R32 x3 → Ct G l yX0_gotIn cX0_gotIn 6 (some .int) 0 405 0 0 [rf 1, rf x1, iv x2, iv x3, rf x4] h (PI h P)
set_option maxHeartbeats 4000000 in
theorem wX0_gotIn_0 {G : GT} {X : MX} {h0 h : Mem} {P : Int → Mem → Prop} {x1 x2 x3 x4 : Int} (C : Cx G X cX0_gotIn 6 RX0 405 0 0 (some .int) "gotIn") (B0 : EX h0 h ∧ R32 x2 ∧ R32 x3)
    (F : XS h ∧ 0 ≤ x2 ∧ x2 < 4 ∧ ∀ h3 : Mem, h3 = up h 165 x2 0 → (EX h0 h3 ∧ R32 x2 ∧ R32 x3 ∧ R32 0 → V G X 6 0 0 (QF G X 0 0 0 (PI h0 P)) 10 [(0, rf 1), (1, rf x1), (2, iv x2), (3, iv x3), (4, rf x4), (5, iv 0)] [] h3)) :
    V G X 6 0 0 (QF G X 0 0 0 (PI h0 P)) 0 [(0, rf 1), (1, rf x1), (2, iv x2), (3, iv x3), (4, rf x4)] [] h := by
  obtain ⟨B, R2, R3⟩ := B0
  have E : EX h h := EX.rf B.2
  obtain ⟨SX, F⟩ := F
  refine v_aload_n C 0 rfl rfl dX0_gotIn_0 ?_
  refine gX0_31 C (SX.ext E.1).k1 (SX.ext E.1).f6 dX0_gotIn_1 ?_
  refine v_iload_n C 2 rfl rfl dX0_gotIn_4 ?_
  refine v_iconst C dX0_gotIn_5 ?_
  obtain ⟨o1, F⟩ := F
  obtain ⟨o2, F⟩ := F
  refine v_iast C (SX.ext E.1).k165 o1 (by rw [(SX.ext E.1).l165]; exact o2) ⟨by decide, by decide⟩ dX0_gotIn_6 ?_
  obtain ⟨h3, eh3⟩ : ∃ m : Mem, m = up h 165 x2 0 := ⟨_, rfl⟩
  have B4 : EX h0 h3 := by rw [eh3]; exact EX_up B (SX.ext E.1).k165 (by decide) rfl o1 (okI_a (Or.inl rfl) ⟨by decide, by decide⟩)
  have E5 : EX h h3 := by rw [eh3]; exact EX_up E (SX.ext E.1).k165 (by decide) rfl o1 (okI_a (Or.inl rfl) ⟨by decide, by decide⟩)
  refine v_mem eh3 ?_
  have F := F h3 eh3
  refine v_iconst C dX0_gotIn_7 ?_
  refine v_istore C (by decide) dX0_gotIn_8 (lv2 := [(5, iv 0), (0, rf 1), (1, rf x1), (2, iv x2), (3, iv x3), (4, rf x4)]) rfl ?_
  refine v_sub (lv2 := [(0, rf 1), (1, rf x1), (2, iv x2), (3, iv x3), (4, rf x4), (5, iv 0)]) [1, 2, 3, 4, 5, 0] rfl ?_
  exact F ⟨B4, R2, R3, ⟨by decide, by decide⟩⟩
set_option maxHeartbeats 4000000 in
theorem wX0_gotIn_L10 {G : GT} {X : MX} {h0 h : Mem} {P : Int → Mem → Prop} {x1 x2 x3 x4 x5 : Int} (C : Cx G X cX0_gotIn 6 RX0 405 0 0 (some .int) "gotIn") (B0 : EX h0 h ∧ R32 x2 ∧ R32 x3 ∧ R32 x5)
    (F : XS h ∧ TownS h x1 ∧ ((x5 ≥ x3 → 0 ≤ x2 ∧ x2 < 4 ∧ P (h 165 x2) h) ∧ (x5 < x3 → kX1_passes G X.2.1 x1 x4 165 h (fun r4 h5 => EX h h5 → R32 (x5 + 1) ∧ (EX h0 h5 ∧ R32 x2 ∧ R32 x3 ∧ R32 (x5 + 1) → V G X 6 0 0 (QF G X 0 0 0 (PI h0 P)) 10 [(0, rf 1), (1, rf x1), (2, iv x2), (3, iv x3), (4, rf x4), (5, iv (x5 + 1))] [] h5))))) :
    V G X 6 0 0 (QF G X 0 0 0 (PI h0 P)) 10 [(0, rf 1), (1, rf x1), (2, iv x2), (3, iv x3), (4, rf x4), (5, iv x5)] [] h := by
  obtain ⟨B, R2, R3, R5⟩ := B0
  have E : EX h h := EX.rf B.2
  obtain ⟨SX, F⟩ := F
  obtain ⟨S_x1, F⟩ := F
  refine v_iload C 5 rfl dX0_gotIn_10 ?_
  refine v_iload_n C 3 rfl rfl dX0_gotIn_12 ?_
  refine v_icmp_ge C 33 R5 R3 dX0_gotIn_13 (by decide) (fun c1 => ?_) (fun c1 => ?_)
  · have F := F.1 (c1)
    refine v_aload_n C 0 rfl rfl dX0_gotIn_33 ?_
    refine gX0_31 C (SX.ext E.1).k1 (SX.ext E.1).f6 dX0_gotIn_34 ?_
    refine v_iload_n C 2 rfl rfl dX0_gotIn_37 ?_
    obtain ⟨o2, F⟩ := F
    obtain ⟨o3, F⟩ := F
    refine v_iald C (SX.ext E.1).k165 o2 (by rw [(SX.ext E.1).l165]; exact o3) rfl dX0_gotIn_38 ?_
    exact v_iret C (Nat.le_refl _) (Nat.le_refl _) dX0_gotIn_39 ⟨B, (EX.rI B (j := x2) (SX.ext E.1).k165 rfl), F⟩
  · have F := F.2 (c1)
    refine v_aload_n C 1 rfl rfl dX0_gotIn_16 ?_
    refine v_aload C 4 rfl dX0_gotIn_17 ?_
    refine v_aload_n C 0 rfl rfl dX0_gotIn_19 ?_
    refine gX0_31 C (SX.ext E.1).k1 (SX.ext E.1).f6 dX0_gotIn_20 ?_
    refine mX0_266 C (S_x1.ext E.1).k (d2 := 404) (kc2 := 0) (ks2 := 0) (by decide) (Nat.le_refl _) (Nat.le_refl _) (Nat.le_of_ble_eq_true rfl) dX0_gotIn_23 (Ct.mono (F) ?_)
    rintro r4 h5 ⟨e6, g7, F⟩
    have F := F e6
    have B8 := B.tr e6
    have E9 := E.tr e6
    refine v_pop C (iv_n1 _) dX0_gotIn_26 ?_
    obtain ⟨o10, F⟩ := F
    refine v_iinc C 5 rfl (by decide) dX0_gotIn_27 (lv2 := [(5, iv (x5 + 1)), (0, rf 1), (1, rf x1), (2, iv x2), (3, iv x3), (4, rf x4)]) rfl ?_
    refine v_goto C 10 dX0_gotIn_30 (by decide) ?_
    refine v_sub (lv2 := [(0, rf 1), (1, rf x1), (2, iv x2), (3, iv x3), (4, rf x4), (5, iv (x5 + 1))]) [1, 2, 3, 4, 5, 0] rfl ?_
    exact F ⟨B8, R2, R3, o10⟩
set_option maxHeartbeats 1000000 in
theorem eX0_gotIn {G : GT} {l : Launch} {x1 x2 x3 x4 : Int} {h : Mem} {P : Int → Mem → Prop} (F : ∀ X : MX, Cx G X cX0_gotIn 6 RX0 405 0 0 (some .int) "gotIn" → X.2.1 = l → (EX h h ∧ R32 x2 ∧ R32 x3) →
    XS h ∧ 0 ≤ x2 ∧ x2 < 4 ∧ ∀ h3 : Mem, h3 = up h 165 x2 0 → (EX h h3 ∧ R32 x2 ∧ R32 x3 ∧ R32 0 → V G X 6 0 0 (QF G X 0 0 0 (PI h P)) 10 [(0, rf 1), (1, rf x1), (2, iv x2), (3, iv x3), (4, rf x4), (5, iv 0)] [] h3)) :
    kX0_gotIn G l x1 x2 x3 x4 h P := by
  intro R2 R3
  refine ct_of (by decide +kernel) (Nat.le_of_ble_eq_true rfl) fun X C e => ?_
  refine v_okz fun O => ?_
  exact wX0_gotIn_0 C ⟨EX.rf O, R2, R3⟩ (F X C e ⟨EX.rf O, R2, R3⟩)
def kX0_hour (G : GT) (l : Launch) (h : Mem) (P : Int → Mem → Prop) : Prop := Ct G l yX0_hour cX0_hour 1 (some .int) 0 405 0 0 [rf 1] h (PI h P)
set_option maxHeartbeats 4000000 in
theorem wX0_hour_0 {G : GT} {X : MX} {h0 h : Mem} {P : Int → Mem → Prop} (C : Cx G X cX0_hour 1 RX0 405 0 0 (some .int) "hour") (B0 : EX h0 h)
    (F : XS h ∧ ((h 1 0 = 0 → P (-1) h) ∧ (h 1 0 ≠ 0 → h 1 0 = 2 ∧ ((h 2 11 ≠ 999 → kX0_keepsAct G X.2.1 h (fun _ h5 => EX h h5 → h5 1 0 = 2 ∧ kX0_law G X.2.1 h5 (fun r11 h12 => EX h5 h12 → kX1_passes G X.2.1 2 r11 165 h12 (fun r17 h18 => EX h12 h18 → P r17 h18)))) ∧ (h 2 11 = 999 → P (-1) h))))) :
    V G X 1 0 0 (QF G X 0 0 0 (PI h0 P)) 0 [(0, rf 1)] [] h := by
  have B := B0
  have E : EX h h := EX.rf B.2
  obtain ⟨SX, F⟩ := F
  refine v_aload_n C 0 rfl rfl dX0_hour_0 ?_
  refine gX0_149 C (SX.ext E.1).k1 rfl dX0_hour_1 ?_
  refine v_ifnull C 20 dX0_hour_4 (by decide) (fun c1 => ?_) (fun c1 => ?_)
  · have F := F.1 c1
    refine v_iconst C dX0_hour_20 ?_
    exact v_iret C (Nat.le_refl _) (Nat.le_refl _) dX0_hour_21 ⟨B, ⟨by decide, by decide⟩, F⟩
  · have F := F.2 c1
    refine v_aload_n C 0 rfl rfl dX0_hour_7 ?_
    obtain ⟨o2, F⟩ := F
    refine gX0_149 C (SX.ext E.1).k1 o2 dX0_hour_8 ?_
    refine gX0_257 C ((SX.ext E.1).t2).k rfl dX0_hour_11 ?_
    refine v_sipush C rfl dX0_hour_14 ?_
    refine v_icmp_ne C 22 (EX.rI B (j := 11) ((SX.ext E.1).t2).k rfl) ⟨by decide, by decide⟩ dX0_hour_17 (by decide) (fun c3 => ?_) (fun c3 => ?_)
    · have F := F.1 (c3)
      refine v_aload_n C 0 rfl rfl dX0_hour_22 ?_
      refine mX0_260 C (SX.ext E.1).k1 (d2 := 2) (kc2 := 0) (ks2 := 0) (by decide) (Nat.le_refl _) (Nat.le_refl _) (Nat.le_of_ble_eq_true rfl) dX0_hour_23 (Ct.mono (F) ?_)
      rintro r4 h5 ⟨e6, F⟩
      have F := F e6
      have B8 := B.tr e6
      have E9 := E.tr e6
      refine v_aload_n C 0 rfl rfl dX0_hour_26 ?_
      obtain ⟨o10, F⟩ := F
      refine gX0_149 C (SX.ext E9.1).k1 o10 dX0_hour_27 ?_
      refine v_aload_n C 0 rfl rfl dX0_hour_30 ?_
      refine mX0_263 C (SX.ext E9.1).k1 (d2 := 0) (kc2 := 0) (ks2 := 0) (by decide) (Nat.le_refl _) (Nat.le_refl _) (Nat.le_of_ble_eq_true rfl) dX0_hour_31 (Ct.mono (F) ?_)
      rintro r11 h12 ⟨e13, F⟩
      have F := F e13
      have B15 := B8.tr e13
      have E16 := E9.tr e13
      refine v_aload_n C 0 rfl rfl dX0_hour_34 ?_
      refine gX0_31 C (SX.ext E16.1).k1 (SX.ext E16.1).f6 dX0_hour_35 ?_
      refine mX0_266 C ((SX.ext E16.1).t2).k (d2 := 404) (kc2 := 0) (ks2 := 0) (by decide) (Nat.le_refl _) (Nat.le_refl _) (Nat.le_of_ble_eq_true rfl) dX0_hour_38 (Ct.mono (F) ?_)
      rintro r17 h18 ⟨e19, g20, F⟩
      have F := F e19
      have B21 := B15.tr e19
      have E22 := E16.tr e19
      exact v_iret C (Nat.le_refl _) (Nat.le_refl _) dX0_hour_41 ⟨B21, g20, F⟩
    · have F := F.2 (c3)
      refine v_iconst C dX0_hour_20 ?_
      exact v_iret C (Nat.le_refl _) (Nat.le_refl _) dX0_hour_21 ⟨B, ⟨by decide, by decide⟩, F⟩
set_option maxHeartbeats 1000000 in
theorem eX0_hour {G : GT} {l : Launch} {h : Mem} {P : Int → Mem → Prop} (F : ∀ X : MX, Cx G X cX0_hour 1 RX0 405 0 0 (some .int) "hour" → X.2.1 = l → (EX h h) →
    XS h ∧ ((h 1 0 = 0 → P (-1) h) ∧ (h 1 0 ≠ 0 → h 1 0 = 2 ∧ ((h 2 11 ≠ 999 → kX0_keepsAct G X.2.1 h (fun _ h5 => EX h h5 → h5 1 0 = 2 ∧ kX0_law G X.2.1 h5 (fun r11 h12 => EX h5 h12 → kX1_passes G X.2.1 2 r11 165 h12 (fun r17 h18 => EX h12 h18 → P r17 h18)))) ∧ (h 2 11 = 999 → P (-1) h))))) :
    kX0_hour G l h P := by
  refine ct_of (by decide +kernel) (Nat.le_of_ble_eq_true rfl) fun X C e => ?_
  refine v_okz fun O => ?_
  exact wX0_hour_0 C (EX.rf O) (F X C e (EX.rf O))
def kX0_one (G : GT) (l : Launch) (h : Mem) (P : Int → Mem → Prop) : Prop := Ct G l yX0_one cX0_one 3 (some .int) 0 405 0 0 [rf 1] h (PI h P)
set_option maxHeartbeats 4000000 in
theorem wX0_one_0 {G : GT} {X : MX} {h0 h : Mem} {P : Int → Mem → Prop} (C : Cx G X cX0_one 3 RX0 405 0 0 (some .int) "one") (B0 : EX h0 h)
    (F : XS h ∧ ((h 1 0 ≠ 0 → h 1 0 = 2 ∧ kX1_copies G X.2.1 20 2 h (fun r3 h4 => EX h h4 → r3 = 20 ∧ (EX h0 h4 ∧ R32 0 → V G X 3 0 0 (QF G X 0 0 0 (PI h0 P)) 23 [(0, rf 1), (1, rf 20), (2, iv 0)] [] h4))) ∧ (h 1 0 = 0 → P (-1) h))) :
    V G X 3 0 0 (QF G X 0 0 0 (PI h0 P)) 0 [(0, rf 1)] [] h := by
  have B := B0
  have E : EX h h := EX.rf B.2
  obtain ⟨SX, F⟩ := F
  refine v_aload_n C 0 rfl rfl dX0_one_0 ?_
  refine gX0_149 C (SX.ext E.1).k1 rfl dX0_one_1 ?_
  refine v_ifnonnull C 9 dX0_one_4 (by decide) (fun c1 => ?_) (fun c1 => ?_)
  · have F := F.1 c1
    refine v_aload_n C 0 rfl rfl dX0_one_9 ?_
    refine gX0_18 C (SX.ext E.1).k1 (SX.ext E.1).f2 dX0_one_10 ?_
    refine v_aload_n C 0 rfl rfl dX0_one_13 ?_
    obtain ⟨o2, F⟩ := F
    refine gX0_149 C (SX.ext E.1).k1 o2 dX0_one_14 ?_
    refine mX0_145 C ((SX.ext E.1).t20).k (d2 := 2) (kc2 := 0) (ks2 := 0) (by decide) (Nat.le_refl _) (Nat.le_refl _) (Nat.le_of_ble_eq_true rfl) dX0_one_17 (Ct.mono (F) ?_)
    rintro r3 h4 ⟨e5, F⟩
    replace F := F e5
    have B7 := B.tr e5
    have E8 := E.tr e5
    obtain ⟨r3q, F⟩ := F
    subst r3q
    refine v_astore_n C rfl (by decide) dX0_one_20 (lv2 := [(1, rf 20), (0, rf 1)]) rfl ?_
    refine v_iconst C dX0_one_21 ?_
    refine v_istore_n C rfl (by decide) dX0_one_22 (lv2 := [(2, iv 0), (1, rf 20), (0, rf 1)]) rfl ?_
    refine v_sub (lv2 := [(0, rf 1), (1, rf 20), (2, iv 0)]) [2, 1, 0] rfl ?_
    exact F ⟨B7, ⟨by decide, by decide⟩⟩
  · have F := F.2 c1
    refine v_iconst C dX0_one_7 ?_
    exact v_iret C (Nat.le_refl _) (Nat.le_refl _) dX0_one_8 ⟨B, ⟨by decide, by decide⟩, F⟩
set_option maxHeartbeats 4000000 in
theorem wX0_one_L23 {G : GT} {X : MX} {h0 h : Mem} {P : Int → Mem → Prop} {x2 : Int} (C : Cx G X cX0_one 3 RX0 405 0 0 (some .int) "one") (B0 : EX h0 h ∧ R32 x2)
    (F : XS h ∧ ((x2 ≥ 100 → P (-2) h) ∧ (x2 < 100 → kX1_isOneColour G X.2.1 20 h (fun r2 h3 => EX h h3 → ((r2 = 0 → kX0_law G X.2.1 h3 (fun r9 h10 => EX h3 h10 → kX1_passes G X.2.1 20 r9 165 h10 (fun r15 h16 => EX h10 h16 → R32 (x2 + 1) ∧ (EX h0 h16 ∧ R32 (x2 + 1) → V G X 3 0 0 (QF G X 0 0 0 (PI h0 P)) 23 [(0, rf 1), (1, rf 20), (2, iv (x2 + 1))] [] h16)))) ∧ (r2 ≠ 0 → P (h3 20 11) h3)))))) :
    V G X 3 0 0 (QF G X 0 0 0 (PI h0 P)) 23 [(0, rf 1), (1, rf 20), (2, iv x2)] [] h := by
  obtain ⟨B, R2⟩ := B0
  have E : EX h h := EX.rf B.2
  obtain ⟨SX, F⟩ := F
  refine v_iload_n C 2 rfl rfl dX0_one_23 ?_
  refine v_bipush C rfl dX0_one_24 ?_
  refine v_icmp_ge C 60 R2 ⟨by decide, by decide⟩ dX0_one_26 (by decide) (fun c1 => ?_) (fun c1 => ?_)
  · have F := F.1 (c1)
    refine v_bipush C rfl dX0_one_60 ?_
    exact v_iret C (Nat.le_refl _) (Nat.le_refl _) dX0_one_62 ⟨B, ⟨by decide, by decide⟩, F⟩
  · have F := F.2 (c1)
    refine v_aload_n C 1 rfl rfl dX0_one_29 ?_
    refine mX0_348 C ((SX.ext E.1).t20).k (d2 := 2) (kc2 := 0) (ks2 := 0) (by decide) (Nat.le_refl _) (Nat.le_refl _) (Nat.le_of_ble_eq_true rfl) dX0_one_30 (Ct.mono (F) ?_)
    rintro r2 h3 ⟨e4, g5, F⟩
    have F := F e4
    have B6 := B.tr e4
    have E7 := E.tr e4
    refine v_if_eq C 41 (bR g5) dX0_one_33 (by decide) (fun c8 => ?_) (fun c8 => ?_)
    · have F := F.1 (c8)
      refine v_aload_n C 1 rfl rfl dX0_one_41 ?_
      refine v_aload_n C 0 rfl rfl dX0_one_42 ?_
      refine mX0_263 C (SX.ext E7.1).k1 (d2 := 0) (kc2 := 0) (ks2 := 0) (by decide) (Nat.le_refl _) (Nat.le_refl _) (Nat.le_of_ble_eq_true rfl) dX0_one_43 (Ct.mono (F) ?_)
      rintro r9 h10 ⟨e11, F⟩
      have F := F e11
      have B13 := B6.tr e11
      have E14 := E7.tr e11
      refine v_aload_n C 0 rfl rfl dX0_one_46 ?_
      refine gX0_31 C (SX.ext E14.1).k1 (SX.ext E14.1).f6 dX0_one_47 ?_
      refine mX0_266 C ((SX.ext E14.1).t20).k (d2 := 404) (kc2 := 0) (ks2 := 0) (by decide) (Nat.le_refl _) (Nat.le_refl _) (Nat.le_of_ble_eq_true rfl) dX0_one_50 (Ct.mono (F) ?_)
      rintro r15 h16 ⟨e17, g18, F⟩
      have F := F e17
      have B19 := B13.tr e17
      have E20 := E14.tr e17
      refine v_pop C (iv_n1 _) dX0_one_53 ?_
      obtain ⟨o21, F⟩ := F
      refine v_iinc C 2 rfl (by decide) dX0_one_54 (lv2 := [(2, iv (x2 + 1)), (0, rf 1), (1, rf 20)]) rfl ?_
      refine v_goto C 23 dX0_one_57 (by decide) ?_
      refine v_sub (lv2 := [(0, rf 1), (1, rf 20), (2, iv (x2 + 1))]) [1, 2, 0] rfl ?_
      exact F ⟨B19, o21⟩
    · have F := F.2 (c8)
      refine v_aload_n C 1 rfl rfl dX0_one_36 ?_
      refine gX0_257 C ((SX.ext E7.1).t20).k rfl dX0_one_37 ?_
      exact v_iret C (Nat.le_refl _) (Nat.le_refl _) dX0_one_40 ⟨B6, (EX.rI B6 (j := 11) ((SX.ext E7.1).t20).k rfl), F⟩
set_option maxHeartbeats 1000000 in
theorem eX0_one {G : GT} {l : Launch} {h : Mem} {P : Int → Mem → Prop} (F : ∀ X : MX, Cx G X cX0_one 3 RX0 405 0 0 (some .int) "one" → X.2.1 = l → (EX h h) →
    XS h ∧ ((h 1 0 ≠ 0 → h 1 0 = 2 ∧ kX1_copies G X.2.1 20 2 h (fun r3 h4 => EX h h4 → r3 = 20 ∧ (EX h h4 ∧ R32 0 → V G X 3 0 0 (QF G X 0 0 0 (PI h P)) 23 [(0, rf 1), (1, rf 20), (2, iv 0)] [] h4))) ∧ (h 1 0 = 0 → P (-1) h))) :
    kX0_one G l h P := by
  refine ct_of (by decide +kernel) (Nat.le_of_ble_eq_true rfl) fun X C e => ?_
  refine v_okz fun O => ?_
  exact wX0_one_0 C (EX.rf O) (F X C e (EX.rf O))
def kX0_look (G : GT) (l : Launch) (x1 x2 : Int) (h : Mem) (P : Int → Mem → Prop) : Prop := R32 x1 → R32 x2 → Ct G l yX0_look cX0_look 7 (some .int) 0 406 0 0 [rf 1, iv x1, iv x2] h (PI h P)
set_option maxHeartbeats 4000000 in
theorem wX0_look_0 {G : GT} {X : MX} {h0 h : Mem} {P : Int → Mem → Prop} {x1 x2 : Int} (C : Cx G X cX0_look 7 RX0 406 0 0 (some .int) "look") (B0 : EX h0 h ∧ R32 x1 ∧ R32 x2)
    (F : XS h ∧ ((h 1 0 = 0 → P (-1) h) ∧ (h 1 0 ≠ 0 → kX0_in G X.2.1 x1 0 99 h (fun r2 h3 => EX h h3 → ((r2 = 0 → P (-1) h3) ∧ (r2 ≠ 0 → kX0_in G X.2.1 x2 0 1 h3 (fun r9 h10 => EX h3 h10 → ((r9 ≠ 0 → kX0_gathersRules G X.2.1 x1 h10 (fun _ h17 => EX h10 h17 → (EX h0 h17 ∧ R32 x2 ∧ R32 (-2) ∧ R32 (-2) ∧ R32 0 → V G X 7 0 0 (QF G X 0 0 0 (PI h0 P)) 46 [(0, rf 1), (2, iv x2), (3, iv (-2)), (4, iv (-2)), (5, iv 0)] [] h17))) ∧ (r9 = 0 → P (-1) h10))))))))) :
    V G X 7 0 0 (QF G X 0 0 0 (PI h0 P)) 0 [(0, rf 1), (1, iv x1), (2, iv x2)] [] h := by
  obtain ⟨B, R1, R2⟩ := B0
  have E : EX h h := EX.rf B.2
  obtain ⟨SX, F⟩ := F
  refine v_aload_n C 0 rfl rfl dX0_look_0 ?_
  refine gX0_149 C (SX.ext E.1).k1 rfl dX0_look_1 ?_
  refine v_ifnull C 29 dX0_look_4 (by decide) (fun c1 => ?_) (fun c1 => ?_)
  · have F := F.1 c1
    refine v_iconst C dX0_look_29 ?_
    exact v_iret C (Nat.le_refl _) (Nat.le_refl _) dX0_look_30 ⟨B, ⟨by decide, by decide⟩, F⟩
  · have F := F.2 c1
    refine v_iload_n C 1 rfl rfl dX0_look_7 ?_
    refine v_i2l C R1 dX0_look_8 ?_
    refine v_lconst C (x := 0) rfl dX0_look_9 ?_
    refine v_ldc2 C (x := 99) q1138 dX0_look_10 ?_
    refine mX0_193 C (d2 := 0) (kc2 := 0) (ks2 := 0) (by decide) (Nat.le_refl _) (Nat.le_refl _) (Nat.le_of_ble_eq_true rfl) dX0_look_13 (Ct.mono (F (R32.l R1) ⟨by decide, by decide⟩ ⟨by decide, by decide⟩) ?_)
    rintro r2 h3 ⟨e4, g5, F⟩
    have F := F e4
    have B6 := B.tr e4
    have E7 := E.tr e4
    refine v_if_eq C 29 (bR g5) dX0_look_16 (by decide) (fun c8 => ?_) (fun c8 => ?_)
    · have F := F.1 (c8)
      refine v_iconst C dX0_look_29 ?_
      exact v_iret C (Nat.le_refl _) (Nat.le_refl _) dX0_look_30 ⟨B6, ⟨by decide, by decide⟩, F⟩
    · have F := F.2 (c8)
      refine v_iload_n C 2 rfl rfl dX0_look_19 ?_
      refine v_i2l C R2 dX0_look_20 ?_
      refine v_lconst C (x := 0) rfl dX0_look_21 ?_
      refine v_lconst C (x := 1) rfl dX0_look_22 ?_
      refine mX0_193 C (d2 := 0) (kc2 := 0) (ks2 := 0) (by decide) (Nat.le_refl _) (Nat.le_refl _) (Nat.le_of_ble_eq_true rfl) dX0_look_23 (Ct.mono (F (R32.l R2) ⟨by decide, by decide⟩ ⟨by decide, by decide⟩) ?_)
      rintro r9 h10 ⟨e11, g12, F⟩
      have F := F e11
      have B13 := B6.tr e11
      have E14 := E7.tr e11
      refine v_if_ne C 31 (bR g12) dX0_look_26 (by decide) (fun c15 => ?_) (fun c15 => ?_)
      · have F := F.1 (c15)
        refine v_aload_n C 0 rfl rfl dX0_look_31 ?_
        refine v_iload_n C 1 rfl rfl dX0_look_32 ?_
        refine mX0_367 C (SX.ext E14.1).k1 (d2 := 405) (kc2 := 0) (ks2 := 0) (by decide) (Nat.le_refl _) (Nat.le_refl _) (Nat.le_of_ble_eq_true rfl) dX0_look_33 (Ct.mono (F R1) ?_)
        rintro r16 h17 ⟨e18, F⟩
        have F := F e18
        have B20 := B13.tr e18
        have E21 := E14.tr e18
        refine v_bipush C rfl dX0_look_36 ?_
        refine v_istore_n C rfl (by decide) dX0_look_38 (lv2 := [(3, iv (-2)), (0, rf 1), (1, iv x1), (2, iv x2)]) rfl ?_
        refine v_bipush C rfl dX0_look_39 ?_
        refine v_istore C (by decide) dX0_look_41 (lv2 := [(4, iv (-2)), (3, iv (-2)), (0, rf 1), (1, iv x1), (2, iv x2)]) rfl ?_
        refine v_iconst C dX0_look_43 ?_
        refine v_istore C (by decide) dX0_look_44 (lv2 := [(5, iv 0), (4, iv (-2)), (3, iv (-2)), (0, rf 1), (1, iv x1), (2, iv x2)]) rfl ?_
        refine v_sub (lv2 := [(0, rf 1), (2, iv x2), (3, iv (-2)), (4, iv (-2)), (5, iv 0)]) [3, 5, 2, 1, 0] rfl ?_
        exact F ⟨B20, R2, ⟨by decide, by decide⟩, ⟨by decide, by decide⟩, ⟨by decide, by decide⟩⟩
      · have F := F.2 (c15)
        refine v_iconst C dX0_look_29 ?_
        exact v_iret C (Nat.le_refl _) (Nat.le_refl _) dX0_look_30 ⟨B13, ⟨by decide, by decide⟩, F⟩
set_option maxHeartbeats 4000000 in
theorem wX0_look_L46 {G : GT} {X : MX} {h0 h : Mem} {P : Int → Mem → Prop} {x2 x3 x4 x5 : Int} (C : Cx G X cX0_look 7 RX0 406 0 0 (some .int) "look") (B0 : EX h0 h ∧ R32 x2 ∧ R32 x3 ∧ R32 x4 ∧ R32 x5)
    (F : XS h ∧ h 1 0 = 2 ∧ ((x5 ≥ h 2 3 → ((x2 ≠ 0 → P x4 h) ∧ (x2 = 0 → P x3 h))) ∧ (x5 < h 2 3 → kX0_alikeAt G X.2.1 x5 h (fun r4 h5 => EX h h5 → ((r4 = 0 → R32 (x5 + 1) ∧ (EX h0 h5 ∧ R32 x2 ∧ R32 x3 ∧ R32 x4 ∧ R32 (x5 + 1) → V G X 7 0 0 (QF G X 0 0 0 (PI h0 P)) 46 [(0, rf 1), (2, iv x2), (3, iv x3), (4, iv x4), (5, iv (x5 + 1))] [] h5)) ∧ (r4 ≠ 0 → ((x3 = (-2) → R32 (x5 + 1) ∧ (EX h0 h5 ∧ R32 x2 ∧ R32 x5 ∧ R32 r4 ∧ R32 (x5 + 1) → V G X 7 0 0 (QF G X 0 0 0 (PI h0 P)) 46 [(0, rf 1), (2, iv x2), (3, iv x5), (4, iv r4), (5, iv (x5 + 1))] [] h5)) ∧ (x3 ≠ (-2) → ((r4 < x4 → R32 (x5 + 1) ∧ (EX h0 h5 ∧ R32 x2 ∧ R32 x5 ∧ R32 r4 ∧ R32 (x5 + 1) → V G X 7 0 0 (QF G X 0 0 0 (PI h0 P)) 46 [(0, rf 1), (2, iv x2), (3, iv x5), (4, iv r4), (5, iv (x5 + 1))] [] h5)) ∧ (r4 ≥ x4 → R32 (x5 + 1) ∧ (EX h0 h5 ∧ R32 x2 ∧ R32 x3 ∧ R32 x4 ∧ R32 (x5 + 1) → V G X 7 0 0 (QF G X 0 0 0 (PI h0 P)) 46 [(0, rf 1), (2, iv x2), (3, iv x3), (4, iv x4), (5, iv (x5 + 1))] [] h5))))))))))) :
    V G X 7 0 0 (QF G X 0 0 0 (PI h0 P)) 46 [(0, rf 1), (2, iv x2), (3, iv x3), (4, iv x4), (5, iv x5)] [] h := by
  obtain ⟨B, R2, R3, R4, R5⟩ := B0
  have E : EX h h := EX.rf B.2
  obtain ⟨SX, F⟩ := F
  refine v_iload C 4 rfl dX0_look_46 ?_
  refine v_aload_n C 0 rfl rfl dX0_look_48 ?_
  obtain ⟨o1, F⟩ := F
  refine gX0_149 C (SX.ext E.1).k1 o1 dX0_look_49 ?_
  refine gX0_166 C ((SX.ext E.1).t2).k rfl dX0_look_52 ?_
  refine v_icmp_ge C 100 R5 (EX.rI B (j := 3) ((SX.ext E.1).t2).k rfl) dX0_look_55 (by decide) (fun c2 => ?_) (fun c2 => ?_)
  · have F := F.1 (c2)
    refine v_iload_n C 1 rfl rfl dX0_look_100 ?_
    refine v_if_ne C 108 R2 dX0_look_101 (by decide) (fun c3 => ?_) (fun c3 => ?_)
    · have F := F.1 (c3)
      refine v_iload C 3 rfl dX0_look_108 ?_
      exact v_iret C (Nat.le_refl _) (Nat.le_refl _) dX0_look_110 ⟨B, R4, F⟩
    · have F := F.2 (c3)
      refine v_iload_n C 2 rfl rfl dX0_look_104 ?_
      refine v_goto C 110 dX0_look_105 (by decide) ?_
      exact v_iret C (Nat.le_refl _) (Nat.le_refl _) dX0_look_110 ⟨B, R3, F⟩
  · have F := F.2 (c2)
    refine v_aload_n C 0 rfl rfl dX0_look_58 ?_
    refine v_iload C 4 rfl dX0_look_59 ?_
    refine mX0_370 C (SX.ext E.1).k1 (d2 := 1) (kc2 := 0) (ks2 := 0) (by decide) (Nat.le_refl _) (Nat.le_refl _) (Nat.le_of_ble_eq_true rfl) dX0_look_61 (Ct.mono (F R5) ?_)
    rintro r4 h5 ⟨e6, g7, F⟩
    have F := F e6
    have B8 := B.tr e6
    have E9 := E.tr e6
    refine v_istore C (by decide) dX0_look_64 (lv2 := [(6, iv r4), (0, rf 1), (2, iv x2), (3, iv x3), (4, iv x4), (5, iv x5)]) rfl ?_
    refine v_iload C 0 rfl dX0_look_66 ?_
    refine v_if_eq C 94 g7 dX0_look_68 (by decide) (fun c10 => ?_) (fun c10 => ?_)
    · have F := F.1 (c10)
      obtain ⟨o11, F⟩ := F
      refine v_iinc C 5 rfl (by decide) dX0_look_94 (lv2 := [(5, iv (x5 + 1)), (6, iv r4), (0, rf 1), (2, iv x2), (3, iv x3), (4, iv x4)]) rfl ?_
      refine v_goto C 46 dX0_look_97 (by decide) ?_
      refine v_sub (lv2 := [(0, rf 1), (2, iv x2), (3, iv x3), (4, iv x4), (5, iv (x5 + 1))]) [2, 3, 4, 5, 0] rfl ?_
      exact F ⟨B8, R2, R3, R4, o11⟩
    · have F := F.2 (c10)
      refine v_iload_n C 3 rfl rfl dX0_look_71 ?_
      refine v_bipush C rfl dX0_look_72 ?_
      refine v_icmp_eq C 87 R3 ⟨by decide, by decide⟩ dX0_look_74 (by decide) (fun c12 => ?_) (fun c12 => ?_)
      · have F := F.1 (c12)
        refine v_iload C 5 rfl dX0_look_87 ?_
        refine v_istore_n C rfl (by decide) dX0_look_89 (lv2 := [(3, iv x5), (6, iv r4), (0, rf 1), (2, iv x2), (4, iv x4), (5, iv x5)]) rfl ?_
        refine v_iload C 1 rfl dX0_look_90 ?_
        refine v_istore C (by decide) dX0_look_92 (lv2 := [(4, iv r4), (3, iv x5), (6, iv r4), (0, rf 1), (2, iv x2), (5, iv x5)]) rfl ?_
        obtain ⟨o13, F⟩ := F
        refine v_iinc C 5 rfl (by decide) dX0_look_94 (lv2 := [(5, iv (x5 + 1)), (4, iv r4), (3, iv x5), (6, iv r4), (0, rf 1), (2, iv x2)]) rfl ?_
        refine v_goto C 46 dX0_look_97 (by decide) ?_
        refine v_sub (lv2 := [(0, rf 1), (2, iv x2), (3, iv x5), (4, iv r4), (5, iv (x5 + 1))]) [4, 5, 2, 1, 0] rfl ?_
        exact F ⟨B8, R2, R5, g7, o13⟩
      · have F := F.2 (c12)
        refine v_iload C 0 rfl dX0_look_77 ?_
        refine v_iload C 4 rfl dX0_look_79 ?_
        refine v_icmp_lt C 87 g7 R4 dX0_look_81 (by decide) (fun c14 => ?_) (fun c14 => ?_)
        · have F := F.1 (c14)
          refine v_iload C 5 rfl dX0_look_87 ?_
          refine v_istore_n C rfl (by decide) dX0_look_89 (lv2 := [(3, iv x5), (6, iv r4), (0, rf 1), (2, iv x2), (4, iv x4), (5, iv x5)]) rfl ?_
          refine v_iload C 1 rfl dX0_look_90 ?_
          refine v_istore C (by decide) dX0_look_92 (lv2 := [(4, iv r4), (3, iv x5), (6, iv r4), (0, rf 1), (2, iv x2), (5, iv x5)]) rfl ?_
          obtain ⟨o15, F⟩ := F
          refine v_iinc C 5 rfl (by decide) dX0_look_94 (lv2 := [(5, iv (x5 + 1)), (4, iv r4), (3, iv x5), (6, iv r4), (0, rf 1), (2, iv x2)]) rfl ?_
          refine v_goto C 46 dX0_look_97 (by decide) ?_
          refine v_sub (lv2 := [(0, rf 1), (2, iv x2), (3, iv x5), (4, iv r4), (5, iv (x5 + 1))]) [4, 5, 2, 1, 0] rfl ?_
          exact F ⟨B8, R2, R5, g7, o15⟩
        · have F := F.2 (c14)
          refine v_goto C 94 dX0_look_84 (by decide) ?_
          obtain ⟨o16, F⟩ := F
          refine v_iinc C 5 rfl (by decide) dX0_look_94 (lv2 := [(5, iv (x5 + 1)), (6, iv r4), (0, rf 1), (2, iv x2), (3, iv x3), (4, iv x4)]) rfl ?_
          refine v_goto C 46 dX0_look_97 (by decide) ?_
          refine v_sub (lv2 := [(0, rf 1), (2, iv x2), (3, iv x3), (4, iv x4), (5, iv (x5 + 1))]) [2, 3, 4, 5, 0] rfl ?_
          exact F ⟨B8, R2, R3, R4, o16⟩
set_option maxHeartbeats 1000000 in
theorem eX0_look {G : GT} {l : Launch} {x1 x2 : Int} {h : Mem} {P : Int → Mem → Prop} (F : ∀ X : MX, Cx G X cX0_look 7 RX0 406 0 0 (some .int) "look" → X.2.1 = l → (EX h h ∧ R32 x1 ∧ R32 x2) →
    XS h ∧ ((h 1 0 = 0 → P (-1) h) ∧ (h 1 0 ≠ 0 → kX0_in G X.2.1 x1 0 99 h (fun r2 h3 => EX h h3 → ((r2 = 0 → P (-1) h3) ∧ (r2 ≠ 0 → kX0_in G X.2.1 x2 0 1 h3 (fun r9 h10 => EX h3 h10 → ((r9 ≠ 0 → kX0_gathersRules G X.2.1 x1 h10 (fun _ h17 => EX h10 h17 → (EX h h17 ∧ R32 x2 ∧ R32 (-2) ∧ R32 (-2) ∧ R32 0 → V G X 7 0 0 (QF G X 0 0 0 (PI h P)) 46 [(0, rf 1), (2, iv x2), (3, iv (-2)), (4, iv (-2)), (5, iv 0)] [] h17))) ∧ (r9 = 0 → P (-1) h10))))))))) :
    kX0_look G l x1 x2 h P := by
  intro R1 R2
  refine ct_of (by decide +kernel) (Nat.le_of_ble_eq_true rfl) fun X C e => ?_
  refine v_okz fun O => ?_
  exact wX0_look_0 C ⟨EX.rf O, R1, R2⟩ (F X C e ⟨EX.rf O, R1, R2⟩)
def kX0_rents (G : GT) (l : Launch) (x1 x2 : Int) (h : Mem) (P : Int → Mem → Prop) : Prop := R32 x1 → R32 x2 → Ct G l yX0_rents cX0_rents 3 (some .int) 0 406 0 0 [rf 1, iv x1, iv x2] h (PI h P)
set_option maxHeartbeats 4000000 in
theorem wX0_rents_0 {G : GT} {X : MX} {h0 h : Mem} {P : Int → Mem → Prop} {x1 x2 : Int} (C : Cx G X cX0_rents 3 RX0 406 0 0 (some .int) "rents") (B0 : EX h0 h ∧ R32 x1 ∧ R32 x2)
    (F : XS h ∧ kX0_isPainter G X.2.1 x1 h (fun r1 h2 => EX h h2 → ((r1 = 0 → P (-1) h2) ∧ (r1 ≠ 0 → kX0_in G X.2.1 x2 1 100 h2 (fun r8 h9 => EX h2 h9 → ((r8 ≠ 0 → h9 1 0 = 2 ∧ kX1_copies G X.2.1 20 2 h9 (fun r16 h17 => EX h9 h17 → r16 = 20 ∧ kX0_law G X.2.1 h17 (fun r22 h23 => EX h17 h23 → kX0_gotIn G X.2.1 20 x1 x2 r22 h23 (fun r28 h29 => EX h23 h29 → P r28 h29)))) ∧ (r8 = 0 → P (-1) h9))))))) :
    V G X 3 0 0 (QF G X 0 0 0 (PI h0 P)) 0 [(0, rf 1), (1, iv x1), (2, iv x2)] [] h := by
  obtain ⟨B, R1, R2⟩ := B0
  have E : EX h h := EX.rf B.2
  obtain ⟨SX, F⟩ := F
  refine v_aload_n C 0 rfl rfl dX0_rents_0 ?_
  refine v_iload_n C 1 rfl rfl dX0_rents_1 ?_
  refine mX0_231 C (SX.ext E.1).k1 (d2 := 0) (kc2 := 0) (ks2 := 0) (by decide) (Nat.le_refl _) (Nat.le_refl _) (Nat.le_of_ble_eq_true rfl) dX0_rents_2 (Ct.mono (F R1) ?_)
  rintro r1 h2 ⟨e3, g4, F⟩
  have F := F e3
  have B5 := B.tr e3
  have E6 := E.tr e3
  refine v_if_eq C 20 (bR g4) dX0_rents_5 (by decide) (fun c7 => ?_) (fun c7 => ?_)
  · have F := F.1 (c7)
    refine v_iconst C dX0_rents_20 ?_
    exact v_iret C (Nat.le_refl _) (Nat.le_refl _) dX0_rents_21 ⟨B5, ⟨by decide, by decide⟩, F⟩
  · have F := F.2 (c7)
    refine v_iload_n C 2 rfl rfl dX0_rents_8 ?_
    refine v_i2l C R2 dX0_rents_9 ?_
    refine v_lconst C (x := 1) rfl dX0_rents_10 ?_
    refine v_ldc2 C (x := 100) q1049 dX0_rents_11 ?_
    refine mX0_193 C (d2 := 0) (kc2 := 0) (ks2 := 0) (by decide) (Nat.le_refl _) (Nat.le_refl _) (Nat.le_of_ble_eq_true rfl) dX0_rents_14 (Ct.mono (F (R32.l R2) ⟨by decide, by decide⟩ ⟨by decide, by decide⟩) ?_)
    rintro r8 h9 ⟨e10, g11, F⟩
    have F := F e10
    have B12 := B5.tr e10
    have E13 := E6.tr e10
    refine v_if_ne C 22 (bR g11) dX0_rents_17 (by decide) (fun c14 => ?_) (fun c14 => ?_)
    · have F := F.1 (c14)
      refine v_aload_n C 0 rfl rfl dX0_rents_22 ?_
      refine v_aload_n C 0 rfl rfl dX0_rents_23 ?_
      refine gX0_18 C (SX.ext E13.1).k1 (SX.ext E13.1).f2 dX0_rents_24 ?_
      refine v_aload_n C 0 rfl rfl dX0_rents_27 ?_
      obtain ⟨o15, F⟩ := F
      refine gX0_149 C (SX.ext E13.1).k1 o15 dX0_rents_28 ?_
      refine mX0_145 C ((SX.ext E13.1).t20).k (d2 := 2) (kc2 := 0) (ks2 := 0) (by decide) (Nat.le_refl _) (Nat.le_refl _) (Nat.le_of_ble_eq_true rfl) dX0_rents_31 (Ct.mono (F) ?_)
      rintro r16 h17 ⟨e18, F⟩
      replace F := F e18
      have B20 := B12.tr e18
      have E21 := E13.tr e18
      obtain ⟨r16q, F⟩ := F
      subst r16q
      refine v_iload_n C 1 rfl rfl dX0_rents_34 ?_
      refine v_iload_n C 2 rfl rfl dX0_rents_35 ?_
      refine v_aload_n C 0 rfl rfl dX0_rents_36 ?_
      refine mX0_263 C (SX.ext E21.1).k1 (d2 := 0) (kc2 := 0) (ks2 := 0) (by decide) (Nat.le_refl _) (Nat.le_refl _) (Nat.le_of_ble_eq_true rfl) dX0_rents_37 (Ct.mono (F) ?_)
      rintro r22 h23 ⟨e24, F⟩
      have F := F e24
      have B26 := B20.tr e24
      have E27 := E21.tr e24
      refine mX0_282 C (SX.ext E27.1).k1 (d2 := 405) (kc2 := 0) (ks2 := 0) (by decide) (Nat.le_refl _) (Nat.le_refl _) (Nat.le_of_ble_eq_true rfl) dX0_rents_40 (Ct.mono (F R1 R2) ?_)
      rintro r28 h29 ⟨e30, g31, F⟩
      have F := F e30
      have B32 := B26.tr e30
      have E33 := E27.tr e30
      exact v_iret C (Nat.le_refl _) (Nat.le_refl _) dX0_rents_43 ⟨B32, g31, F⟩
    · have F := F.2 (c14)
      refine v_iconst C dX0_rents_20 ?_
      exact v_iret C (Nat.le_refl _) (Nat.le_refl _) dX0_rents_21 ⟨B12, ⟨by decide, by decide⟩, F⟩
set_option maxHeartbeats 1000000 in
theorem eX0_rents {G : GT} {l : Launch} {x1 x2 : Int} {h : Mem} {P : Int → Mem → Prop} (F : ∀ X : MX, Cx G X cX0_rents 3 RX0 406 0 0 (some .int) "rents" → X.2.1 = l → (EX h h ∧ R32 x1 ∧ R32 x2) →
    XS h ∧ kX0_isPainter G X.2.1 x1 h (fun r1 h2 => EX h h2 → ((r1 = 0 → P (-1) h2) ∧ (r1 ≠ 0 → kX0_in G X.2.1 x2 1 100 h2 (fun r8 h9 => EX h2 h9 → ((r8 ≠ 0 → h9 1 0 = 2 ∧ kX1_copies G X.2.1 20 2 h9 (fun r16 h17 => EX h9 h17 → r16 = 20 ∧ kX0_law G X.2.1 h17 (fun r22 h23 => EX h17 h23 → kX0_gotIn G X.2.1 20 x1 x2 r22 h23 (fun r28 h29 => EX h23 h29 → P r28 h29)))) ∧ (r8 = 0 → P (-1) h9))))))) :
    kX0_rents G l x1 x2 h P := by
  intro R1 R2
  refine ct_of (by decide +kernel) (Nat.le_of_ble_eq_true rfl) fun X C e => ?_
  refine v_okz fun O => ?_
  exact wX0_rents_0 C ⟨EX.rf O, R1, R2⟩ (F X C e ⟨EX.rf O, R1, R2⟩)
def kX0_ruled (G : GT) (l : Launch) (x1 : Int) (h : Mem) (P : Int → Mem → Prop) : Prop := R32 x1 → Ct G l yX0_ruled cX0_ruled 5 (some .int) 0 406 0 0 [rf 1, iv x1] h (PI h P)
set_option maxHeartbeats 4000000 in
theorem wX0_ruled_0 {G : GT} {X : MX} {h0 h : Mem} {P : Int → Mem → Prop} {x1 : Int} (C : Cx G X cX0_ruled 5 RX0 406 0 0 (some .int) "ruled") (B0 : EX h0 h ∧ R32 x1)
    (F : XS h ∧ ((h 1 0 = 0 → P (-3) h) ∧ (h 1 0 ≠ 0 → kX0_in G X.2.1 x1 0 1 h (fun r2 h3 => EX h h3 → ((r2 ≠ 0 → kX0_gathersRules G X.2.1 0 h3 (fun _ h10 => EX h3 h10 → ∀ y15 : Int, y15 = h10 1 16 → (EX h0 h10 ∧ R32 x1 ∧ R32 0 ∧ R32 (-2) ∧ R32 y15 → V G X 5 0 0 (QF G X 0 0 0 (PI h0 P)) 36 [(0, rf 1), (1, iv x1), (2, iv 0), (3, iv (-2)), (4, iv y15)] [] h10))) ∧ (r2 = 0 → P (-3) h3)))))) :
    V G X 5 0 0 (QF G X 0 0 0 (PI h0 P)) 0 [(0, rf 1), (1, iv x1)] [] h := by
  obtain ⟨B, R1⟩ := B0
  have E : EX h h := EX.rf B.2
  obtain ⟨SX, F⟩ := F
  refine v_aload_n C 0 rfl rfl dX0_ruled_0 ?_
  refine gX0_149 C (SX.ext E.1).k1 rfl dX0_ruled_1 ?_
  refine v_ifnull C 17 dX0_ruled_4 (by decide) (fun c1 => ?_) (fun c1 => ?_)
  · have F := F.1 c1
    refine v_bipush C rfl dX0_ruled_17 ?_
    exact v_iret C (Nat.le_refl _) (Nat.le_refl _) dX0_ruled_19 ⟨B, ⟨by decide, by decide⟩, F⟩
  · have F := F.2 c1
    refine v_iload_n C 1 rfl rfl dX0_ruled_7 ?_
    refine v_i2l C R1 dX0_ruled_8 ?_
    refine v_lconst C (x := 0) rfl dX0_ruled_9 ?_
    refine v_lconst C (x := 1) rfl dX0_ruled_10 ?_
    refine mX0_193 C (d2 := 0) (kc2 := 0) (ks2 := 0) (by decide) (Nat.le_refl _) (Nat.le_refl _) (Nat.le_of_ble_eq_true rfl) dX0_ruled_11 (Ct.mono (F (R32.l R1) ⟨by decide, by decide⟩ ⟨by decide, by decide⟩) ?_)
    rintro r2 h3 ⟨e4, g5, F⟩
    have F := F e4
    have B6 := B.tr e4
    have E7 := E.tr e4
    refine v_if_ne C 20 (bR g5) dX0_ruled_14 (by decide) (fun c8 => ?_) (fun c8 => ?_)
    · have F := F.1 (c8)
      refine v_aload_n C 0 rfl rfl dX0_ruled_20 ?_
      refine v_iconst C dX0_ruled_21 ?_
      refine mX0_367 C (SX.ext E7.1).k1 (d2 := 405) (kc2 := 0) (ks2 := 0) (by decide) (Nat.le_refl _) (Nat.le_refl _) (Nat.le_of_ble_eq_true rfl) dX0_ruled_22 (Ct.mono (F ⟨by decide, by decide⟩) ?_)
      rintro r9 h10 ⟨e11, F⟩
      have F := F e11
      have B13 := B6.tr e11
      have E14 := E7.tr e11
      refine v_iconst C dX0_ruled_25 ?_
      refine v_istore_n C rfl (by decide) dX0_ruled_26 (lv2 := [(2, iv 0), (0, rf 1), (1, iv x1)]) rfl ?_
      refine v_bipush C rfl dX0_ruled_27 ?_
      refine v_istore_n C rfl (by decide) dX0_ruled_29 (lv2 := [(3, iv (-2)), (2, iv 0), (0, rf 1), (1, iv x1)]) rfl ?_
      refine v_aload_n C 2 rfl rfl dX0_ruled_30 ?_
      refine gX0_159 C (SX.ext E14.1).k1 rfl dX0_ruled_31 ?_
      obtain ⟨y15, ey15⟩ : ∃ z : Int, z = h10 1 16 := ⟨_, rfl⟩
      have F := F y15 ey15
      have Ry15 : R32 y15 := by rw [ey15]; exact (EX.rI B13 (j := 16) (SX.ext E14.1).k1 rfl)
      refine v_istore C (by decide) dX0_ruled_34 (lv2 := [(4, iv y15), (3, iv (-2)), (2, iv 0), (0, rf 1), (1, iv x1)]) (by rw [ey15]; rfl) ?_
      refine v_sub (lv2 := [(0, rf 1), (1, iv x1), (2, iv 0), (3, iv (-2)), (4, iv y15)]) [3, 4, 2, 1, 0] rfl ?_
      exact F ⟨B13, R1, ⟨by decide, by decide⟩, ⟨by decide, by decide⟩, Ry15⟩
    · have F := F.2 (c8)
      refine v_bipush C rfl dX0_ruled_17 ?_
      exact v_iret C (Nat.le_refl _) (Nat.le_refl _) dX0_ruled_19 ⟨B6, ⟨by decide, by decide⟩, F⟩
set_option maxHeartbeats 4000000 in
theorem wX0_ruled_L36 {G : GT} {X : MX} {h0 h : Mem} {P : Int → Mem → Prop} {x1 x2 x3 x4 : Int} (C : Cx G X cX0_ruled 5 RX0 406 0 0 (some .int) "ruled") (B0 : EX h0 h ∧ R32 x1 ∧ R32 x2 ∧ R32 x3 ∧ R32 x4)
    (F : XS h ∧ ((x4 < 0 → ((x1 ≠ 0 → P x3 h) ∧ (x1 = 0 → P x2 h))) ∧ (x4 ≥ 0 → 0 ≤ x4 ∧ x4 < 7 ∧ ((h 174 x4 ≠ 0 → R32 (x2 + 1) ∧ R32 (x4 - 1) ∧ ∀ y8 : Int, y8 = x4 - 1 → R32 (x4 + (-1)) ∧ (EX h0 h ∧ R32 x1 ∧ R32 (x2 + 1) ∧ R32 y8 ∧ R32 (x4 + (-1)) → V G X 5 0 0 (QF G X 0 0 0 (PI h0 P)) 36 [(0, rf 1), (1, iv x1), (2, iv (x2 + 1)), (3, iv y8), (4, iv (x4 + (-1)))] [] h)) ∧ (h 174 x4 = 0 → R32 (x4 + (-1)) ∧ (EX h0 h ∧ R32 x1 ∧ R32 x2 ∧ R32 x3 ∧ R32 (x4 + (-1)) → V G X 5 0 0 (QF G X 0 0 0 (PI h0 P)) 36 [(0, rf 1), (1, iv x1), (2, iv x2), (3, iv x3), (4, iv (x4 + (-1)))] [] h)))))) :
    V G X 5 0 0 (QF G X 0 0 0 (PI h0 P)) 36 [(0, rf 1), (1, iv x1), (2, iv x2), (3, iv x3), (4, iv x4)] [] h := by
  obtain ⟨B, R1, R2, R3, R4⟩ := B0
  have E : EX h h := EX.rf B.2
  obtain ⟨SX, F⟩ := F
  refine v_iload C 4 rfl dX0_ruled_36 ?_
  refine v_if_lt C 68 R4 dX0_ruled_38 (by decide) (fun c1 => ?_) (fun c1 => ?_)
  · have F := F.1 (c1)
    refine v_iload_n C 1 rfl rfl dX0_ruled_68 ?_
    refine v_if_ne C 76 R1 dX0_ruled_69 (by decide) (fun c2 => ?_) (fun c2 => ?_)
    · have F := F.1 (c2)
      refine v_iload_n C 3 rfl rfl dX0_ruled_76 ?_
      exact v_iret C (Nat.le_refl _) (Nat.le_refl _) dX0_ruled_77 ⟨B, R3, F⟩
    · have F := F.2 (c2)
      refine v_iload_n C 2 rfl rfl dX0_ruled_72 ?_
      refine v_goto C 77 dX0_ruled_73 (by decide) ?_
      exact v_iret C (Nat.le_refl _) (Nat.le_refl _) dX0_ruled_77 ⟨B, R2, F⟩
  · have F := F.2 (c1)
    refine v_aload_n C 0 rfl rfl dX0_ruled_41 ?_
    refine gX0_110 C (SX.ext E.1).k1 (SX.ext E.1).f21 dX0_ruled_42 ?_
    refine v_iload C 4 rfl dX0_ruled_45 ?_
    obtain ⟨o3, F⟩ := F
    obtain ⟨o4, F⟩ := F
    refine v_zald C (SX.ext E.1).k174 o3 (by rw [(SX.ext E.1).l174]; exact o4) rfl dX0_ruled_47 ?_
    refine v_if_ne C 54 (EX.rI B (j := x4) (SX.ext E.1).k174 rfl) dX0_ruled_48 (by decide) (fun c5 => ?_) (fun c5 => ?_)
    · have F := F.1 (c5)
      obtain ⟨o6, F⟩ := F
      refine v_iinc C 2 rfl (by decide) dX0_ruled_54 (lv2 := [(2, iv (x2 + 1)), (0, rf 1), (1, iv x1), (3, iv x3), (4, iv x4)]) rfl ?_
      refine v_iload C 4 rfl dX0_ruled_57 ?_
      refine v_iconst C dX0_ruled_59 ?_
      refine v_isub C dX0_ruled_60 ?_
      obtain ⟨o7, F⟩ := F
      obtain ⟨y8, ey8⟩ : ∃ z : Int, z = x4 - 1 := ⟨_, rfl⟩
      have F := F y8 ey8
      have Ry8 : R32 y8 := by rw [ey8]; exact o7
      refine v_istore_n C rfl (by decide) dX0_ruled_61 (lv2 := [(3, iv y8), (2, iv (x2 + 1)), (0, rf 1), (1, iv x1), (4, iv x4)]) (by rw [ey8]; rfl) ?_
      obtain ⟨o9, F⟩ := F
      refine v_iinc C 4 rfl (by decide) dX0_ruled_62 (lv2 := [(4, iv (x4 + (-1))), (3, iv y8), (2, iv (x2 + 1)), (0, rf 1), (1, iv x1)]) rfl ?_
      refine v_goto C 36 dX0_ruled_65 (by decide) ?_
      refine v_sub (lv2 := [(0, rf 1), (1, iv x1), (2, iv (x2 + 1)), (3, iv y8), (4, iv (x4 + (-1)))]) [3, 4, 2, 1, 0] rfl ?_
      exact F ⟨B, R1, o6, Ry8, o9⟩
    · have F := F.2 (c5)
      refine v_goto C 62 dX0_ruled_51 (by decide) ?_
      obtain ⟨o10, F⟩ := F
      refine v_iinc C 4 rfl (by decide) dX0_ruled_62 (lv2 := [(4, iv (x4 + (-1))), (0, rf 1), (1, iv x1), (2, iv x2), (3, iv x3)]) rfl ?_
      refine v_goto C 36 dX0_ruled_65 (by decide) ?_
      refine v_sub (lv2 := [(0, rf 1), (1, iv x1), (2, iv x2), (3, iv x3), (4, iv (x4 + (-1)))]) [1, 2, 3, 4, 0] rfl ?_
      exact F ⟨B, R1, R2, R3, o10⟩
set_option maxHeartbeats 1000000 in
theorem eX0_ruled {G : GT} {l : Launch} {x1 : Int} {h : Mem} {P : Int → Mem → Prop} (F : ∀ X : MX, Cx G X cX0_ruled 5 RX0 406 0 0 (some .int) "ruled" → X.2.1 = l → (EX h h ∧ R32 x1) →
    XS h ∧ ((h 1 0 = 0 → P (-3) h) ∧ (h 1 0 ≠ 0 → kX0_in G X.2.1 x1 0 1 h (fun r2 h3 => EX h h3 → ((r2 ≠ 0 → kX0_gathersRules G X.2.1 0 h3 (fun _ h10 => EX h3 h10 → ∀ y15 : Int, y15 = h10 1 16 → (EX h h10 ∧ R32 x1 ∧ R32 0 ∧ R32 (-2) ∧ R32 y15 → V G X 5 0 0 (QF G X 0 0 0 (PI h P)) 36 [(0, rf 1), (1, iv x1), (2, iv 0), (3, iv (-2)), (4, iv y15)] [] h10))) ∧ (r2 = 0 → P (-3) h3)))))) :
    kX0_ruled G l x1 h P := by
  intro R1
  refine ct_of (by decide +kernel) (Nat.le_of_ble_eq_true rfl) fun X C e => ?_
  refine v_okz fun O => ?_
  exact wX0_ruled_0 C ⟨EX.rf O, R1⟩ (F X C e ⟨EX.rf O, R1⟩)
def kX0_worth (G : GT) (l : Launch) (x1 x2 x3 : Int) (h : Mem) (P : Int → Mem → Prop) : Prop := R32 x1 → R32 x2 → R32 x3 → Ct G l yX0_worth cX0_worth 6 (some .int) 0 406 0 0 [rf 1, iv x1, iv x2, iv x3] h (PI h P)
set_option maxHeartbeats 4000000 in
theorem wX0_worth_0 {G : GT} {X : MX} {h0 h : Mem} {P : Int → Mem → Prop} {x1 x2 x3 : Int} (C : Cx G X cX0_worth 6 RX0 406 0 0 (some .int) "worth") (B0 : EX h0 h ∧ R32 x1 ∧ R32 x2 ∧ R32 x3)
    (F : XS h ∧ kX0_isCell G X.2.1 x1 h (fun r1 h2 => EX h h2 → ((r1 = 0 → P (-100000) h2) ∧ (r1 ≠ 0 → kX0_isPainter G X.2.1 x2 h2 (fun r8 h9 => EX h2 h9 → ((r8 = 0 → P (-100000) h9) ∧ (r8 ≠ 0 → h9 1 0 = 2 ∧ kX1_isBareCell G X.2.1 2 x1 h9 (fun r16 h17 => EX h9 h17 → ((r16 ≠ 0 → P (-100000) h17) ∧ (r16 = 0 → kX0_in G X.2.1 x3 1 100 h17 (fun r23 h24 => EX h17 h24 → ((r23 ≠ 0 → h24 1 0 = 2 ∧ kX1_copies G X.2.1 20 2 h24 (fun r31 h32 => EX h24 h32 → r31 = 20 ∧ kX0_law G X.2.1 h32 (fun r37 h38 => EX h32 h38 → kX0_gotIn G X.2.1 20 x2 x3 r37 h38 (fun r43 h44 => EX h38 h44 → h44 1 0 = 2 ∧ kX1_copies G X.2.1 20 2 h44 (fun r50 h51 => EX h44 h51 → r50 = 20 ∧ kX1_putsCoat G X.2.1 20 x1 x2 (h51 20 11) h51 (fun _ h57 => EX h51 h57 → kX0_law G X.2.1 h57 (fun r62 h63 => EX h57 h63 → kX0_gotIn G X.2.1 20 x2 x3 r62 h63 (fun r68 h69 => EX h63 h69 → R32 (r68 - r43) ∧ P (r68 - r43) h69)))))))) ∧ (r23 = 0 → P (-100000) h24))))))))))))) :
    V G X 6 0 0 (QF G X 0 0 0 (PI h0 P)) 0 [(0, rf 1), (1, iv x1), (2, iv x2), (3, iv x3)] [] h := by
  obtain ⟨B, R1, R2, R3⟩ := B0
  have E : EX h h := EX.rf B.2
  obtain ⟨SX, F⟩ := F
  refine v_aload_n C 0 rfl rfl dX0_worth_0 ?_
  refine v_iload_n C 1 rfl rfl dX0_worth_1 ?_
  refine mX0_172 C (SX.ext E.1).k1 (d2 := 0) (kc2 := 0) (ks2 := 0) (by decide) (Nat.le_refl _) (Nat.le_refl _) (Nat.le_of_ble_eq_true rfl) dX0_worth_2 (Ct.mono (F R1) ?_)
  rintro r1 h2 ⟨e3, g4, F⟩
  have F := F e3
  have B5 := B.tr e3
  have E6 := E.tr e3
  refine v_if_eq C 39 (bR g4) dX0_worth_5 (by decide) (fun c7 => ?_) (fun c7 => ?_)
  · have F := F.1 (c7)
    refine v_ldcw C (x := (-100000)) (by have z := q1063; rw [show ((-100000) : Int32) = Int32.ofInt (-100000) by decide] at z; exact z) dX0_worth_39 ?_
    exact v_iret C (Nat.le_refl _) (Nat.le_refl _) dX0_worth_42 ⟨B5, ⟨by decide, by decide⟩, F⟩
  · have F := F.2 (c7)
    refine v_aload_n C 0 rfl rfl dX0_worth_8 ?_
    refine v_iload_n C 2 rfl rfl dX0_worth_9 ?_
    refine mX0_231 C (SX.ext E6.1).k1 (d2 := 0) (kc2 := 0) (ks2 := 0) (by decide) (Nat.le_refl _) (Nat.le_refl _) (Nat.le_of_ble_eq_true rfl) dX0_worth_10 (Ct.mono (F R2) ?_)
    rintro r8 h9 ⟨e10, g11, F⟩
    have F := F e10
    have B12 := B5.tr e10
    have E13 := E6.tr e10
    refine v_if_eq C 39 (bR g11) dX0_worth_13 (by decide) (fun c14 => ?_) (fun c14 => ?_)
    · have F := F.1 (c14)
      refine v_ldcw C (x := (-100000)) (by have z := q1063; rw [show ((-100000) : Int32) = Int32.ofInt (-100000) by decide] at z; exact z) dX0_worth_39 ?_
      exact v_iret C (Nat.le_refl _) (Nat.le_refl _) dX0_worth_42 ⟨B12, ⟨by decide, by decide⟩, F⟩
    · have F := F.2 (c14)
      refine v_aload_n C 0 rfl rfl dX0_worth_16 ?_
      obtain ⟨o15, F⟩ := F
      refine gX0_149 C (SX.ext E13.1).k1 o15 dX0_worth_17 ?_
      refine v_iload_n C 1 rfl rfl dX0_worth_20 ?_
      refine mX0_286 C ((SX.ext E13.1).t2).k (d2 := 1) (kc2 := 0) (ks2 := 0) (by decide) (Nat.le_refl _) (Nat.le_refl _) (Nat.le_of_ble_eq_true rfl) dX0_worth_21 (Ct.mono (F R1) ?_)
      rintro r16 h17 ⟨e18, g19, F⟩
      have F := F e18
      have B20 := B12.tr e18
      have E21 := E13.tr e18
      refine v_if_ne C 39 (bR g19) dX0_worth_24 (by decide) (fun c22 => ?_) (fun c22 => ?_)
      · have F := F.1 (c22)
        refine v_ldcw C (x := (-100000)) (by have z := q1063; rw [show ((-100000) : Int32) = Int32.ofInt (-100000) by decide] at z; exact z) dX0_worth_39 ?_
        exact v_iret C (Nat.le_refl _) (Nat.le_refl _) dX0_worth_42 ⟨B20, ⟨by decide, by decide⟩, F⟩
      · have F := F.2 (c22)
        refine v_iload_n C 3 rfl rfl dX0_worth_27 ?_
        refine v_i2l C R3 dX0_worth_28 ?_
        refine v_lconst C (x := 1) rfl dX0_worth_29 ?_
        refine v_ldc2 C (x := 100) q1049 dX0_worth_30 ?_
        refine mX0_193 C (d2 := 0) (kc2 := 0) (ks2 := 0) (by decide) (Nat.le_refl _) (Nat.le_refl _) (Nat.le_of_ble_eq_true rfl) dX0_worth_33 (Ct.mono (F (R32.l R3) ⟨by decide, by decide⟩ ⟨by decide, by decide⟩) ?_)
        rintro r23 h24 ⟨e25, g26, F⟩
        have F := F e25
        have B27 := B20.tr e25
        have E28 := E21.tr e25
        refine v_if_ne C 43 (bR g26) dX0_worth_36 (by decide) (fun c29 => ?_) (fun c29 => ?_)
        · have F := F.1 (c29)
          refine v_aload_n C 0 rfl rfl dX0_worth_43 ?_
          refine v_aload_n C 0 rfl rfl dX0_worth_44 ?_
          refine gX0_18 C (SX.ext E28.1).k1 (SX.ext E28.1).f2 dX0_worth_45 ?_
          refine v_aload_n C 0 rfl rfl dX0_worth_48 ?_
          obtain ⟨o30, F⟩ := F
          refine gX0_149 C (SX.ext E28.1).k1 o30 dX0_worth_49 ?_
          refine mX0_145 C ((SX.ext E28.1).t20).k (d2 := 2) (kc2 := 0) (ks2 := 0) (by decide) (Nat.le_refl _) (Nat.le_refl _) (Nat.le_of_ble_eq_true rfl) dX0_worth_52 (Ct.mono (F) ?_)
          rintro r31 h32 ⟨e33, F⟩
          replace F := F e33
          have B35 := B27.tr e33
          have E36 := E28.tr e33
          obtain ⟨r31q, F⟩ := F
          subst r31q
          refine v_iload_n C 2 rfl rfl dX0_worth_55 ?_
          refine v_iload_n C 3 rfl rfl dX0_worth_56 ?_
          refine v_aload_n C 0 rfl rfl dX0_worth_57 ?_
          refine mX0_263 C (SX.ext E36.1).k1 (d2 := 0) (kc2 := 0) (ks2 := 0) (by decide) (Nat.le_refl _) (Nat.le_refl _) (Nat.le_of_ble_eq_true rfl) dX0_worth_58 (Ct.mono (F) ?_)
          rintro r37 h38 ⟨e39, F⟩
          have F := F e39
          have B41 := B35.tr e39
          have E42 := E36.tr e39
          refine mX0_282 C (SX.ext E42.1).k1 (d2 := 405) (kc2 := 0) (ks2 := 0) (by decide) (Nat.le_refl _) (Nat.le_refl _) (Nat.le_of_ble_eq_true rfl) dX0_worth_61 (Ct.mono (F R2 R3) ?_)
          rintro r43 h44 ⟨e45, g46, F⟩
          have F := F e45
          have B47 := B41.tr e45
          have E48 := E42.tr e45
          refine v_istore C (by decide) dX0_worth_64 (lv2 := [(4, iv r43), (0, rf 1), (1, iv x1), (2, iv x2), (3, iv x3)]) rfl ?_
          refine v_aload_n C 1 rfl rfl dX0_worth_66 ?_
          refine gX0_18 C (SX.ext E48.1).k1 (SX.ext E48.1).f2 dX0_worth_67 ?_
          refine v_aload_n C 1 rfl rfl dX0_worth_70 ?_
          obtain ⟨o49, F⟩ := F
          refine gX0_149 C (SX.ext E48.1).k1 o49 dX0_worth_71 ?_
          refine mX0_145 C ((SX.ext E48.1).t20).k (d2 := 2) (kc2 := 0) (ks2 := 0) (by decide) (Nat.le_refl _) (Nat.le_refl _) (Nat.le_of_ble_eq_true rfl) dX0_worth_74 (Ct.mono (F) ?_)
          rintro r50 h51 ⟨e52, F⟩
          replace F := F e52
          have B54 := B47.tr e52
          have E55 := E48.tr e52
          obtain ⟨r50q, F⟩ := F
          subst r50q
          refine v_astore C (by decide) dX0_worth_77 (lv2 := [(5, rf 20), (4, iv r43), (0, rf 1), (1, iv x1), (2, iv x2), (3, iv x3)]) rfl ?_
          refine v_aload C 0 rfl dX0_worth_79 ?_
          refine v_iload_n C 3 rfl rfl dX0_worth_81 ?_
          refine v_iload_n C 4 rfl rfl dX0_worth_82 ?_
          refine v_aload C 0 rfl dX0_worth_83 ?_
          refine gX0_257 C ((SX.ext E55.1).t20).k rfl dX0_worth_85 ?_
          refine mX0_290 C ((SX.ext E55.1).t20).k (d2 := 0) (kc2 := 0) (ks2 := 0) (by decide) (Nat.le_refl _) (Nat.le_refl _) (Nat.le_of_ble_eq_true rfl) dX0_worth_88 (Ct.mono (F R1 R2 (EX.rI B54 (j := 11) ((SX.ext E55.1).t20).k rfl)) ?_)
          rintro r56 h57 ⟨e58, F⟩
          have F := F e58
          have B60 := B54.tr e58
          have E61 := E55.tr e58
          refine v_aload_n C 2 rfl rfl dX0_worth_91 ?_
          refine v_aload C 0 rfl dX0_worth_92 ?_
          refine v_iload_n C 4 rfl rfl dX0_worth_94 ?_
          refine v_iload_n C 5 rfl rfl dX0_worth_95 ?_
          refine v_aload_n C 2 rfl rfl dX0_worth_96 ?_
          refine mX0_263 C (SX.ext E61.1).k1 (d2 := 0) (kc2 := 0) (ks2 := 0) (by decide) (Nat.le_refl _) (Nat.le_refl _) (Nat.le_of_ble_eq_true rfl) dX0_worth_97 (Ct.mono (F) ?_)
          rintro r62 h63 ⟨e64, F⟩
          have F := F e64
          have B66 := B60.tr e64
          have E67 := E61.tr e64
          refine mX0_282 C (SX.ext E67.1).k1 (d2 := 405) (kc2 := 0) (ks2 := 0) (by decide) (Nat.le_refl _) (Nat.le_refl _) (Nat.le_of_ble_eq_true rfl) dX0_worth_100 (Ct.mono (F R2 R3) ?_)
          rintro r68 h69 ⟨e70, g71, F⟩
          have F := F e70
          have B72 := B66.tr e70
          have E73 := E67.tr e70
          refine v_iload C 1 rfl dX0_worth_103 ?_
          refine v_isub C dX0_worth_105 ?_
          obtain ⟨o74, F⟩ := F
          exact v_iret C (Nat.le_refl _) (Nat.le_refl _) dX0_worth_106 ⟨B72, o74, F⟩
        · have F := F.2 (c29)
          refine v_ldcw C (x := (-100000)) (by have z := q1063; rw [show ((-100000) : Int32) = Int32.ofInt (-100000) by decide] at z; exact z) dX0_worth_39 ?_
          exact v_iret C (Nat.le_refl _) (Nat.le_refl _) dX0_worth_42 ⟨B27, ⟨by decide, by decide⟩, F⟩
set_option maxHeartbeats 1000000 in
theorem eX0_worth {G : GT} {l : Launch} {x1 x2 x3 : Int} {h : Mem} {P : Int → Mem → Prop} (F : ∀ X : MX, Cx G X cX0_worth 6 RX0 406 0 0 (some .int) "worth" → X.2.1 = l → (EX h h ∧ R32 x1 ∧ R32 x2 ∧ R32 x3) →
    XS h ∧ kX0_isCell G X.2.1 x1 h (fun r1 h2 => EX h h2 → ((r1 = 0 → P (-100000) h2) ∧ (r1 ≠ 0 → kX0_isPainter G X.2.1 x2 h2 (fun r8 h9 => EX h2 h9 → ((r8 = 0 → P (-100000) h9) ∧ (r8 ≠ 0 → h9 1 0 = 2 ∧ kX1_isBareCell G X.2.1 2 x1 h9 (fun r16 h17 => EX h9 h17 → ((r16 ≠ 0 → P (-100000) h17) ∧ (r16 = 0 → kX0_in G X.2.1 x3 1 100 h17 (fun r23 h24 => EX h17 h24 → ((r23 ≠ 0 → h24 1 0 = 2 ∧ kX1_copies G X.2.1 20 2 h24 (fun r31 h32 => EX h24 h32 → r31 = 20 ∧ kX0_law G X.2.1 h32 (fun r37 h38 => EX h32 h38 → kX0_gotIn G X.2.1 20 x2 x3 r37 h38 (fun r43 h44 => EX h38 h44 → h44 1 0 = 2 ∧ kX1_copies G X.2.1 20 2 h44 (fun r50 h51 => EX h44 h51 → r50 = 20 ∧ kX1_putsCoat G X.2.1 20 x1 x2 (h51 20 11) h51 (fun _ h57 => EX h51 h57 → kX0_law G X.2.1 h57 (fun r62 h63 => EX h57 h63 → kX0_gotIn G X.2.1 20 x2 x3 r62 h63 (fun r68 h69 => EX h63 h69 → R32 (r68 - r43) ∧ P (r68 - r43) h69)))))))) ∧ (r23 = 0 → P (-100000) h24))))))))))))) :
    kX0_worth G l x1 x2 x3 h P := by
  intro R1 R2 R3
  refine ct_of (by decide +kernel) (Nat.le_of_ble_eq_true rfl) fun X C e => ?_
  refine v_okz fun O => ?_
  exact wX0_worth_0 C ⟨EX.rf O, R1, R2, R3⟩ (F X C e ⟨EX.rf O, R1, R2, R3⟩)
