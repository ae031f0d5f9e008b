/-! formulas of ctors -/
set_option maxRecDepth 100000
def kX7_init (G : GT) (l : Launch) (x0 : Int) (h : Mem) (P : Int → Mem → Prop) : Prop := Ct G l yX7_init cX7_init 1 none 3 1 0 0 [rf x0] h (PN x0 h P)
def kX11_init (G : GT) (l : Launch) (x0 : Int) (h : Mem) (P : Int → Mem → Prop) : Prop := Ct G l yX11_init cX11_init 1 none 3 1 0 0 [rf x0] h (PN x0 h P)
def kX8_init (G : GT) (l : Launch) (x0 x1 : Int) (h : Mem) (P : Int → Mem → Prop) : Prop := R64 x1 → Ct G l yX8_init cX8_init 3 none 3 2 0 0 [rf x0, jv x1] h (PN x0 h P)
def kX9_init (G : GT) (l : Launch) (x0 x1 : Int) (h : Mem) (P : Int → Mem → Prop) : Prop := R32 x1 → Ct G l yX9_init cX9_init 2 none 3 2 0 0 [rf x0, iv x1] h (PN x0 h P)
def kX10_init (G : GT) (l : Launch) (x0 x1 x2 x3 : Int) (h : Mem) (P : Int → Mem → Prop) : Prop := R32 x2 → Ct G l yX10_init cX10_init 4 none 3 2 0 0 [rf x0, rf x1, iv x2, rf x3] h (PN x0 h P)
def kX12_init (G : GT) (l : Launch) (x0 x1 : Int) (h : Mem) (P : Int → Mem → Prop) : Prop := Ct G l yX12_init cX12_init 2 none 3 2 0 0 [rf x0, rf x1] h (PN x0 h P)
def kX14_init (G : GT) (l : Launch) (x0 x1 x2 x3 : Int) (h : Mem) (P : Int → Mem → Prop) : Prop := R32 x2 → Ct G l yX14_init cX14_init 4 none 3 2 0 0 [rf x0, rf x1, iv x2, rf x3] h (PN x0 h P)
def kX13_init (G : GT) (l : Launch) (x0 x1 x2 x3 : Int) (h : Mem) (P : Int → Mem → Prop) : Prop := R32 x2 → Ct G l yX13_init cX13_init 4 none 3 2 0 0 [rf x0, rf x1, iv x2, rf x3] h (PN x0 h P)
def kX6_init (G : GT) (l : Launch) (x0 : Int) (h : Mem) (P : Int → Mem → Prop) : Prop := Ct G l yX6_init cX6_init 1 none 3 1 0 0 [rf x0] h (PN x0 h P)
def kX5_init (G : GT) (l : Launch) (kc ks : Nat) (x0 : Int) (h : Mem) (P : Int → Mem → Prop) : Prop := Ct G l yX5_init cX5_init 1 none 3 1 kc ks [rf x0] h (PN x0 h P)
def kX1_init (G : GT) (l : Launch) (kc ks : Nat) (x0 : Int) (h : Mem) (P : Int → Mem → Prop) : Prop := Ct G l yX1_init cX1_init 1 none 3 1 kc ks [rf x0] h (PN x0 h P)
def kX4_init (G : GT) (l : Launch) (x0 x1 : Int) (h : Mem) (P : Int → Mem → Prop) : Prop := Ct G l yX4_init cX4_init 2 none 3 1 0 0 [rf x0, rf x1] h (PN x0 h P)
def kX15_init (G : GT) (l : Launch) (kc ks : Nat) (x0 : Int) (h : Mem) (P : Int → Mem → Prop) : Prop := Ct G l yX15_init cX15_init 1 none 3 2 kc ks [rf x0] h (PN x0 h P)
set_option maxHeartbeats 4000000 in
theorem wX7_init_0 {G : GT} {X : MX} {h0 h : Mem} {P : Int → Mem → Prop} {x0 : Int} (C : Cx G X cX7_init 1 RX7 1 0 0 none "<init>") (B0 : BX x0 h0 h)
    (F : x0 ≠ 0 ∧ P 0 h) :
    V G X 1 0 0 (QF G X 3 0 0 (PN x0 h0 P)) 0 [(0, rf x0)] [] h := by
  have B := B0
  refine v_aload_n C 0 rfl rfl dX7_init_0 ?_
  obtain ⟨o1, F⟩ := F
  refine v_objInit C q737 q161 q162 o1 (by decide) (Nat.le_of_ble_eq_true rfl) dX7_init_1 ?_
  exact v_vret C (Nat.le_refl _) (Nat.le_refl _) dX7_init_4 ⟨B, F⟩
set_option maxHeartbeats 1000000 in
theorem eX7_init {G : GT} {l : Launch} {x0 : Int} {h : Mem} {P : Int → Mem → Prop} (F : ∀ X : MX, Cx G X cX7_init 1 RX7 1 0 0 none "<init>" → X.2.1 = l → (BX x0 h h) →
    x0 ≠ 0 ∧ P 0 h) :
    kX7_init G l x0 h P := by
  refine ct_of (by decide +kernel) (Nat.le_of_ble_eq_true rfl) fun X C e => ?_
  refine v_okz fun O => ?_
  exact wX7_init_0 C (BX.rf O) (F X C e (BX.rf O))
set_option maxHeartbeats 4000000 in
theorem wX11_init_0 {G : GT} {X : MX} {h0 h : Mem} {P : Int → Mem → Prop} {x0 : Int} (C : Cx G X cX11_init 1 RX11 1 0 0 none "<init>") (B0 : BX x0 h0 h)
    (F : x0 ≠ 0 ∧ P 0 h) :
    V G X 1 0 0 (QF G X 3 0 0 (PN x0 h0 P)) 0 [(0, rf x0)] [] h := by
  have B := B0
  refine v_aload_n C 0 rfl rfl dX11_init_0 ?_
  obtain ⟨o1, F⟩ := F
  refine v_objInit C q798 q161 q162 o1 (by decide) (Nat.le_of_ble_eq_true rfl) dX11_init_1 ?_
  exact v_vret C (Nat.le_refl _) (Nat.le_refl _) dX11_init_4 ⟨B, F⟩
set_option maxHeartbeats 1000000 in
theorem eX11_init {G : GT} {l : Launch} {x0 : Int} {h : Mem} {P : Int → Mem → Prop} (F : ∀ X : MX, Cx G X cX11_init 1 RX11 1 0 0 none "<init>" → X.2.1 = l → (BX x0 h h) →
    x0 ≠ 0 ∧ P 0 h) :
    kX11_init G l x0 h P := by
  refine ct_of (by decide +kernel) (Nat.le_of_ble_eq_true rfl) fun X C e => ?_
  refine v_okz fun O => ?_
  exact wX11_init_0 C (BX.rf O) (F X C e (BX.rf O))
set_option maxHeartbeats 4000000 in
theorem wX8_init_0 {G : GT} {X : MX} {h0 h : Mem} {P : Int → Mem → Prop} {x0 x1 : Int} (C : Cx G X cX8_init 3 RX8 2 0 0 none "<init>") (B0 : BX x0 h0 h ∧ R64 x1)
    (F : h x0 (-1) = 8 ∧ kX7_init G X.2.1 x0 h (fun _ h4 => BX x0 h h4 → h4 x0 (-1) = 8 ∧ ∀ h10 : Mem, h10 = up h4 x0 0 x1 → P 0 h10)) :
    V G X 3 0 0 (QF G X 3 0 0 (PN x0 h0 P)) 0 [(0, rf x0), (1, jv x1)] [] h := by
  obtain ⟨B, R1⟩ := B0
  refine v_aload_n C 0 rfl rfl dX8_init_0 ?_
  obtain ⟨o1, F⟩ := F
  have n2 : x0 ≠ 0 := by have z := (B.1.2.1 x0 (by rw [o1]; decide)).1; omega
  refine mX8_1 C n2 (d2 := 1) (kc2 := 0) (ks2 := 0) (by decide) (Nat.le_refl _) (Nat.le_refl _) (Nat.le_of_ble_eq_true rfl) dX8_init_1 (Ct.mono (F) ?_)
  rintro r3 h4 ⟨e5, F⟩
  have F := F e5
  have B7 := BX_call B (Int.le_refl _) e5
  refine v_aload_n C 0 rfl rfl dX8_init_4 ?_
  refine v_lload_n C 1 rfl rfl dX8_init_5 ?_
  obtain ⟨o9, F⟩ := F
  refine pX8_7 C rfl o9 (okI_j rfl R1) dX8_init_6 ?_
  obtain ⟨h10, eh10⟩ : ∃ m : Mem, m = up h4 x0 0 x1 := ⟨_, rfl⟩
  have B11 : BX x0 h0 h10 := by rw [eh10]; exact BX_up B7 o9 (by decide) (Int.le_refl _) (by decide) (okI_j rfl R1)
  refine v_mem eh10 ?_
  have F := F h10 eh10
  exact v_vret C (Nat.le_refl _) (Nat.le_refl _) dX8_init_9 ⟨B11, F⟩
set_option maxHeartbeats 1000000 in
theorem eX8_init {G : GT} {l : Launch} {x0 x1 : Int} {h : Mem} {P : Int → Mem → Prop} (F : ∀ X : MX, Cx G X cX8_init 3 RX8 2 0 0 none "<init>" → X.2.1 = l → (BX x0 h h ∧ R64 x1) →
    h x0 (-1) = 8 ∧ kX7_init G X.2.1 x0 h (fun _ h4 => BX x0 h h4 → h4 x0 (-1) = 8 ∧ ∀ h10 : Mem, h10 = up h4 x0 0 x1 → P 0 h10)) :
    kX8_init G l x0 x1 h P := by
  intro R1
  refine ct_of (by decide +kernel) (Nat.le_of_ble_eq_true rfl) fun X C e => ?_
  refine v_okz fun O => ?_
  exact wX8_init_0 C ⟨BX.rf O, R1⟩ (F X C e ⟨BX.rf O, R1⟩)
set_option maxHeartbeats 4000000 in
theorem wX9_init_0 {G : GT} {X : MX} {h0 h : Mem} {P : Int → Mem → Prop} {x0 x1 : Int} (C : Cx G X cX9_init 2 RX9 2 0 0 none "<init>") (B0 : BX x0 h0 h ∧ R32 x1)
    (F : h x0 (-1) = 9 ∧ kX7_init G X.2.1 x0 h (fun _ h4 => BX x0 h h4 → h4 x0 (-1) = 9 ∧ ∀ h10 : Mem, h10 = up h4 x0 0 x1 → P 0 h10)) :
    V G X 2 0 0 (QF G X 3 0 0 (PN x0 h0 P)) 0 [(0, rf x0), (1, iv x1)] [] h := by
  obtain ⟨B, R1⟩ := B0
  refine v_aload_n C 0 rfl rfl dX9_init_0 ?_
  obtain ⟨o1, F⟩ := F
  have n2 : x0 ≠ 0 := by have z := (B.1.2.1 x0 (by rw [o1]; decide)).1; omega
  refine mX9_1 C n2 (d2 := 1) (kc2 := 0) (ks2 := 0) (by decide) (Nat.le_refl _) (Nat.le_refl _) (Nat.le_of_ble_eq_true rfl) dX9_init_1 (Ct.mono (F) ?_)
  rintro r3 h4 ⟨e5, F⟩
  have F := F e5
  have B7 := BX_call B (Int.le_refl _) e5
  refine v_aload_n C 0 rfl rfl dX9_init_4 ?_
  refine v_iload_n C 1 rfl rfl dX9_init_5 ?_
  obtain ⟨o9, F⟩ := F
  refine pX9_7 C rfl o9 (okI_i rfl R1) dX9_init_6 ?_
  obtain ⟨h10, eh10⟩ : ∃ m : Mem, m = up h4 x0 0 x1 := ⟨_, rfl⟩
  have B11 : BX x0 h0 h10 := by rw [eh10]; exact BX_up B7 o9 (by decide) (Int.le_refl _) (by decide) (okI_i rfl R1)
  refine v_mem eh10 ?_
  have F := F h10 eh10
  exact v_vret C (Nat.le_refl _) (Nat.le_refl _) dX9_init_9 ⟨B11, F⟩
set_option maxHeartbeats 1000000 in
theorem eX9_init {G : GT} {l : Launch} {x0 x1 : Int} {h : Mem} {P : Int → Mem → Prop} (F : ∀ X : MX, Cx G X cX9_init 2 RX9 2 0 0 none "<init>" → X.2.1 = l → (BX x0 h h ∧ R32 x1) →
    h x0 (-1) = 9 ∧ kX7_init G X.2.1 x0 h (fun _ h4 => BX x0 h h4 → h4 x0 (-1) = 9 ∧ ∀ h10 : Mem, h10 = up h4 x0 0 x1 → P 0 h10)) :
    kX9_init G l x0 x1 h P := by
  intro R1
  refine ct_of (by decide +kernel) (Nat.le_of_ble_eq_true rfl) fun X C e => ?_
  refine v_okz fun O => ?_
  exact wX9_init_0 C ⟨BX.rf O, R1⟩ (F X C e ⟨BX.rf O, R1⟩)
set_option maxHeartbeats 4000000 in
theorem wX10_init_0 {G : GT} {X : MX} {h0 h : Mem} {P : Int → Mem → Prop} {x0 x1 x2 x3 : Int} (C : Cx G X cX10_init 4 RX10 2 0 0 none "<init>") (B0 : BX x0 h0 h ∧ R32 x2)
    (F : h x0 (-1) = 10 ∧ kX7_init G X.2.1 x0 h (fun _ h4 => BX x0 h h4 → h4 x0 (-1) = 10 ∧ ∀ h10 : Mem, h10 = up h4 x0 0 x1 → ∀ h13 : Mem, h13 = up h10 x0 2 x2 → ∀ h16 : Mem, h16 = up h13 x0 1 x3 → P 0 h16)) :
    V G X 4 0 0 (QF G X 3 0 0 (PN x0 h0 P)) 0 [(0, rf x0), (1, rf x1), (2, iv x2), (3, rf x3)] [] h := by
  obtain ⟨B, R2⟩ := B0
  refine v_aload_n C 0 rfl rfl dX10_init_0 ?_
  obtain ⟨o1, F⟩ := F
  have n2 : x0 ≠ 0 := by have z := (B.1.2.1 x0 (by rw [o1]; decide)).1; omega
  refine mX10_1 C n2 (d2 := 1) (kc2 := 0) (ks2 := 0) (by decide) (Nat.le_refl _) (Nat.le_refl _) (Nat.le_of_ble_eq_true rfl) dX10_init_1 (Ct.mono (F) ?_)
  rintro r3 h4 ⟨e5, F⟩
  have F := F e5
  have B7 := BX_call B (Int.le_refl _) e5
  refine v_aload_n C 0 rfl rfl dX10_init_4 ?_
  refine v_aload_n C 1 rfl rfl dX10_init_5 ?_
  obtain ⟨o9, F⟩ := F
  refine pX10_7 C rfl o9 (okI_r rfl rfl) dX10_init_6 ?_
  obtain ⟨h10, eh10⟩ : ∃ m : Mem, m = up h4 x0 0 x1 := ⟨_, rfl⟩
  have B11 : BX x0 h0 h10 := by rw [eh10]; exact BX_up B7 o9 (by decide) (Int.le_refl _) (by decide) (okI_r rfl rfl)
  refine v_mem eh10 ?_
  have F := F h10 eh10
  refine v_aload_n C 0 rfl rfl dX10_init_9 ?_
  refine v_iload_n C 2 rfl rfl dX10_init_10 ?_
  refine pX10_13 C rfl (ck_up eh10 (by decide) o9) (okI_i rfl R2) dX10_init_11 ?_
  obtain ⟨h13, eh13⟩ : ∃ m : Mem, m = up h10 x0 2 x2 := ⟨_, rfl⟩
  have B14 : BX x0 h0 h13 := by rw [eh13]; exact BX_up B11 (ck_up eh10 (by decide) o9) (by decide) (Int.le_refl _) (by decide) (okI_i rfl R2)
  refine v_mem eh13 ?_
  have F := F h13 eh13
  refine v_aload_n C 0 rfl rfl dX10_init_14 ?_
  refine v_aload_n C 3 rfl rfl dX10_init_15 ?_
  refine pX10_17 C rfl (ck_up eh13 (by decide) (ck_up eh10 (by decide) o9)) (okI_r rfl rfl) dX10_init_16 ?_
  obtain ⟨h16, eh16⟩ : ∃ m : Mem, m = up h13 x0 1 x3 := ⟨_, rfl⟩
  have B17 : BX x0 h0 h16 := by rw [eh16]; exact BX_up B14 (ck_up eh13 (by decide) (ck_up eh10 (by decide) o9)) (by decide) (Int.le_refl _) (by decide) (okI_r rfl rfl)
  refine v_mem eh16 ?_
  have F := F h16 eh16
  exact v_vret C (Nat.le_refl _) (Nat.le_refl _) dX10_init_19 ⟨B17, F⟩
set_option maxHeartbeats 1000000 in
theorem eX10_init {G : GT} {l : Launch} {x0 x1 x2 x3 : Int} {h : Mem} {P : Int → Mem → Prop} (F : ∀ X : MX, Cx G X cX10_init 4 RX10 2 0 0 none "<init>" → X.2.1 = l → (BX x0 h h ∧ R32 x2) →
    h x0 (-1) = 10 ∧ kX7_init G X.2.1 x0 h (fun _ h4 => BX x0 h h4 → h4 x0 (-1) = 10 ∧ ∀ h10 : Mem, h10 = up h4 x0 0 x1 → ∀ h13 : Mem, h13 = up h10 x0 2 x2 → ∀ h16 : Mem, h16 = up h13 x0 1 x3 → P 0 h16)) :
    kX10_init G l x0 x1 x2 x3 h P := by
  intro R2
  refine ct_of (by decide +kernel) (Nat.le_of_ble_eq_true rfl) fun X C e => ?_
  refine v_okz fun O => ?_
  exact wX10_init_0 C ⟨BX.rf O, R2⟩ (F X C e ⟨BX.rf O, R2⟩)
set_option maxHeartbeats 4000000 in
theorem wX12_init_0 {G : GT} {X : MX} {h0 h : Mem} {P : Int → Mem → Prop} {x0 x1 : Int} (C : Cx G X cX12_init 2 RX12 2 0 0 none "<init>") (B0 : BX x0 h0 h)
    (F : h x0 (-1) = 11 ∧ kX11_init G X.2.1 x0 h (fun _ h4 => BX x0 h h4 → h4 x0 (-1) = 11 ∧ ∀ h10 : Mem, h10 = up h4 x0 0 x1 → P 0 h10)) :
    V G X 2 0 0 (QF G X 3 0 0 (PN x0 h0 P)) 0 [(0, rf x0), (1, rf x1)] [] h := by
  have B := B0
  refine v_aload_n C 0 rfl rfl dX12_init_0 ?_
  obtain ⟨o1, F⟩ := F
  have n2 : x0 ≠ 0 := by have z := (B.1.2.1 x0 (by rw [o1]; decide)).1; omega
  refine mX12_1 C n2 (d2 := 1) (kc2 := 0) (ks2 := 0) (by decide) (Nat.le_refl _) (Nat.le_refl _) (Nat.le_of_ble_eq_true rfl) dX12_init_1 (Ct.mono (F) ?_)
  rintro r3 h4 ⟨e5, F⟩
  have F := F e5
  have B7 := BX_call B (Int.le_refl _) e5
  refine v_aload_n C 0 rfl rfl dX12_init_4 ?_
  refine v_aload_n C 1 rfl rfl dX12_init_5 ?_
  obtain ⟨o9, F⟩ := F
  refine pX12_7 C rfl o9 (okI_r rfl rfl) dX12_init_6 ?_
  obtain ⟨h10, eh10⟩ : ∃ m : Mem, m = up h4 x0 0 x1 := ⟨_, rfl⟩
  have B11 : BX x0 h0 h10 := by rw [eh10]; exact BX_up B7 o9 (by decide) (Int.le_refl _) (by decide) (okI_r rfl rfl)
  refine v_mem eh10 ?_
  have F := F h10 eh10
  exact v_vret C (Nat.le_refl _) (Nat.le_refl _) dX12_init_9 ⟨B11, F⟩
set_option maxHeartbeats 1000000 in
theorem eX12_init {G : GT} {l : Launch} {x0 x1 : Int} {h : Mem} {P : Int → Mem → Prop} (F : ∀ X : MX, Cx G X cX12_init 2 RX12 2 0 0 none "<init>" → X.2.1 = l → (BX x0 h h) →
    h x0 (-1) = 11 ∧ kX11_init G X.2.1 x0 h (fun _ h4 => BX x0 h h4 → h4 x0 (-1) = 11 ∧ ∀ h10 : Mem, h10 = up h4 x0 0 x1 → P 0 h10)) :
    kX12_init G l x0 x1 h P := by
  refine ct_of (by decide +kernel) (Nat.le_of_ble_eq_true rfl) fun X C e => ?_
  refine v_okz fun O => ?_
  exact wX12_init_0 C (BX.rf O) (F X C e (BX.rf O))
set_option maxHeartbeats 4000000 in
theorem wX14_init_0 {G : GT} {X : MX} {h0 h : Mem} {P : Int → Mem → Prop} {x0 x1 x2 x3 : Int} (C : Cx G X cX14_init 4 RX14 2 0 0 none "<init>") (B0 : BX x0 h0 h ∧ R32 x2)
    (F : h x0 (-1) = 13 ∧ kX11_init G X.2.1 x0 h (fun _ h4 => BX x0 h h4 → h4 x0 (-1) = 13 ∧ ∀ h10 : Mem, h10 = up h4 x0 0 x1 → (x2 = 0 ∨ x2 = 1) ∧ ∀ h14 : Mem, h14 = up h10 x0 2 x2 → ∀ h17 : Mem, h17 = up h14 x0 1 x3 → P 0 h17)) :
    V G X 4 0 0 (QF G X 3 0 0 (PN x0 h0 P)) 0 [(0, rf x0), (1, rf x1), (2, iv x2), (3, rf x3)] [] h := by
  obtain ⟨B, R2⟩ := B0
  refine v_aload_n C 0 rfl rfl dX14_init_0 ?_
  obtain ⟨o1, F⟩ := F
  have n2 : x0 ≠ 0 := by have z := (B.1.2.1 x0 (by rw [o1]; decide)).1; omega
  refine mX14_1 C n2 (d2 := 1) (kc2 := 0) (ks2 := 0) (by decide) (Nat.le_refl _) (Nat.le_refl _) (Nat.le_of_ble_eq_true rfl) dX14_init_1 (Ct.mono (F) ?_)
  rintro r3 h4 ⟨e5, F⟩
  have F := F e5
  have B7 := BX_call B (Int.le_refl _) e5
  refine v_aload_n C 0 rfl rfl dX14_init_4 ?_
  refine v_aload_n C 1 rfl rfl dX14_init_5 ?_
  obtain ⟨o9, F⟩ := F
  refine pX14_7 C rfl o9 (okI_r rfl rfl) dX14_init_6 ?_
  obtain ⟨h10, eh10⟩ : ∃ m : Mem, m = up h4 x0 0 x1 := ⟨_, rfl⟩
  have B11 : BX x0 h0 h10 := by rw [eh10]; exact BX_up B7 o9 (by decide) (Int.le_refl _) (by decide) (okI_r rfl rfl)
  refine v_mem eh10 ?_
  have F := F h10 eh10
  refine v_aload_n C 0 rfl rfl dX14_init_9 ?_
  refine v_iload_n C 2 rfl rfl dX14_init_10 ?_
  obtain ⟨o13, F⟩ := F
  refine pX14_13 C rfl (ck_up eh10 (by decide) o9) o13 (okI_i rfl R2) dX14_init_11 ?_
  obtain ⟨h14, eh14⟩ : ∃ m : Mem, m = up h10 x0 2 x2 := ⟨_, rfl⟩
  have B15 : BX x0 h0 h14 := by rw [eh14]; exact BX_up B11 (ck_up eh10 (by decide) o9) (by decide) (Int.le_refl _) (by decide) (okI_i rfl R2)
  refine v_mem eh14 ?_
  have F := F h14 eh14
  refine v_aload_n C 0 rfl rfl dX14_init_14 ?_
  refine v_aload_n C 3 rfl rfl dX14_init_15 ?_
  refine pX14_17 C rfl (ck_up eh14 (by decide) (ck_up eh10 (by decide) o9)) (okI_r rfl rfl) dX14_init_16 ?_
  obtain ⟨h17, eh17⟩ : ∃ m : Mem, m = up h14 x0 1 x3 := ⟨_, rfl⟩
  have B18 : BX x0 h0 h17 := by rw [eh17]; exact BX_up B15 (ck_up eh14 (by decide) (ck_up eh10 (by decide) o9)) (by decide) (Int.le_refl _) (by decide) (okI_r rfl rfl)
  refine v_mem eh17 ?_
  have F := F h17 eh17
  exact v_vret C (Nat.le_refl _) (Nat.le_refl _) dX14_init_19 ⟨B18, F⟩
set_option maxHeartbeats 1000000 in
theorem eX14_init {G : GT} {l : Launch} {x0 x1 x2 x3 : Int} {h : Mem} {P : Int → Mem → Prop} (F : ∀ X : MX, Cx G X cX14_init 4 RX14 2 0 0 none "<init>" → X.2.1 = l → (BX x0 h h ∧ R32 x2) →
    h x0 (-1) = 13 ∧ kX11_init G X.2.1 x0 h (fun _ h4 => BX x0 h h4 → h4 x0 (-1) = 13 ∧ ∀ h10 : Mem, h10 = up h4 x0 0 x1 → (x2 = 0 ∨ x2 = 1) ∧ ∀ h14 : Mem, h14 = up h10 x0 2 x2 → ∀ h17 : Mem, h17 = up h14 x0 1 x3 → P 0 h17)) :
    kX14_init G l x0 x1 x2 x3 h P := by
  intro R2
  refine ct_of (by decide +kernel) (Nat.le_of_ble_eq_true rfl) fun X C e => ?_
  refine v_okz fun O => ?_
  exact wX14_init_0 C ⟨BX.rf O, R2⟩ (F X C e ⟨BX.rf O, R2⟩)
set_option maxHeartbeats 4000000 in
theorem wX13_init_0 {G : GT} {X : MX} {h0 h : Mem} {P : Int → Mem → Prop} {x0 x1 x2 x3 : Int} (C : Cx G X cX13_init 4 RX13 2 0 0 none "<init>") (B0 : BX x0 h0 h ∧ R32 x2)
    (F : h x0 (-1) = 12 ∧ kX11_init G X.2.1 x0 h (fun _ h4 => BX x0 h h4 → h4 x0 (-1) = 12 ∧ ∀ h10 : Mem, h10 = up h4 x0 0 x1 → ∀ h13 : Mem, h13 = up h10 x0 2 x2 → ∀ h16 : Mem, h16 = up h13 x0 1 x3 → P 0 h16)) :
    V G X 4 0 0 (QF G X 3 0 0 (PN x0 h0 P)) 0 [(0, rf x0), (1, rf x1), (2, iv x2), (3, rf x3)] [] h := by
  obtain ⟨B, R2⟩ := B0
  refine v_aload_n C 0 rfl rfl dX13_init_0 ?_
  obtain ⟨o1, F⟩ := F
  have n2 : x0 ≠ 0 := by have z := (B.1.2.1 x0 (by rw [o1]; decide)).1; omega
  refine mX13_1 C n2 (d2 := 1) (kc2 := 0) (ks2 := 0) (by decide) (Nat.le_refl _) (Nat.le_refl _) (Nat.le_of_ble_eq_true rfl) dX13_init_1 (Ct.mono (F) ?_)
  rintro r3 h4 ⟨e5, F⟩
  have F := F e5
  have B7 := BX_call B (Int.le_refl _) e5
  refine v_aload_n C 0 rfl rfl dX13_init_4 ?_
  refine v_aload_n C 1 rfl rfl dX13_init_5 ?_
  obtain ⟨o9, F⟩ := F
  refine pX13_7 C rfl o9 (okI_r rfl rfl) dX13_init_6 ?_
  obtain ⟨h10, eh10⟩ : ∃ m : Mem, m = up h4 x0 0 x1 := ⟨_, rfl⟩
  have B11 : BX x0 h0 h10 := by rw [eh10]; exact BX_up B7 o9 (by decide) (Int.le_refl _) (by decide) (okI_r rfl rfl)
  refine v_mem eh10 ?_
  have F := F h10 eh10
  refine v_aload_n C 0 rfl rfl dX13_init_9 ?_
  refine v_iload_n C 2 rfl rfl dX13_init_10 ?_
  refine pX13_13 C rfl (ck_up eh10 (by decide) o9) (okI_i rfl R2) dX13_init_11 ?_
  obtain ⟨h13, eh13⟩ : ∃ m : Mem, m = up h10 x0 2 x2 := ⟨_, rfl⟩
  have B14 : BX x0 h0 h13 := by rw [eh13]; exact BX_up B11 (ck_up eh10 (by decide) o9) (by decide) (Int.le_refl _) (by decide) (okI_i rfl R2)
  refine v_mem eh13 ?_
  have F := F h13 eh13
  refine v_aload_n C 0 rfl rfl dX13_init_14 ?_
  refine v_aload_n C 3 rfl rfl dX13_init_15 ?_
  refine pX13_17 C rfl (ck_up eh13 (by decide) (ck_up eh10 (by decide) o9)) (okI_r rfl rfl) dX13_init_16 ?_
  obtain ⟨h16, eh16⟩ : ∃ m : Mem, m = up h13 x0 1 x3 := ⟨_, rfl⟩
  have B17 : BX x0 h0 h16 := by rw [eh16]; exact BX_up B14 (ck_up eh13 (by decide) (ck_up eh10 (by decide) o9)) (by decide) (Int.le_refl _) (by decide) (okI_r rfl rfl)
  refine v_mem eh16 ?_
  have F := F h16 eh16
  exact v_vret C (Nat.le_refl _) (Nat.le_refl _) dX13_init_19 ⟨B17, F⟩
set_option maxHeartbeats 1000000 in
theorem eX13_init {G : GT} {l : Launch} {x0 x1 x2 x3 : Int} {h : Mem} {P : Int → Mem → Prop} (F : ∀ X : MX, Cx G X cX13_init 4 RX13 2 0 0 none "<init>" → X.2.1 = l → (BX x0 h h ∧ R32 x2) →
    h x0 (-1) = 12 ∧ kX11_init G X.2.1 x0 h (fun _ h4 => BX x0 h h4 → h4 x0 (-1) = 12 ∧ ∀ h10 : Mem, h10 = up h4 x0 0 x1 → ∀ h13 : Mem, h13 = up h10 x0 2 x2 → ∀ h16 : Mem, h16 = up h13 x0 1 x3 → P 0 h16)) :
    kX13_init G l x0 x1 x2 x3 h P := by
  intro R2
  refine ct_of (by decide +kernel) (Nat.le_of_ble_eq_true rfl) fun X C e => ?_
  refine v_okz fun O => ?_
  exact wX13_init_0 C ⟨BX.rf O, R2⟩ (F X C e ⟨BX.rf O, R2⟩)
set_option maxHeartbeats 4000000 in
theorem wX6_init_0 {G : GT} {X : MX} {h0 h : Mem} {P : Int → Mem → Prop} {x0 : Int} (C : Cx G X cX6_init 1 RX6 1 0 0 none "<init>") (B0 : BX x0 h0 h)
    (F : h x0 (-1) = 7 ∧ P 0 h) :
    V G X 1 0 0 (QF G X 3 0 0 (PN x0 h0 P)) 0 [(0, rf x0)] [] h := by
  have B := B0
  refine v_aload_n C 0 rfl rfl dX6_init_0 ?_
  obtain ⟨o1, F⟩ := F
  have n2 : x0 ≠ 0 := by have z := (B.1.2.1 x0 (by rw [o1]; decide)).1; omega
  refine v_objInit C q702 q161 q162 n2 (by decide) (Nat.le_of_ble_eq_true rfl) dX6_init_1 ?_
  exact v_vret C (Nat.le_refl _) (Nat.le_refl _) dX6_init_4 ⟨B, F⟩
set_option maxHeartbeats 1000000 in
theorem eX6_init {G : GT} {l : Launch} {x0 : Int} {h : Mem} {P : Int → Mem → Prop} (F : ∀ X : MX, Cx G X cX6_init 1 RX6 1 0 0 none "<init>" → X.2.1 = l → (BX x0 h h) →
    h x0 (-1) = 7 ∧ P 0 h) :
    kX6_init G l x0 h P := by
  refine ct_of (by decide +kernel) (Nat.le_of_ble_eq_true rfl) fun X C e => ?_
  refine v_okz fun O => ?_
  exact wX6_init_0 C (BX.rf O) (F X C e (BX.rf O))
set_option maxHeartbeats 4000000 in
theorem wX5_init_0 {G : GT} {X : MX} {h0 h : Mem} {P : Int → Mem → Prop} {kc ks uc us : Nat} {x0 : Int} (C : Cx G X cX5_init 1 RX5 1 kc ks none "<init>") (B0 : BX x0 h0 h)
    (F : h x0 (-1) = 6 ∧ 0 + 1 ≤ kc ∧ 0 + 12 ≤ ks ∧ ∀ h5 : Mem, h5 = alloc h 109 12 → ∀ a6 : Int, a6 = h 0 0 → ∀ h9 : Mem, h9 = up h5 x0 0 a6 → P 0 h9) :
    V G X 1 0 0 (QF G X 3 kc ks (PN x0 h0 P)) 0 [(0, rf x0)] [] h := by
  have B := B0
  refine v_aload_n C 0 rfl rfl dX5_init_0 ?_
  obtain ⟨o1, F⟩ := F
  have n2 : x0 ≠ 0 := by have z := (B.1.2.1 x0 (by rw [o1]; decide)).1; omega
  refine v_objInit C q681 q161 q162 n2 (by decide) (Nat.le_of_ble_eq_true rfl) dX5_init_1 ?_
  refine v_aload_n C 0 rfl rfl dX5_init_4 ?_
  refine v_bipush C rfl dX5_init_5 ?_
  obtain ⟨o3, o4, F⟩ := F
  refine v_anew C 12 8 (by decide) rfl q683 q682 (by decide) o3 o4 dX5_init_7 ?_
  obtain ⟨h5, eh5⟩ : ∃ m : Mem, m = alloc h 109 12 := ⟨_, rfl⟩
  obtain ⟨a6, ea6⟩ : ∃ z : Int, z = h 0 0 := ⟨_, rfl⟩
  have La6 : x0 ≤ a6 := by have z := (B.1.2.1 x0 (by rw [o1]; decide)).2; rw [ea6]; omega
  have Na6 : a6 ≠ 0 := by have z := B.1.2.2.1; rw [ea6]; omega
  have B7 : BX x0 h0 h5 := by rw [eh5]; exact BX_alloc B (by decide) (by decide) (by decide) (by decide)
  refine v_mem eh5 ?_
  refine v_topi ea6.symm ?_
  have F := F h5 eh5 a6 ea6
  refine pX5_11 C rfl (ck_al eh5 B.1 (by decide) o1) (okI_r rfl rfl) dX5_init_10 ?_
  obtain ⟨h9, eh9⟩ : ∃ m : Mem, m = up h5 x0 0 a6 := ⟨_, rfl⟩
  have B10 : BX x0 h0 h9 := by rw [eh9]; exact BX_up B7 (ck_al eh5 B.1 (by decide) o1) (by decide) (Int.le_refl _) (by decide) (okI_r rfl rfl)
  refine v_mem eh9 ?_
  have F := F h9 eh9
  exact v_vret C o3 o4 dX5_init_13 ⟨B10, F⟩
set_option maxHeartbeats 1000000 in
theorem eX5_init {G : GT} {l : Launch} {kc ks : Nat} {x0 : Int} {h : Mem} {P : Int → Mem → Prop} (F : ∀ X : MX, Cx G X cX5_init 1 RX5 1 kc ks none "<init>" → X.2.1 = l → (BX x0 h h) →
    h x0 (-1) = 6 ∧ 0 + 1 ≤ kc ∧ 0 + 12 ≤ ks ∧ ∀ h5 : Mem, h5 = alloc h 109 12 → ∀ a6 : Int, a6 = h 0 0 → ∀ h9 : Mem, h9 = up h5 x0 0 a6 → P 0 h9) :
    kX5_init G l kc ks x0 h P := by
  refine ct_of (by decide +kernel) (Nat.le_of_ble_eq_true rfl) fun X C e => ?_
  refine v_okz fun O => ?_
  exact wX5_init_0 (uc := 0) (us := 0) C (BX.rf O) (F X C e (BX.rf O))
set_option maxHeartbeats 4000000 in
theorem wX1_init_0 {G : GT} {X : MX} {h0 h : Mem} {P : Int → Mem → Prop} {kc ks uc us : Nat} {x0 : Int} (C : Cx G X cX1_init 1 RX1 1 kc ks none "<init>") (B0 : BX x0 h0 h)
    (F : h x0 (-1) = 2 ∧ 0 + 1 ≤ kc ∧ 0 + 4 ≤ ks ∧ ∀ h5 : Mem, h5 = alloc h 101 4 → ∀ a6 : Int, a6 = h 0 0 → ∀ h9 : Mem, h9 = up h5 x0 13 a6 → 0 + 1 + 1 ≤ kc ∧ 0 + 4 + 4 ≤ ks ∧ ∀ h14 : Mem, h14 = alloc h9 101 4 → ∀ a15 : Int, a15 = h9 0 0 → ∀ h18 : Mem, h18 = up h14 x0 14 a15 → 0 + 1 + 1 + 1 ≤ kc ∧ 0 + 4 + 4 + 4 ≤ ks ∧ ∀ h23 : Mem, h23 = alloc h18 101 4 → ∀ a24 : Int, a24 = h18 0 0 → ∀ h27 : Mem, h27 = up h23 x0 15 a24 → 0 + 1 + 1 + 1 + 1 ≤ kc ∧ 0 + 4 + 4 + 4 + 16 ≤ ks ∧ ∀ h32 : Mem, h32 = alloc h27 101 16 → ∀ a33 : Int, a33 = h27 0 0 → ∀ h36 : Mem, h36 = up h32 x0 16 a33 → 0 + 1 + 1 + 1 + 1 + 1 ≤ kc ∧ 0 + 4 + 4 + 4 + 16 + 4 ≤ ks ∧ ∀ h41 : Mem, h41 = alloc h36 101 4 → ∀ a42 : Int, a42 = h36 0 0 → ∀ h45 : Mem, h45 = up h41 x0 17 a42 → 0 + 1 + 1 + 1 + 1 + 1 + 1 ≤ kc ∧ 0 + 4 + 4 + 4 + 16 + 4 + 4 ≤ ks ∧ ∀ h50 : Mem, h50 = alloc h45 101 4 → ∀ a51 : Int, a51 = h45 0 0 → ∀ h54 : Mem, h54 = up h50 x0 18 a51 → 0 + 1 + 1 + 1 + 1 + 1 + 1 + 1 ≤ kc ∧ 0 + 4 + 4 + 4 + 16 + 4 + 4 + 16 ≤ ks ∧ ∀ h59 : Mem, h59 = alloc h54 101 16 → ∀ a60 : Int, a60 = h54 0 0 → ∀ h63 : Mem, h63 = up h59 x0 19 a60 → 0 + 1 + 1 + 1 + 1 + 1 + 1 + 1 + 1 ≤ kc ∧ 0 + 4 + 4 + 4 + 16 + 4 + 4 + 16 + 80 ≤ ks ∧ ∀ h68 : Mem, h68 = alloc h63 101 80 → ∀ a69 : Int, a69 = h63 0 0 → ∀ h72 : Mem, h72 = up h68 x0 20 a69 → 0 + 1 + 1 + 1 + 1 + 1 + 1 + 1 + 1 + 1 ≤ kc ∧ 0 + 4 + 4 + 4 + 16 + 4 + 4 + 16 + 80 + 10 ≤ ks ∧ ∀ h77 : Mem, h77 = alloc h72 101 10 → ∀ a78 : Int, a78 = h72 0 0 → ∀ h81 : Mem, h81 = up h77 x0 21 a78 → 0 + 1 + 1 + 1 + 1 + 1 + 1 + 1 + 1 + 1 + 1 ≤ kc ∧ 0 + 4 + 4 + 4 + 16 + 4 + 4 + 16 + 80 + 10 + 30 ≤ ks ∧ ∀ h86 : Mem, h86 = alloc h81 101 30 → ∀ a87 : Int, a87 = h81 0 0 → ∀ h90 : Mem, h90 = up h86 x0 22 a87 → 0 + 1 + 1 + 1 + 1 + 1 + 1 + 1 + 1 + 1 + 1 + 1 ≤ kc ∧ 0 + 4 + 4 + 4 + 16 + 4 + 4 + 16 + 80 + 10 + 30 + 16 ≤ ks ∧ ∀ h95 : Mem, h95 = alloc h90 101 16 → ∀ a96 : Int, a96 = h90 0 0 → ∀ h99 : Mem, h99 = up h95 x0 23 a96 → 0 + 1 + 1 + 1 + 1 + 1 + 1 + 1 + 1 + 1 + 1 + 1 + 1 ≤ kc ∧ 0 + 4 + 4 + 4 + 16 + 4 + 4 + 16 + 80 + 10 + 30 + 16 + 80 ≤ ks ∧ ∀ h104 : Mem, h104 = alloc h99 101 80 → ∀ a105 : Int, a105 = h99 0 0 → ∀ h108 : Mem, h108 = up h104 x0 24 a105 → 0 + 1 + 1 + 1 + 1 + 1 + 1 + 1 + 1 + 1 + 1 + 1 + 1 + 1 ≤ kc ∧ 0 + 4 + 4 + 4 + 16 + 4 + 4 + 16 + 80 + 10 + 30 + 16 + 80 + 80 ≤ ks ∧ ∀ h113 : Mem, h113 = alloc h108 101 80 → ∀ a114 : Int, a114 = h108 0 0 → ∀ h117 : Mem, h117 = up h113 x0 25 a114 → 0 + 1 + 1 + 1 + 1 + 1 + 1 + 1 + 1 + 1 + 1 + 1 + 1 + 1 + 1 ≤ kc ∧ 0 + 4 + 4 + 4 + 16 + 4 + 4 + 16 + 80 + 10 + 30 + 16 + 80 + 80 + 4 ≤ ks ∧ ∀ h122 : Mem, h122 = alloc h117 101 4 → ∀ a123 : Int, a123 = h117 0 0 → ∀ h126 : Mem, h126 = up h122 x0 26 a123 → 0 + 1 + 1 + 1 + 1 + 1 + 1 + 1 + 1 + 1 + 1 + 1 + 1 + 1 + 1 + 1 ≤ kc ∧ 0 + 4 + 4 + 4 + 16 + 4 + 4 + 16 + 80 + 10 + 30 + 16 + 80 + 80 + 4 + 3640 ≤ ks ∧ ∀ h131 : Mem, h131 = alloc h126 101 3640 → ∀ a132 : Int, a132 = h126 0 0 → ∀ h135 : Mem, h135 = up h131 x0 27 a132 → 0 + 1 + 1 + 1 + 1 + 1 + 1 + 1 + 1 + 1 + 1 + 1 + 1 + 1 + 1 + 1 + 1 ≤ kc ∧ 0 + 4 + 4 + 4 + 16 + 4 + 4 + 16 + 80 + 10 + 30 + 16 + 80 + 80 + 4 + 3640 + 13 ≤ ks ∧ ∀ h140 : Mem, h140 = alloc h135 104 13 → ∀ a141 : Int, a141 = h135 0 0 → ∀ h144 : Mem, h144 = up h140 x0 28 a141 → 0 + 1 + 1 + 1 + 1 + 1 + 1 + 1 + 1 + 1 + 1 + 1 + 1 + 1 + 1 + 1 + 1 + 1 ≤ kc ∧ 0 + 4 + 4 + 4 + 16 + 4 + 4 + 16 + 80 + 10 + 30 + 16 + 80 + 80 + 4 + 3640 + 13 + 4 ≤ ks ∧ ∀ h149 : Mem, h149 = alloc h144 101 4 → ∀ a150 : Int, a150 = h144 0 0 → ∀ h153 : Mem, h153 = up h149 x0 29 a150 → P 0 h153) :
    V G X 1 0 0 (QF G X 3 kc ks (PN x0 h0 P)) 0 [(0, rf x0)] [] h := by
  have B := B0
  refine v_aload_n C 0 rfl rfl dX1_init_0 ?_
  obtain ⟨o1, F⟩ := F
  have n2 : x0 ≠ 0 := by have z := (B.1.2.1 x0 (by rw [o1]; decide)).1; omega
  refine v_objInit C q168 q161 q162 n2 (by decide) (Nat.le_of_ble_eq_true rfl) dX1_init_1 ?_
  refine v_aload_n C 0 rfl rfl dX1_init_4 ?_
  refine v_iconst C dX1_init_5 ?_
  obtain ⟨o3, o4, F⟩ := F
  refine v_newaI C 4 q300 (by decide) o3 o4 dX1_init_6 ?_
  obtain ⟨h5, eh5⟩ : ∃ m : Mem, m = alloc h 101 4 := ⟨_, rfl⟩
  obtain ⟨a6, ea6⟩ : ∃ z : Int, z = h 0 0 := ⟨_, rfl⟩
  have La6 : x0 ≤ a6 := by have z := (B.1.2.1 x0 (by rw [o1]; decide)).2; rw [ea6]; omega
  have Na6 : a6 ≠ 0 := by have z := B.1.2.2.1; rw [ea6]; omega
  have B7 : BX x0 h0 h5 := by rw [eh5]; exact BX_alloc B (by decide) (by decide) (by decide) (by decide)
  refine v_mem eh5 ?_
  refine v_topi ea6.symm ?_
  have F := F h5 eh5 a6 ea6
  refine pX1_9 C rfl (ck_al eh5 B.1 (by decide) o1) (okI_r rfl rfl) dX1_init_8 ?_
  obtain ⟨h9, eh9⟩ : ∃ m : Mem, m = up h5 x0 13 a6 := ⟨_, rfl⟩
  have B10 : BX x0 h0 h9 := by rw [eh9]; exact BX_up B7 (ck_al eh5 B.1 (by decide) o1) (by decide) (Int.le_refl _) (by decide) (okI_r rfl rfl)
  refine v_mem eh9 ?_
  have F := F h9 eh9
  refine v_aload_n C 0 rfl rfl dX1_init_11 ?_
  refine v_iconst C dX1_init_12 ?_
  obtain ⟨o12, o13, F⟩ := F
  refine v_newaI C 4 q300 (by decide) o12 o13 dX1_init_13 ?_
  obtain ⟨h14, eh14⟩ : ∃ m : Mem, m = alloc h9 101 4 := ⟨_, rfl⟩
  obtain ⟨a15, ea15⟩ : ∃ z : Int, z = h9 0 0 := ⟨_, rfl⟩
  have La15 : x0 ≤ a15 := by have z := (B10.1.2.1 x0 (by rw [(ck_up eh9 (by decide) (ck_al eh5 B.1 (by decide) o1))]; decide)).2; rw [ea15]; omega
  have Na15 : a15 ≠ 0 := by have z := B10.1.2.2.1; rw [ea15]; omega
  have B16 : BX x0 h0 h14 := by rw [eh14]; exact BX_alloc B10 (by decide) (by decide) (by decide) (by decide)
  refine v_mem eh14 ?_
  refine v_topi ea15.symm ?_
  have F := F h14 eh14 a15 ea15
  refine pX1_15 C rfl (ck_al eh14 B10.1 (by decide) (ck_up eh9 (by decide) (ck_al eh5 B.1 (by decide) o1))) (okI_r rfl rfl) dX1_init_15 ?_
  obtain ⟨h18, eh18⟩ : ∃ m : Mem, m = up h14 x0 14 a15 := ⟨_, rfl⟩
  have B19 : BX x0 h0 h18 := by rw [eh18]; exact BX_up B16 (ck_al eh14 B10.1 (by decide) (ck_up eh9 (by decide) (ck_al eh5 B.1 (by decide) o1))) (by decide) (Int.le_refl _) (by decide) (okI_r rfl rfl)
  refine v_mem eh18 ?_
  have F := F h18 eh18
  refine v_aload_n C 0 rfl rfl dX1_init_18 ?_
  refine v_iconst C dX1_init_19 ?_
  obtain ⟨o21, o22, F⟩ := F
  refine v_newaI C 4 q300 (by decide) o21 o22 dX1_init_20 ?_
  obtain ⟨h23, eh23⟩ : ∃ m : Mem, m = alloc h18 101 4 := ⟨_, rfl⟩
  obtain ⟨a24, ea24⟩ : ∃ z : Int, z = h18 0 0 := ⟨_, rfl⟩
  have La24 : x0 ≤ a24 := by have z := (B19.1.2.1 x0 (by rw [(ck_up eh18 (by decide) (ck_al eh14 B10.1 (by decide) (ck_up eh9 (by decide) (ck_al eh5 B.1 (by decide) o1))))]; decide)).2; rw [ea24]; omega
  have Na24 : a24 ≠ 0 := by have z := B19.1.2.2.1; rw [ea24]; omega
  have B25 : BX x0 h0 h23 := by rw [eh23]; exact BX_alloc B19 (by decide) (by decide) (by decide) (by decide)
  refine v_mem eh23 ?_
  refine v_topi ea24.symm ?_
  have F := F h23 eh23 a24 ea24
  refine pX1_18 C rfl (ck_al eh23 B19.1 (by decide) (ck_up eh18 (by decide) (ck_al eh14 B10.1 (by decide) (ck_up eh9 (by decide) (ck_al eh5 B.1 (by decide) o1))))) (okI_r rfl rfl) dX1_init_22 ?_
  obtain ⟨h27, eh27⟩ : ∃ m : Mem, m = up h23 x0 15 a24 := ⟨_, rfl⟩
  have B28 : BX x0 h0 h27 := by rw [eh27]; exact BX_up B25 (ck_al eh23 B19.1 (by decide) (ck_up eh18 (by decide) (ck_al eh14 B10.1 (by decide) (ck_up eh9 (by decide) (ck_al eh5 B.1 (by decide) o1))))) (by decide) (Int.le_refl _) (by decide) (okI_r rfl rfl)
  refine v_mem eh27 ?_
  have F := F h27 eh27
  refine v_aload_n C 0 rfl rfl dX1_init_25 ?_
  refine v_bipush C rfl dX1_init_26 ?_
  obtain ⟨o30, o31, F⟩ := F
  refine v_newaI C 16 q300 (by decide) o30 o31 dX1_init_28 ?_
  obtain ⟨h32, eh32⟩ : ∃ m : Mem, m = alloc h27 101 16 := ⟨_, rfl⟩
  obtain ⟨a33, ea33⟩ : ∃ z : Int, z = h27 0 0 := ⟨_, rfl⟩
  have La33 : x0 ≤ a33 := by have z := (B28.1.2.1 x0 (by rw [(ck_up eh27 (by decide) (ck_al eh23 B19.1 (by decide) (ck_up eh18 (by decide) (ck_al eh14 B10.1 (by decide) (ck_up eh9 (by decide) (ck_al eh5 B.1 (by decide) o1))))))]; decide)).2; rw [ea33]; omega
  have Na33 : a33 ≠ 0 := by have z := B28.1.2.2.1; rw [ea33]; omega
  have B34 : BX x0 h0 h32 := by rw [eh32]; exact BX_alloc B28 (by decide) (by decide) (by decide) (by decide)
  refine v_mem eh32 ?_
  refine v_topi ea33.symm ?_
  have F := F h32 eh32 a33 ea33
  refine pX1_21 C rfl (ck_al eh32 B28.1 (by decide) (ck_up eh27 (by decide) (ck_al eh23 B19.1 (by decide) (ck_up eh18 (by decide) (ck_al eh14 B10.1 (by decide) (ck_up eh9 (by decide) (ck_al eh5 B.1 (by decide) o1))))))) (okI_r rfl rfl) dX1_init_30 ?_
  obtain ⟨h36, eh36⟩ : ∃ m : Mem, m = up h32 x0 16 a33 := ⟨_, rfl⟩
  have B37 : BX x0 h0 h36 := by rw [eh36]; exact BX_up B34 (ck_al eh32 B28.1 (by decide) (ck_up eh27 (by decide) (ck_al eh23 B19.1 (by decide) (ck_up eh18 (by decide) (ck_al eh14 B10.1 (by decide) (ck_up eh9 (by decide) (ck_al eh5 B.1 (by decide) o1))))))) (by decide) (Int.le_refl _) (by decide) (okI_r rfl rfl)
  refine v_mem eh36 ?_
  have F := F h36 eh36
  refine v_aload_n C 0 rfl rfl dX1_init_33 ?_
  refine v_iconst C dX1_init_34 ?_
  obtain ⟨o39, o40, F⟩ := F
  refine v_newaI C 4 q300 (by decide) o39 o40 dX1_init_35 ?_
  obtain ⟨h41, eh41⟩ : ∃ m : Mem, m = alloc h36 101 4 := ⟨_, rfl⟩
  obtain ⟨a42, ea42⟩ : ∃ z : Int, z = h36 0 0 := ⟨_, rfl⟩
  have La42 : x0 ≤ a42 := by have z := (B37.1.2.1 x0 (by rw [(ck_up eh36 (by decide) (ck_al eh32 B28.1 (by decide) (ck_up eh27 (by decide) (ck_al eh23 B19.1 (by decide) (ck_up eh18 (by decide) (ck_al eh14 B10.1 (by decide) (ck_up eh9 (by decide) (ck_al eh5 B.1 (by decide) o1))))))))]; decide)).2; rw [ea42]; omega
  have Na42 : a42 ≠ 0 := by have z := B37.1.2.2.1; rw [ea42]; omega
  have B43 : BX x0 h0 h41 := by rw [eh41]; exact BX_alloc B37 (by decide) (by decide) (by decide) (by decide)
  refine v_mem eh41 ?_
  refine v_topi ea42.symm ?_
  have F := F h41 eh41 a42 ea42
  refine pX1_24 C rfl (ck_al eh41 B37.1 (by decide) (ck_up eh36 (by decide) (ck_al eh32 B28.1 (by decide) (ck_up eh27 (by decide) (ck_al eh23 B19.1 (by decide) (ck_up eh18 (by decide) (ck_al eh14 B10.1 (by decide) (ck_up eh9 (by decide) (ck_al eh5 B.1 (by decide) o1))))))))) (okI_r rfl rfl) dX1_init_37 ?_
  obtain ⟨h45, eh45⟩ : ∃ m : Mem, m = up h41 x0 17 a42 := ⟨_, rfl⟩
  have B46 : BX x0 h0 h45 := by rw [eh45]; exact BX_up B43 (ck_al eh41 B37.1 (by decide) (ck_up eh36 (by decide) (ck_al eh32 B28.1 (by decide) (ck_up eh27 (by decide) (ck_al eh23 B19.1 (by decide) (ck_up eh18 (by decide) (ck_al eh14 B10.1 (by decide) (ck_up eh9 (by decide) (ck_al eh5 B.1 (by decide) o1))))))))) (by decide) (Int.le_refl _) (by decide) (okI_r rfl rfl)
  refine v_mem eh45 ?_
  have F := F h45 eh45
  refine v_aload_n C 0 rfl rfl dX1_init_40 ?_
  refine v_iconst C dX1_init_41 ?_
  obtain ⟨o48, o49, F⟩ := F
  refine v_newaI C 4 q300 (by decide) o48 o49 dX1_init_42 ?_
  obtain ⟨h50, eh50⟩ : ∃ m : Mem, m = alloc h45 101 4 := ⟨_, rfl⟩
  obtain ⟨a51, ea51⟩ : ∃ z : Int, z = h45 0 0 := ⟨_, rfl⟩
  have La51 : x0 ≤ a51 := by have z := (B46.1.2.1 x0 (by rw [(ck_up eh45 (by decide) (ck_al eh41 B37.1 (by decide) (ck_up eh36 (by decide) (ck_al eh32 B28.1 (by decide) (ck_up eh27 (by decide) (ck_al eh23 B19.1 (by decide) (ck_up eh18 (by decide) (ck_al eh14 B10.1 (by decide) (ck_up eh9 (by decide) (ck_al eh5 B.1 (by decide) o1))))))))))]; decide)).2; rw [ea51]; omega
  have Na51 : a51 ≠ 0 := by have z := B46.1.2.2.1; rw [ea51]; omega
  have B52 : BX x0 h0 h50 := by rw [eh50]; exact BX_alloc B46 (by decide) (by decide) (by decide) (by decide)
  refine v_mem eh50 ?_
  refine v_topi ea51.symm ?_
  have F := F h50 eh50 a51 ea51
  refine pX1_27 C rfl (ck_al eh50 B46.1 (by decide) (ck_up eh45 (by decide) (ck_al eh41 B37.1 (by decide) (ck_up eh36 (by decide) (ck_al eh32 B28.1 (by decide) (ck_up eh27 (by decide) (ck_al eh23 B19.1 (by decide) (ck_up eh18 (by decide) (ck_al eh14 B10.1 (by decide) (ck_up eh9 (by decide) (ck_al eh5 B.1 (by decide) o1))))))))))) (okI_r rfl rfl) dX1_init_44 ?_
  obtain ⟨h54, eh54⟩ : ∃ m : Mem, m = up h50 x0 18 a51 := ⟨_, rfl⟩
  have B55 : BX x0 h0 h54 := by rw [eh54]; exact BX_up B52 (ck_al eh50 B46.1 (by decide) (ck_up eh45 (by decide) (ck_al eh41 B37.1 (by decide) (ck_up eh36 (by decide) (ck_al eh32 B28.1 (by decide) (ck_up eh27 (by decide) (ck_al eh23 B19.1 (by decide) (ck_up eh18 (by decide) (ck_al eh14 B10.1 (by decide) (ck_up eh9 (by decide) (ck_al eh5 B.1 (by decide) o1))))))))))) (by decide) (Int.le_refl _) (by decide) (okI_r rfl rfl)
  refine v_mem eh54 ?_
  have F := F h54 eh54
  refine v_aload_n C 0 rfl rfl dX1_init_47 ?_
  refine v_bipush C rfl dX1_init_48 ?_
  obtain ⟨o57, o58, F⟩ := F
  refine v_newaI C 16 q300 (by decide) o57 o58 dX1_init_50 ?_
  obtain ⟨h59, eh59⟩ : ∃ m : Mem, m = alloc h54 101 16 := ⟨_, rfl⟩
  obtain ⟨a60, ea60⟩ : ∃ z : Int, z = h54 0 0 := ⟨_, rfl⟩
  have La60 : x0 ≤ a60 := by have z := (B55.1.2.1 x0 (by rw [(ck_up eh54 (by decide) (ck_al eh50 B46.1 (by decide) (ck_up eh45 (by decide) (ck_al eh41 B37.1 (by decide) (ck_up eh36 (by decide) (ck_al eh32 B28.1 (by decide) (ck_up eh27 (by decide) (ck_al eh23 B19.1 (by decide) (ck_up eh18 (by decide) (ck_al eh14 B10.1 (by decide) (ck_up eh9 (by decide) (ck_al eh5 B.1 (by decide) o1))))))))))))]; decide)).2; rw [ea60]; omega
  have Na60 : a60 ≠ 0 := by have z := B55.1.2.2.1; rw [ea60]; omega
  have B61 : BX x0 h0 h59 := by rw [eh59]; exact BX_alloc B55 (by decide) (by decide) (by decide) (by decide)
  refine v_mem eh59 ?_
  refine v_topi ea60.symm ?_
  have F := F h59 eh59 a60 ea60
  refine pX1_30 C rfl (ck_al eh59 B55.1 (by decide) (ck_up eh54 (by decide) (ck_al eh50 B46.1 (by decide) (ck_up eh45 (by decide) (ck_al eh41 B37.1 (by decide) (ck_up eh36 (by decide) (ck_al eh32 B28.1 (by decide) (ck_up eh27 (by decide) (ck_al eh23 B19.1 (by decide) (ck_up eh18 (by decide) (ck_al eh14 B10.1 (by decide) (ck_up eh9 (by decide) (ck_al eh5 B.1 (by decide) o1))))))))))))) (okI_r rfl rfl) dX1_init_52 ?_
  obtain ⟨h63, eh63⟩ : ∃ m : Mem, m = up h59 x0 19 a60 := ⟨_, rfl⟩
  have B64 : BX x0 h0 h63 := by rw [eh63]; exact BX_up B61 (ck_al eh59 B55.1 (by decide) (ck_up eh54 (by decide) (ck_al eh50 B46.1 (by decide) (ck_up eh45 (by decide) (ck_al eh41 B37.1 (by decide) (ck_up eh36 (by decide) (ck_al eh32 B28.1 (by decide) (ck_up eh27 (by decide) (ck_al eh23 B19.1 (by decide) (ck_up eh18 (by decide) (ck_al eh14 B10.1 (by decide) (ck_up eh9 (by decide) (ck_al eh5 B.1 (by decide) o1))))))))))))) (by decide) (Int.le_refl _) (by decide) (okI_r rfl rfl)
  refine v_mem eh63 ?_
  have F := F h63 eh63
  refine v_aload_n C 0 rfl rfl dX1_init_55 ?_
  refine v_bipush C rfl dX1_init_56 ?_
  obtain ⟨o66, o67, F⟩ := F
  refine v_newaI C 80 q300 (by decide) o66 o67 dX1_init_58 ?_
  obtain ⟨h68, eh68⟩ : ∃ m : Mem, m = alloc h63 101 80 := ⟨_, rfl⟩
  obtain ⟨a69, ea69⟩ : ∃ z : Int, z = h63 0 0 := ⟨_, rfl⟩
  have La69 : x0 ≤ a69 := by have z := (B64.1.2.1 x0 (by rw [(ck_up eh63 (by decide) (ck_al eh59 B55.1 (by decide) (ck_up eh54 (by decide) (ck_al eh50 B46.1 (by decide) (ck_up eh45 (by decide) (ck_al eh41 B37.1 (by decide) (ck_up eh36 (by decide) (ck_al eh32 B28.1 (by decide) (ck_up eh27 (by decide) (ck_al eh23 B19.1 (by decide) (ck_up eh18 (by decide) (ck_al eh14 B10.1 (by decide) (ck_up eh9 (by decide) (ck_al eh5 B.1 (by decide) o1))))))))))))))]; decide)).2; rw [ea69]; omega
  have Na69 : a69 ≠ 0 := by have z := B64.1.2.2.1; rw [ea69]; omega
  have B70 : BX x0 h0 h68 := by rw [eh68]; exact BX_alloc B64 (by decide) (by decide) (by decide) (by decide)
  refine v_mem eh68 ?_
  refine v_topi ea69.symm ?_
  have F := F h68 eh68 a69 ea69
  refine pX1_33 C rfl (ck_al eh68 B64.1 (by decide) (ck_up eh63 (by decide) (ck_al eh59 B55.1 (by decide) (ck_up eh54 (by decide) (ck_al eh50 B46.1 (by decide) (ck_up eh45 (by decide) (ck_al eh41 B37.1 (by decide) (ck_up eh36 (by decide) (ck_al eh32 B28.1 (by decide) (ck_up eh27 (by decide) (ck_al eh23 B19.1 (by decide) (ck_up eh18 (by decide) (ck_al eh14 B10.1 (by decide) (ck_up eh9 (by decide) (ck_al eh5 B.1 (by decide) o1))))))))))))))) (okI_r rfl rfl) dX1_init_60 ?_
  obtain ⟨h72, eh72⟩ : ∃ m : Mem, m = up h68 x0 20 a69 := ⟨_, rfl⟩
  have B73 : BX x0 h0 h72 := by rw [eh72]; exact BX_up B70 (ck_al eh68 B64.1 (by decide) (ck_up eh63 (by decide) (ck_al eh59 B55.1 (by decide) (ck_up eh54 (by decide) (ck_al eh50 B46.1 (by decide) (ck_up eh45 (by decide) (ck_al eh41 B37.1 (by decide) (ck_up eh36 (by decide) (ck_al eh32 B28.1 (by decide) (ck_up eh27 (by decide) (ck_al eh23 B19.1 (by decide) (ck_up eh18 (by decide) (ck_al eh14 B10.1 (by decide) (ck_up eh9 (by decide) (ck_al eh5 B.1 (by decide) o1))))))))))))))) (by decide) (Int.le_refl _) (by decide) (okI_r rfl rfl)
  refine v_mem eh72 ?_
  have F := F h72 eh72
  refine v_aload_n C 0 rfl rfl dX1_init_63 ?_
  refine v_bipush C rfl dX1_init_64 ?_
  obtain ⟨o75, o76, F⟩ := F
  refine v_newaI C 10 q300 (by decide) o75 o76 dX1_init_66 ?_
  obtain ⟨h77, eh77⟩ : ∃ m : Mem, m = alloc h72 101 10 := ⟨_, rfl⟩
  obtain ⟨a78, ea78⟩ : ∃ z : Int, z = h72 0 0 := ⟨_, rfl⟩
  have La78 : x0 ≤ a78 := by have z := (B73.1.2.1 x0 (by rw [(ck_up eh72 (by decide) (ck_al eh68 B64.1 (by decide) (ck_up eh63 (by decide) (ck_al eh59 B55.1 (by decide) (ck_up eh54 (by decide) (ck_al eh50 B46.1 (by decide) (ck_up eh45 (by decide) (ck_al eh41 B37.1 (by decide) (ck_up eh36 (by decide) (ck_al eh32 B28.1 (by decide) (ck_up eh27 (by decide) (ck_al eh23 B19.1 (by decide) (ck_up eh18 (by decide) (ck_al eh14 B10.1 (by decide) (ck_up eh9 (by decide) (ck_al eh5 B.1 (by decide) o1))))))))))))))))]; decide)).2; rw [ea78]; omega
  have Na78 : a78 ≠ 0 := by have z := B73.1.2.2.1; rw [ea78]; omega
  have B79 : BX x0 h0 h77 := by rw [eh77]; exact BX_alloc B73 (by decide) (by decide) (by decide) (by decide)
  refine v_mem eh77 ?_
  refine v_topi ea78.symm ?_
  have F := F h77 eh77 a78 ea78
  refine pX1_36 C rfl (ck_al eh77 B73.1 (by decide) (ck_up eh72 (by decide) (ck_al eh68 B64.1 (by decide) (ck_up eh63 (by decide) (ck_al eh59 B55.1 (by decide) (ck_up eh54 (by decide) (ck_al eh50 B46.1 (by decide) (ck_up eh45 (by decide) (ck_al eh41 B37.1 (by decide) (ck_up eh36 (by decide) (ck_al eh32 B28.1 (by decide) (ck_up eh27 (by decide) (ck_al eh23 B19.1 (by decide) (ck_up eh18 (by decide) (ck_al eh14 B10.1 (by decide) (ck_up eh9 (by decide) (ck_al eh5 B.1 (by decide) o1))))))))))))))))) (okI_r rfl rfl) dX1_init_68 ?_
  obtain ⟨h81, eh81⟩ : ∃ m : Mem, m = up h77 x0 21 a78 := ⟨_, rfl⟩
  have B82 : BX x0 h0 h81 := by rw [eh81]; exact BX_up B79 (ck_al eh77 B73.1 (by decide) (ck_up eh72 (by decide) (ck_al eh68 B64.1 (by decide) (ck_up eh63 (by decide) (ck_al eh59 B55.1 (by decide) (ck_up eh54 (by decide) (ck_al eh50 B46.1 (by decide) (ck_up eh45 (by decide) (ck_al eh41 B37.1 (by decide) (ck_up eh36 (by decide) (ck_al eh32 B28.1 (by decide) (ck_up eh27 (by decide) (ck_al eh23 B19.1 (by decide) (ck_up eh18 (by decide) (ck_al eh14 B10.1 (by decide) (ck_up eh9 (by decide) (ck_al eh5 B.1 (by decide) o1))))))))))))))))) (by decide) (Int.le_refl _) (by decide) (okI_r rfl rfl)
  refine v_mem eh81 ?_
  have F := F h81 eh81
  refine v_aload_n C 0 rfl rfl dX1_init_71 ?_
  refine v_bipush C rfl dX1_init_72 ?_
  obtain ⟨o84, o85, F⟩ := F
  refine v_newaI C 30 q300 (by decide) o84 o85 dX1_init_74 ?_
  obtain ⟨h86, eh86⟩ : ∃ m : Mem, m = alloc h81 101 30 := ⟨_, rfl⟩
  obtain ⟨a87, ea87⟩ : ∃ z : Int, z = h81 0 0 := ⟨_, rfl⟩
  have La87 : x0 ≤ a87 := by have z := (B82.1.2.1 x0 (by rw [(ck_up eh81 (by decide) (ck_al eh77 B73.1 (by decide) (ck_up eh72 (by decide) (ck_al eh68 B64.1 (by decide) (ck_up eh63 (by decide) (ck_al eh59 B55.1 (by decide) (ck_up eh54 (by decide) (ck_al eh50 B46.1 (by decide) (ck_up eh45 (by decide) (ck_al eh41 B37.1 (by decide) (ck_up eh36 (by decide) (ck_al eh32 B28.1 (by decide) (ck_up eh27 (by decide) (ck_al eh23 B19.1 (by decide) (ck_up eh18 (by decide) (ck_al eh14 B10.1 (by decide) (ck_up eh9 (by decide) (ck_al eh5 B.1 (by decide) o1))))))))))))))))))]; decide)).2; rw [ea87]; omega
  have Na87 : a87 ≠ 0 := by have z := B82.1.2.2.1; rw [ea87]; omega
  have B88 : BX x0 h0 h86 := by rw [eh86]; exact BX_alloc B82 (by decide) (by decide) (by decide) (by decide)
  refine v_mem eh86 ?_
  refine v_topi ea87.symm ?_
  have F := F h86 eh86 a87 ea87
  refine pX1_39 C rfl (ck_al eh86 B82.1 (by decide) (ck_up eh81 (by decide) (ck_al eh77 B73.1 (by decide) (ck_up eh72 (by decide) (ck_al eh68 B64.1 (by decide) (ck_up eh63 (by decide) (ck_al eh59 B55.1 (by decide) (ck_up eh54 (by decide) (ck_al eh50 B46.1 (by decide) (ck_up eh45 (by decide) (ck_al eh41 B37.1 (by decide) (ck_up eh36 (by decide) (ck_al eh32 B28.1 (by decide) (ck_up eh27 (by decide) (ck_al eh23 B19.1 (by decide) (ck_up eh18 (by decide) (ck_al eh14 B10.1 (by decide) (ck_up eh9 (by decide) (ck_al eh5 B.1 (by decide) o1))))))))))))))))))) (okI_r rfl rfl) dX1_init_76 ?_
  obtain ⟨h90, eh90⟩ : ∃ m : Mem, m = up h86 x0 22 a87 := ⟨_, rfl⟩
  have B91 : BX x0 h0 h90 := by rw [eh90]; exact BX_up B88 (ck_al eh86 B82.1 (by decide) (ck_up eh81 (by decide) (ck_al eh77 B73.1 (by decide) (ck_up eh72 (by decide) (ck_al eh68 B64.1 (by decide) (ck_up eh63 (by decide) (ck_al eh59 B55.1 (by decide) (ck_up eh54 (by decide) (ck_al eh50 B46.1 (by decide) (ck_up eh45 (by decide) (ck_al eh41 B37.1 (by decide) (ck_up eh36 (by decide) (ck_al eh32 B28.1 (by decide) (ck_up eh27 (by decide) (ck_al eh23 B19.1 (by decide) (ck_up eh18 (by decide) (ck_al eh14 B10.1 (by decide) (ck_up eh9 (by decide) (ck_al eh5 B.1 (by decide) o1))))))))))))))))))) (by decide) (Int.le_refl _) (by decide) (okI_r rfl rfl)
  refine v_mem eh90 ?_
  have F := F h90 eh90
  refine v_aload_n C 0 rfl rfl dX1_init_79 ?_
  refine v_bipush C rfl dX1_init_80 ?_
  obtain ⟨o93, o94, F⟩ := F
  refine v_newaI C 16 q300 (by decide) o93 o94 dX1_init_82 ?_
  obtain ⟨h95, eh95⟩ : ∃ m : Mem, m = alloc h90 101 16 := ⟨_, rfl⟩
  obtain ⟨a96, ea96⟩ : ∃ z : Int, z = h90 0 0 := ⟨_, rfl⟩
  have La96 : x0 ≤ a96 := by have z := (B91.1.2.1 x0 (by rw [(ck_up eh90 (by decide) (ck_al eh86 B82.1 (by decide) (ck_up eh81 (by decide) (ck_al eh77 B73.1 (by decide) (ck_up eh72 (by decide) (ck_al eh68 B64.1 (by decide) (ck_up eh63 (by decide) (ck_al eh59 B55.1 (by decide) (ck_up eh54 (by decide) (ck_al eh50 B46.1 (by decide) (ck_up eh45 (by decide) (ck_al eh41 B37.1 (by decide) (ck_up eh36 (by decide) (ck_al eh32 B28.1 (by decide) (ck_up eh27 (by decide) (ck_al eh23 B19.1 (by decide) (ck_up eh18 (by decide) (ck_al eh14 B10.1 (by decide) (ck_up eh9 (by decide) (ck_al eh5 B.1 (by decide) o1))))))))))))))))))))]; decide)).2; rw [ea96]; omega
  have Na96 : a96 ≠ 0 := by have z := B91.1.2.2.1; rw [ea96]; omega
  have B97 : BX x0 h0 h95 := by rw [eh95]; exact BX_alloc B91 (by decide) (by decide) (by decide) (by decide)
  refine v_mem eh95 ?_
  refine v_topi ea96.symm ?_
  have F := F h95 eh95 a96 ea96
  refine pX1_42 C rfl (ck_al eh95 B91.1 (by decide) (ck_up eh90 (by decide) (ck_al eh86 B82.1 (by decide) (ck_up eh81 (by decide) (ck_al eh77 B73.1 (by decide) (ck_up eh72 (by decide) (ck_al eh68 B64.1 (by decide) (ck_up eh63 (by decide) (ck_al eh59 B55.1 (by decide) (ck_up eh54 (by decide) (ck_al eh50 B46.1 (by decide) (ck_up eh45 (by decide) (ck_al eh41 B37.1 (by decide) (ck_up eh36 (by decide) (ck_al eh32 B28.1 (by decide) (ck_up eh27 (by decide) (ck_al eh23 B19.1 (by decide) (ck_up eh18 (by decide) (ck_al eh14 B10.1 (by decide) (ck_up eh9 (by decide) (ck_al eh5 B.1 (by decide) o1))))))))))))))))))))) (okI_r rfl rfl) dX1_init_84 ?_
  obtain ⟨h99, eh99⟩ : ∃ m : Mem, m = up h95 x0 23 a96 := ⟨_, rfl⟩
  have B100 : BX x0 h0 h99 := by rw [eh99]; exact BX_up B97 (ck_al eh95 B91.1 (by decide) (ck_up eh90 (by decide) (ck_al eh86 B82.1 (by decide) (ck_up eh81 (by decide) (ck_al eh77 B73.1 (by decide) (ck_up eh72 (by decide) (ck_al eh68 B64.1 (by decide) (ck_up eh63 (by decide) (ck_al eh59 B55.1 (by decide) (ck_up eh54 (by decide) (ck_al eh50 B46.1 (by decide) (ck_up eh45 (by decide) (ck_al eh41 B37.1 (by decide) (ck_up eh36 (by decide) (ck_al eh32 B28.1 (by decide) (ck_up eh27 (by decide) (ck_al eh23 B19.1 (by decide) (ck_up eh18 (by decide) (ck_al eh14 B10.1 (by decide) (ck_up eh9 (by decide) (ck_al eh5 B.1 (by decide) o1))))))))))))))))))))) (by decide) (Int.le_refl _) (by decide) (okI_r rfl rfl)
  refine v_mem eh99 ?_
  have F := F h99 eh99
  refine v_aload_n C 0 rfl rfl dX1_init_87 ?_
  refine v_bipush C rfl dX1_init_88 ?_
  obtain ⟨o102, o103, F⟩ := F
  refine v_newaI C 80 q300 (by decide) o102 o103 dX1_init_90 ?_
  obtain ⟨h104, eh104⟩ : ∃ m : Mem, m = alloc h99 101 80 := ⟨_, rfl⟩
  obtain ⟨a105, ea105⟩ : ∃ z : Int, z = h99 0 0 := ⟨_, rfl⟩
  have La105 : x0 ≤ a105 := by have z := (B100.1.2.1 x0 (by rw [(ck_up eh99 (by decide) (ck_al eh95 B91.1 (by decide) (ck_up eh90 (by decide) (ck_al eh86 B82.1 (by decide) (ck_up eh81 (by decide) (ck_al eh77 B73.1 (by decide) (ck_up eh72 (by decide) (ck_al eh68 B64.1 (by decide) (ck_up eh63 (by decide) (ck_al eh59 B55.1 (by decide) (ck_up eh54 (by decide) (ck_al eh50 B46.1 (by decide) (ck_up eh45 (by decide) (ck_al eh41 B37.1 (by decide) (ck_up eh36 (by decide) (ck_al eh32 B28.1 (by decide) (ck_up eh27 (by decide) (ck_al eh23 B19.1 (by decide) (ck_up eh18 (by decide) (ck_al eh14 B10.1 (by decide) (ck_up eh9 (by decide) (ck_al eh5 B.1 (by decide) o1))))))))))))))))))))))]; decide)).2; rw [ea105]; omega
  have Na105 : a105 ≠ 0 := by have z := B100.1.2.2.1; rw [ea105]; omega
  have B106 : BX x0 h0 h104 := by rw [eh104]; exact BX_alloc B100 (by decide) (by decide) (by decide) (by decide)
  refine v_mem eh104 ?_
  refine v_topi ea105.symm ?_
  have F := F h104 eh104 a105 ea105
  refine pX1_45 C rfl (ck_al eh104 B100.1 (by decide) (ck_up eh99 (by decide) (ck_al eh95 B91.1 (by decide) (ck_up eh90 (by decide) (ck_al eh86 B82.1 (by decide) (ck_up eh81 (by decide) (ck_al eh77 B73.1 (by decide) (ck_up eh72 (by decide) (ck_al eh68 B64.1 (by decide) (ck_up eh63 (by decide) (ck_al eh59 B55.1 (by decide) (ck_up eh54 (by decide) (ck_al eh50 B46.1 (by decide) (ck_up eh45 (by decide) (ck_al eh41 B37.1 (by decide) (ck_up eh36 (by decide) (ck_al eh32 B28.1 (by decide) (ck_up eh27 (by decide) (ck_al eh23 B19.1 (by decide) (ck_up eh18 (by decide) (ck_al eh14 B10.1 (by decide) (ck_up eh9 (by decide) (ck_al eh5 B.1 (by decide) o1))))))))))))))))))))))) (okI_r rfl rfl) dX1_init_92 ?_
  obtain ⟨h108, eh108⟩ : ∃ m : Mem, m = up h104 x0 24 a105 := ⟨_, rfl⟩
  have B109 : BX x0 h0 h108 := by rw [eh108]; exact BX_up B106 (ck_al eh104 B100.1 (by decide) (ck_up eh99 (by decide) (ck_al eh95 B91.1 (by decide) (ck_up eh90 (by decide) (ck_al eh86 B82.1 (by decide) (ck_up eh81 (by decide) (ck_al eh77 B73.1 (by decide) (ck_up eh72 (by decide) (ck_al eh68 B64.1 (by decide) (ck_up eh63 (by decide) (ck_al eh59 B55.1 (by decide) (ck_up eh54 (by decide) (ck_al eh50 B46.1 (by decide) (ck_up eh45 (by decide) (ck_al eh41 B37.1 (by decide) (ck_up eh36 (by decide) (ck_al eh32 B28.1 (by decide) (ck_up eh27 (by decide) (ck_al eh23 B19.1 (by decide) (ck_up eh18 (by decide) (ck_al eh14 B10.1 (by decide) (ck_up eh9 (by decide) (ck_al eh5 B.1 (by decide) o1))))))))))))))))))))))) (by decide) (Int.le_refl _) (by decide) (okI_r rfl rfl)
  refine v_mem eh108 ?_
  have F := F h108 eh108
  refine v_aload_n C 0 rfl rfl dX1_init_95 ?_
  refine v_bipush C rfl dX1_init_96 ?_
  obtain ⟨o111, o112, F⟩ := F
  refine v_newaI C 80 q300 (by decide) o111 o112 dX1_init_98 ?_
  obtain ⟨h113, eh113⟩ : ∃ m : Mem, m = alloc h108 101 80 := ⟨_, rfl⟩
  obtain ⟨a114, ea114⟩ : ∃ z : Int, z = h108 0 0 := ⟨_, rfl⟩
  have La114 : x0 ≤ a114 := by have z := (B109.1.2.1 x0 (by rw [(ck_up eh108 (by decide) (ck_al eh104 B100.1 (by decide) (ck_up eh99 (by decide) (ck_al eh95 B91.1 (by decide) (ck_up eh90 (by decide) (ck_al eh86 B82.1 (by decide) (ck_up eh81 (by decide) (ck_al eh77 B73.1 (by decide) (ck_up eh72 (by decide) (ck_al eh68 B64.1 (by decide) (ck_up eh63 (by decide) (ck_al eh59 B55.1 (by decide) (ck_up eh54 (by decide) (ck_al eh50 B46.1 (by decide) (ck_up eh45 (by decide) (ck_al eh41 B37.1 (by decide) (ck_up eh36 (by decide) (ck_al eh32 B28.1 (by decide) (ck_up eh27 (by decide) (ck_al eh23 B19.1 (by decide) (ck_up eh18 (by decide) (ck_al eh14 B10.1 (by decide) (ck_up eh9 (by decide) (ck_al eh5 B.1 (by decide) o1))))))))))))))))))))))))]; decide)).2; rw [ea114]; omega
  have Na114 : a114 ≠ 0 := by have z := B109.1.2.2.1; rw [ea114]; omega
  have B115 : BX x0 h0 h113 := by rw [eh113]; exact BX_alloc B109 (by decide) (by decide) (by decide) (by decide)
  refine v_mem eh113 ?_
  refine v_topi ea114.symm ?_
  have F := F h113 eh113 a114 ea114
  refine pX1_48 C rfl (ck_al eh113 B109.1 (by decide) (ck_up eh108 (by decide) (ck_al eh104 B100.1 (by decide) (ck_up eh99 (by decide) (ck_al eh95 B91.1 (by decide) (ck_up eh90 (by decide) (ck_al eh86 B82.1 (by decide) (ck_up eh81 (by decide) (ck_al eh77 B73.1 (by decide) (ck_up eh72 (by decide) (ck_al eh68 B64.1 (by decide) (ck_up eh63 (by decide) (ck_al eh59 B55.1 (by decide) (ck_up eh54 (by decide) (ck_al eh50 B46.1 (by decide) (ck_up eh45 (by decide) (ck_al eh41 B37.1 (by decide) (ck_up eh36 (by decide) (ck_al eh32 B28.1 (by decide) (ck_up eh27 (by decide) (ck_al eh23 B19.1 (by decide) (ck_up eh18 (by decide) (ck_al eh14 B10.1 (by decide) (ck_up eh9 (by decide) (ck_al eh5 B.1 (by decide) o1))))))))))))))))))))))))) (okI_r rfl rfl) dX1_init_100 ?_
  obtain ⟨h117, eh117⟩ : ∃ m : Mem, m = up h113 x0 25 a114 := ⟨_, rfl⟩
  have B118 : BX x0 h0 h117 := by rw [eh117]; exact BX_up B115 (ck_al eh113 B109.1 (by decide) (ck_up eh108 (by decide) (ck_al eh104 B100.1 (by decide) (ck_up eh99 (by decide) (ck_al eh95 B91.1 (by decide) (ck_up eh90 (by decide) (ck_al eh86 B82.1 (by decide) (ck_up eh81 (by decide) (ck_al eh77 B73.1 (by decide) (ck_up eh72 (by decide) (ck_al eh68 B64.1 (by decide) (ck_up eh63 (by decide) (ck_al eh59 B55.1 (by decide) (ck_up eh54 (by decide) (ck_al eh50 B46.1 (by decide) (ck_up eh45 (by decide) (ck_al eh41 B37.1 (by decide) (ck_up eh36 (by decide) (ck_al eh32 B28.1 (by decide) (ck_up eh27 (by decide) (ck_al eh23 B19.1 (by decide) (ck_up eh18 (by decide) (ck_al eh14 B10.1 (by decide) (ck_up eh9 (by decide) (ck_al eh5 B.1 (by decide) o1))))))))))))))))))))))))) (by decide) (Int.le_refl _) (by decide) (okI_r rfl rfl)
  refine v_mem eh117 ?_
  have F := F h117 eh117
  refine v_aload_n C 0 rfl rfl dX1_init_103 ?_
  refine v_iconst C dX1_init_104 ?_
  obtain ⟨o120, o121, F⟩ := F
  refine v_newaI C 4 q300 (by decide) o120 o121 dX1_init_105 ?_
  obtain ⟨h122, eh122⟩ : ∃ m : Mem, m = alloc h117 101 4 := ⟨_, rfl⟩
  obtain ⟨a123, ea123⟩ : ∃ z : Int, z = h117 0 0 := ⟨_, rfl⟩
  have La123 : x0 ≤ a123 := by have z := (B118.1.2.1 x0 (by rw [(ck_up eh117 (by decide) (ck_al eh113 B109.1 (by decide) (ck_up eh108 (by decide) (ck_al eh104 B100.1 (by decide) (ck_up eh99 (by decide) (ck_al eh95 B91.1 (by decide) (ck_up eh90 (by decide) (ck_al eh86 B82.1 (by decide) (ck_up eh81 (by decide) (ck_al eh77 B73.1 (by decide) (ck_up eh72 (by decide) (ck_al eh68 B64.1 (by decide) (ck_up eh63 (by decide) (ck_al eh59 B55.1 (by decide) (ck_up eh54 (by decide) (ck_al eh50 B46.1 (by decide) (ck_up eh45 (by decide) (ck_al eh41 B37.1 (by decide) (ck_up eh36 (by decide) (ck_al eh32 B28.1 (by decide) (ck_up eh27 (by decide) (ck_al eh23 B19.1 (by decide) (ck_up eh18 (by decide) (ck_al eh14 B10.1 (by decide) (ck_up eh9 (by decide) (ck_al eh5 B.1 (by decide) o1))))))))))))))))))))))))))]; decide)).2; rw [ea123]; omega
  have Na123 : a123 ≠ 0 := by have z := B118.1.2.2.1; rw [ea123]; omega
  have B124 : BX x0 h0 h122 := by rw [eh122]; exact BX_alloc B118 (by decide) (by decide) (by decide) (by decide)
  refine v_mem eh122 ?_
  refine v_topi ea123.symm ?_
  have F := F h122 eh122 a123 ea123
  refine pX1_51 C rfl (ck_al eh122 B118.1 (by decide) (ck_up eh117 (by decide) (ck_al eh113 B109.1 (by decide) (ck_up eh108 (by decide) (ck_al eh104 B100.1 (by decide) (ck_up eh99 (by decide) (ck_al eh95 B91.1 (by decide) (ck_up eh90 (by decide) (ck_al eh86 B82.1 (by decide) (ck_up eh81 (by decide) (ck_al eh77 B73.1 (by decide) (ck_up eh72 (by decide) (ck_al eh68 B64.1 (by decide) (ck_up eh63 (by decide) (ck_al eh59 B55.1 (by decide) (ck_up eh54 (by decide) (ck_al eh50 B46.1 (by decide) (ck_up eh45 (by decide) (ck_al eh41 B37.1 (by decide) (ck_up eh36 (by decide) (ck_al eh32 B28.1 (by decide) (ck_up eh27 (by decide) (ck_al eh23 B19.1 (by decide) (ck_up eh18 (by decide) (ck_al eh14 B10.1 (by decide) (ck_up eh9 (by decide) (ck_al eh5 B.1 (by decide) o1))))))))))))))))))))))))))) (okI_r rfl rfl) dX1_init_107 ?_
  obtain ⟨h126, eh126⟩ : ∃ m : Mem, m = up h122 x0 26 a123 := ⟨_, rfl⟩
  have B127 : BX x0 h0 h126 := by rw [eh126]; exact BX_up B124 (ck_al eh122 B118.1 (by decide) (ck_up eh117 (by decide) (ck_al eh113 B109.1 (by decide) (ck_up eh108 (by decide) (ck_al eh104 B100.1 (by decide) (ck_up eh99 (by decide) (ck_al eh95 B91.1 (by decide) (ck_up eh90 (by decide) (ck_al eh86 B82.1 (by decide) (ck_up eh81 (by decide) (ck_al eh77 B73.1 (by decide) (ck_up eh72 (by decide) (ck_al eh68 B64.1 (by decide) (ck_up eh63 (by decide) (ck_al eh59 B55.1 (by decide) (ck_up eh54 (by decide) (ck_al eh50 B46.1 (by decide) (ck_up eh45 (by decide) (ck_al eh41 B37.1 (by decide) (ck_up eh36 (by decide) (ck_al eh32 B28.1 (by decide) (ck_up eh27 (by decide) (ck_al eh23 B19.1 (by decide) (ck_up eh18 (by decide) (ck_al eh14 B10.1 (by decide) (ck_up eh9 (by decide) (ck_al eh5 B.1 (by decide) o1))))))))))))))))))))))))))) (by decide) (Int.le_refl _) (by decide) (okI_r rfl rfl)
  refine v_mem eh126 ?_
  have F := F h126 eh126
  refine v_aload_n C 0 rfl rfl dX1_init_110 ?_
  refine v_sipush C rfl dX1_init_111 ?_
  obtain ⟨o129, o130, F⟩ := F
  refine v_newaI C 3640 q300 (by decide) o129 o130 dX1_init_114 ?_
  obtain ⟨h131, eh131⟩ : ∃ m : Mem, m = alloc h126 101 3640 := ⟨_, rfl⟩
  obtain ⟨a132, ea132⟩ : ∃ z : Int, z = h126 0 0 := ⟨_, rfl⟩
  have La132 : x0 ≤ a132 := by have z := (B127.1.2.1 x0 (by rw [(ck_up eh126 (by decide) (ck_al eh122 B118.1 (by decide) (ck_up eh117 (by decide) (ck_al eh113 B109.1 (by decide) (ck_up eh108 (by decide) (ck_al eh104 B100.1 (by decide) (ck_up eh99 (by decide) (ck_al eh95 B91.1 (by decide) (ck_up eh90 (by decide) (ck_al eh86 B82.1 (by decide) (ck_up eh81 (by decide) (ck_al eh77 B73.1 (by decide) (ck_up eh72 (by decide) (ck_al eh68 B64.1 (by decide) (ck_up eh63 (by decide) (ck_al eh59 B55.1 (by decide) (ck_up eh54 (by decide) (ck_al eh50 B46.1 (by decide) (ck_up eh45 (by decide) (ck_al eh41 B37.1 (by decide) (ck_up eh36 (by decide) (ck_al eh32 B28.1 (by decide) (ck_up eh27 (by decide) (ck_al eh23 B19.1 (by decide) (ck_up eh18 (by decide) (ck_al eh14 B10.1 (by decide) (ck_up eh9 (by decide) (ck_al eh5 B.1 (by decide) o1))))))))))))))))))))))))))))]; decide)).2; rw [ea132]; omega
  have Na132 : a132 ≠ 0 := by have z := B127.1.2.2.1; rw [ea132]; omega
  have B133 : BX x0 h0 h131 := by rw [eh131]; exact BX_alloc B127 (by decide) (by decide) (by decide) (by decide)
  refine v_mem eh131 ?_
  refine v_topi ea132.symm ?_
  have F := F h131 eh131 a132 ea132
  refine pX1_54 C rfl (ck_al eh131 B127.1 (by decide) (ck_up eh126 (by decide) (ck_al eh122 B118.1 (by decide) (ck_up eh117 (by decide) (ck_al eh113 B109.1 (by decide) (ck_up eh108 (by decide) (ck_al eh104 B100.1 (by decide) (ck_up eh99 (by decide) (ck_al eh95 B91.1 (by decide) (ck_up eh90 (by decide) (ck_al eh86 B82.1 (by decide) (ck_up eh81 (by decide) (ck_al eh77 B73.1 (by decide) (ck_up eh72 (by decide) (ck_al eh68 B64.1 (by decide) (ck_up eh63 (by decide) (ck_al eh59 B55.1 (by decide) (ck_up eh54 (by decide) (ck_al eh50 B46.1 (by decide) (ck_up eh45 (by decide) (ck_al eh41 B37.1 (by decide) (ck_up eh36 (by decide) (ck_al eh32 B28.1 (by decide) (ck_up eh27 (by decide) (ck_al eh23 B19.1 (by decide) (ck_up eh18 (by decide) (ck_al eh14 B10.1 (by decide) (ck_up eh9 (by decide) (ck_al eh5 B.1 (by decide) o1))))))))))))))))))))))))))))) (okI_r rfl rfl) dX1_init_116 ?_
  obtain ⟨h135, eh135⟩ : ∃ m : Mem, m = up h131 x0 27 a132 := ⟨_, rfl⟩
  have B136 : BX x0 h0 h135 := by rw [eh135]; exact BX_up B133 (ck_al eh131 B127.1 (by decide) (ck_up eh126 (by decide) (ck_al eh122 B118.1 (by decide) (ck_up eh117 (by decide) (ck_al eh113 B109.1 (by decide) (ck_up eh108 (by decide) (ck_al eh104 B100.1 (by decide) (ck_up eh99 (by decide) (ck_al eh95 B91.1 (by decide) (ck_up eh90 (by decide) (ck_al eh86 B82.1 (by decide) (ck_up eh81 (by decide) (ck_al eh77 B73.1 (by decide) (ck_up eh72 (by decide) (ck_al eh68 B64.1 (by decide) (ck_up eh63 (by decide) (ck_al eh59 B55.1 (by decide) (ck_up eh54 (by decide) (ck_al eh50 B46.1 (by decide) (ck_up eh45 (by decide) (ck_al eh41 B37.1 (by decide) (ck_up eh36 (by decide) (ck_al eh32 B28.1 (by decide) (ck_up eh27 (by decide) (ck_al eh23 B19.1 (by decide) (ck_up eh18 (by decide) (ck_al eh14 B10.1 (by decide) (ck_up eh9 (by decide) (ck_al eh5 B.1 (by decide) o1))))))))))))))))))))))))))))) (by decide) (Int.le_refl _) (by decide) (okI_r rfl rfl)
  refine v_mem eh135 ?_
  have F := F h135 eh135
  refine v_aload_n C 0 rfl rfl dX1_init_119 ?_
  refine v_bipush C rfl dX1_init_120 ?_
  obtain ⟨o138, o139, F⟩ := F
  refine v_newaJ C 13 q301 (by decide) o138 o139 dX1_init_122 ?_
  obtain ⟨h140, eh140⟩ : ∃ m : Mem, m = alloc h135 104 13 := ⟨_, rfl⟩
  obtain ⟨a141, ea141⟩ : ∃ z : Int, z = h135 0 0 := ⟨_, rfl⟩
  have La141 : x0 ≤ a141 := by have z := (B136.1.2.1 x0 (by rw [(ck_up eh135 (by decide) (ck_al eh131 B127.1 (by decide) (ck_up eh126 (by decide) (ck_al eh122 B118.1 (by decide) (ck_up eh117 (by decide) (ck_al eh113 B109.1 (by decide) (ck_up eh108 (by decide) (ck_al eh104 B100.1 (by decide) (ck_up eh99 (by decide) (ck_al eh95 B91.1 (by decide) (ck_up eh90 (by decide) (ck_al eh86 B82.1 (by decide) (ck_up eh81 (by decide) (ck_al eh77 B73.1 (by decide) (ck_up eh72 (by decide) (ck_al eh68 B64.1 (by decide) (ck_up eh63 (by decide) (ck_al eh59 B55.1 (by decide) (ck_up eh54 (by decide) (ck_al eh50 B46.1 (by decide) (ck_up eh45 (by decide) (ck_al eh41 B37.1 (by decide) (ck_up eh36 (by decide) (ck_al eh32 B28.1 (by decide) (ck_up eh27 (by decide) (ck_al eh23 B19.1 (by decide) (ck_up eh18 (by decide) (ck_al eh14 B10.1 (by decide) (ck_up eh9 (by decide) (ck_al eh5 B.1 (by decide) o1))))))))))))))))))))))))))))))]; decide)).2; rw [ea141]; omega
  have Na141 : a141 ≠ 0 := by have z := B136.1.2.2.1; rw [ea141]; omega
  have B142 : BX x0 h0 h140 := by rw [eh140]; exact BX_alloc B136 (by decide) (by decide) (by decide) (by decide)
  refine v_mem eh140 ?_
  refine v_topi ea141.symm ?_
  have F := F h140 eh140 a141 ea141
  refine pX1_57 C rfl (ck_al eh140 B136.1 (by decide) (ck_up eh135 (by decide) (ck_al eh131 B127.1 (by decide) (ck_up eh126 (by decide) (ck_al eh122 B118.1 (by decide) (ck_up eh117 (by decide) (ck_al eh113 B109.1 (by decide) (ck_up eh108 (by decide) (ck_al eh104 B100.1 (by decide) (ck_up eh99 (by decide) (ck_al eh95 B91.1 (by decide) (ck_up eh90 (by decide) (ck_al eh86 B82.1 (by decide) (ck_up eh81 (by decide) (ck_al eh77 B73.1 (by decide) (ck_up eh72 (by decide) (ck_al eh68 B64.1 (by decide) (ck_up eh63 (by decide) (ck_al eh59 B55.1 (by decide) (ck_up eh54 (by decide) (ck_al eh50 B46.1 (by decide) (ck_up eh45 (by decide) (ck_al eh41 B37.1 (by decide) (ck_up eh36 (by decide) (ck_al eh32 B28.1 (by decide) (ck_up eh27 (by decide) (ck_al eh23 B19.1 (by decide) (ck_up eh18 (by decide) (ck_al eh14 B10.1 (by decide) (ck_up eh9 (by decide) (ck_al eh5 B.1 (by decide) o1))))))))))))))))))))))))))))))) (okI_r rfl rfl) dX1_init_124 ?_
  obtain ⟨h144, eh144⟩ : ∃ m : Mem, m = up h140 x0 28 a141 := ⟨_, rfl⟩
  have B145 : BX x0 h0 h144 := by rw [eh144]; exact BX_up B142 (ck_al eh140 B136.1 (by decide) (ck_up eh135 (by decide) (ck_al eh131 B127.1 (by decide) (ck_up eh126 (by decide) (ck_al eh122 B118.1 (by decide) (ck_up eh117 (by decide) (ck_al eh113 B109.1 (by decide) (ck_up eh108 (by decide) (ck_al eh104 B100.1 (by decide) (ck_up eh99 (by decide) (ck_al eh95 B91.1 (by decide) (ck_up eh90 (by decide) (ck_al eh86 B82.1 (by decide) (ck_up eh81 (by decide) (ck_al eh77 B73.1 (by decide) (ck_up eh72 (by decide) (ck_al eh68 B64.1 (by decide) (ck_up eh63 (by decide) (ck_al eh59 B55.1 (by decide) (ck_up eh54 (by decide) (ck_al eh50 B46.1 (by decide) (ck_up eh45 (by decide) (ck_al eh41 B37.1 (by decide) (ck_up eh36 (by decide) (ck_al eh32 B28.1 (by decide) (ck_up eh27 (by decide) (ck_al eh23 B19.1 (by decide) (ck_up eh18 (by decide) (ck_al eh14 B10.1 (by decide) (ck_up eh9 (by decide) (ck_al eh5 B.1 (by decide) o1))))))))))))))))))))))))))))))) (by decide) (Int.le_refl _) (by decide) (okI_r rfl rfl)
  refine v_mem eh144 ?_
  have F := F h144 eh144
  refine v_aload_n C 0 rfl rfl dX1_init_127 ?_
  refine v_iconst C dX1_init_128 ?_
  obtain ⟨o147, o148, F⟩ := F
  refine v_newaI C 4 q300 (by decide) o147 o148 dX1_init_129 ?_
  obtain ⟨h149, eh149⟩ : ∃ m : Mem, m = alloc h144 101 4 := ⟨_, rfl⟩
  obtain ⟨a150, ea150⟩ : ∃ z : Int, z = h144 0 0 := ⟨_, rfl⟩
  have La150 : x0 ≤ a150 := by have z := (B145.1.2.1 x0 (by rw [(ck_up eh144 (by decide) (ck_al eh140 B136.1 (by decide) (ck_up eh135 (by decide) (ck_al eh131 B127.1 (by decide) (ck_up eh126 (by decide) (ck_al eh122 B118.1 (by decide) (ck_up eh117 (by decide) (ck_al eh113 B109.1 (by decide) (ck_up eh108 (by decide) (ck_al eh104 B100.1 (by decide) (ck_up eh99 (by decide) (ck_al eh95 B91.1 (by decide) (ck_up eh90 (by decide) (ck_al eh86 B82.1 (by decide) (ck_up eh81 (by decide) (ck_al eh77 B73.1 (by decide) (ck_up eh72 (by decide) (ck_al eh68 B64.1 (by decide) (ck_up eh63 (by decide) (ck_al eh59 B55.1 (by decide) (ck_up eh54 (by decide) (ck_al eh50 B46.1 (by decide) (ck_up eh45 (by decide) (ck_al eh41 B37.1 (by decide) (ck_up eh36 (by decide) (ck_al eh32 B28.1 (by decide) (ck_up eh27 (by decide) (ck_al eh23 B19.1 (by decide) (ck_up eh18 (by decide) (ck_al eh14 B10.1 (by decide) (ck_up eh9 (by decide) (ck_al eh5 B.1 (by decide) o1))))))))))))))))))))))))))))))))]; decide)).2; rw [ea150]; omega
  have Na150 : a150 ≠ 0 := by have z := B145.1.2.2.1; rw [ea150]; omega
  have B151 : BX x0 h0 h149 := by rw [eh149]; exact BX_alloc B145 (by decide) (by decide) (by decide) (by decide)
  refine v_mem eh149 ?_
  refine v_topi ea150.symm ?_
  have F := F h149 eh149 a150 ea150
  refine pX1_61 C rfl (ck_al eh149 B145.1 (by decide) (ck_up eh144 (by decide) (ck_al eh140 B136.1 (by decide) (ck_up eh135 (by decide) (ck_al eh131 B127.1 (by decide) (ck_up eh126 (by decide) (ck_al eh122 B118.1 (by decide) (ck_up eh117 (by decide) (ck_al eh113 B109.1 (by decide) (ck_up eh108 (by decide) (ck_al eh104 B100.1 (by decide) (ck_up eh99 (by decide) (ck_al eh95 B91.1 (by decide) (ck_up eh90 (by decide) (ck_al eh86 B82.1 (by decide) (ck_up eh81 (by decide) (ck_al eh77 B73.1 (by decide) (ck_up eh72 (by decide) (ck_al eh68 B64.1 (by decide) (ck_up eh63 (by decide) (ck_al eh59 B55.1 (by decide) (ck_up eh54 (by decide) (ck_al eh50 B46.1 (by decide) (ck_up eh45 (by decide) (ck_al eh41 B37.1 (by decide) (ck_up eh36 (by decide) (ck_al eh32 B28.1 (by decide) (ck_up eh27 (by decide) (ck_al eh23 B19.1 (by decide) (ck_up eh18 (by decide) (ck_al eh14 B10.1 (by decide) (ck_up eh9 (by decide) (ck_al eh5 B.1 (by decide) o1))))))))))))))))))))))))))))))))) (okI_r rfl rfl) dX1_init_131 ?_
  obtain ⟨h153, eh153⟩ : ∃ m : Mem, m = up h149 x0 29 a150 := ⟨_, rfl⟩
  have B154 : BX x0 h0 h153 := by rw [eh153]; exact BX_up B151 (ck_al eh149 B145.1 (by decide) (ck_up eh144 (by decide) (ck_al eh140 B136.1 (by decide) (ck_up eh135 (by decide) (ck_al eh131 B127.1 (by decide) (ck_up eh126 (by decide) (ck_al eh122 B118.1 (by decide) (ck_up eh117 (by decide) (ck_al eh113 B109.1 (by decide) (ck_up eh108 (by decide) (ck_al eh104 B100.1 (by decide) (ck_up eh99 (by decide) (ck_al eh95 B91.1 (by decide) (ck_up eh90 (by decide) (ck_al eh86 B82.1 (by decide) (ck_up eh81 (by decide) (ck_al eh77 B73.1 (by decide) (ck_up eh72 (by decide) (ck_al eh68 B64.1 (by decide) (ck_up eh63 (by decide) (ck_al eh59 B55.1 (by decide) (ck_up eh54 (by decide) (ck_al eh50 B46.1 (by decide) (ck_up eh45 (by decide) (ck_al eh41 B37.1 (by decide) (ck_up eh36 (by decide) (ck_al eh32 B28.1 (by decide) (ck_up eh27 (by decide) (ck_al eh23 B19.1 (by decide) (ck_up eh18 (by decide) (ck_al eh14 B10.1 (by decide) (ck_up eh9 (by decide) (ck_al eh5 B.1 (by decide) o1))))))))))))))))))))))))))))))))) (by decide) (Int.le_refl _) (by decide) (okI_r rfl rfl)
  refine v_mem eh153 ?_
  have F := F h153 eh153
  exact v_vret C o147 o148 dX1_init_134 ⟨B154, F⟩
set_option maxHeartbeats 1000000 in
theorem eX1_init {G : GT} {l : Launch} {kc ks : Nat} {x0 : Int} {h : Mem} {P : Int → Mem → Prop} (F : ∀ X : MX, Cx G X cX1_init 1 RX1 1 kc ks none "<init>" → X.2.1 = l → (BX x0 h h) →
    h x0 (-1) = 2 ∧ 0 + 1 ≤ kc ∧ 0 + 4 ≤ ks ∧ ∀ h5 : Mem, h5 = alloc h 101 4 → ∀ a6 : Int, a6 = h 0 0 → ∀ h9 : Mem, h9 = up h5 x0 13 a6 → 0 + 1 + 1 ≤ kc ∧ 0 + 4 + 4 ≤ ks ∧ ∀ h14 : Mem, h14 = alloc h9 101 4 → ∀ a15 : Int, a15 = h9 0 0 → ∀ h18 : Mem, h18 = up h14 x0 14 a15 → 0 + 1 + 1 + 1 ≤ kc ∧ 0 + 4 + 4 + 4 ≤ ks ∧ ∀ h23 : Mem, h23 = alloc h18 101 4 → ∀ a24 : Int, a24 = h18 0 0 → ∀ h27 : Mem, h27 = up h23 x0 15 a24 → 0 + 1 + 1 + 1 + 1 ≤ kc ∧ 0 + 4 + 4 + 4 + 16 ≤ ks ∧ ∀ h32 : Mem, h32 = alloc h27 101 16 → ∀ a33 : Int, a33 = h27 0 0 → ∀ h36 : Mem, h36 = up h32 x0 16 a33 → 0 + 1 + 1 + 1 + 1 + 1 ≤ kc ∧ 0 + 4 + 4 + 4 + 16 + 4 ≤ ks ∧ ∀ h41 : Mem, h41 = alloc h36 101 4 → ∀ a42 : Int, a42 = h36 0 0 → ∀ h45 : Mem, h45 = up h41 x0 17 a42 → 0 + 1 + 1 + 1 + 1 + 1 + 1 ≤ kc ∧ 0 + 4 + 4 + 4 + 16 + 4 + 4 ≤ ks ∧ ∀ h50 : Mem, h50 = alloc h45 101 4 → ∀ a51 : Int, a51 = h45 0 0 → ∀ h54 : Mem, h54 = up h50 x0 18 a51 → 0 + 1 + 1 + 1 + 1 + 1 + 1 + 1 ≤ kc ∧ 0 + 4 + 4 + 4 + 16 + 4 + 4 + 16 ≤ ks ∧ ∀ h59 : Mem, h59 = alloc h54 101 16 → ∀ a60 : Int, a60 = h54 0 0 → ∀ h63 : Mem, h63 = up h59 x0 19 a60 → 0 + 1 + 1 + 1 + 1 + 1 + 1 + 1 + 1 ≤ kc ∧ 0 + 4 + 4 + 4 + 16 + 4 + 4 + 16 + 80 ≤ ks ∧ ∀ h68 : Mem, h68 = alloc h63 101 80 → ∀ a69 : Int, a69 = h63 0 0 → ∀ h72 : Mem, h72 = up h68 x0 20 a69 → 0 + 1 + 1 + 1 + 1 + 1 + 1 + 1 + 1 + 1 ≤ kc ∧ 0 + 4 + 4 + 4 + 16 + 4 + 4 + 16 + 80 + 10 ≤ ks ∧ ∀ h77 : Mem, h77 = alloc h72 101 10 → ∀ a78 : Int, a78 = h72 0 0 → ∀ h81 : Mem, h81 = up h77 x0 21 a78 → 0 + 1 + 1 + 1 + 1 + 1 + 1 + 1 + 1 + 1 + 1 ≤ kc ∧ 0 + 4 + 4 + 4 + 16 + 4 + 4 + 16 + 80 + 10 + 30 ≤ ks ∧ ∀ h86 : Mem, h86 = alloc h81 101 30 → ∀ a87 : Int, a87 = h81 0 0 → ∀ h90 : Mem, h90 = up h86 x0 22 a87 → 0 + 1 + 1 + 1 + 1 + 1 + 1 + 1 + 1 + 1 + 1 + 1 ≤ kc ∧ 0 + 4 + 4 + 4 + 16 + 4 + 4 + 16 + 80 + 10 + 30 + 16 ≤ ks ∧ ∀ h95 : Mem, h95 = alloc h90 101 16 → ∀ a96 : Int, a96 = h90 0 0 → ∀ h99 : Mem, h99 = up h95 x0 23 a96 → 0 + 1 + 1 + 1 + 1 + 1 + 1 + 1 + 1 + 1 + 1 + 1 + 1 ≤ kc ∧ 0 + 4 + 4 + 4 + 16 + 4 + 4 + 16 + 80 + 10 + 30 + 16 + 80 ≤ ks ∧ ∀ h104 : Mem, h104 = alloc h99 101 80 → ∀ a105 : Int, a105 = h99 0 0 → ∀ h108 : Mem, h108 = up h104 x0 24 a105 → 0 + 1 + 1 + 1 + 1 + 1 + 1 + 1 + 1 + 1 + 1 + 1 + 1 + 1 ≤ kc ∧ 0 + 4 + 4 + 4 + 16 + 4 + 4 + 16 + 80 + 10 + 30 + 16 + 80 + 80 ≤ ks ∧ ∀ h113 : Mem, h113 = alloc h108 101 80 → ∀ a114 : Int, a114 = h108 0 0 → ∀ h117 : Mem, h117 = up h113 x0 25 a114 → 0 + 1 + 1 + 1 + 1 + 1 + 1 + 1 + 1 + 1 + 1 + 1 + 1 + 1 + 1 ≤ kc ∧ 0 + 4 + 4 + 4 + 16 + 4 + 4 + 16 + 80 + 10 + 30 + 16 + 80 + 80 + 4 ≤ ks ∧ ∀ h122 : Mem, h122 = alloc h117 101 4 → ∀ a123 : Int, a123 = h117 0 0 → ∀ h126 : Mem, h126 = up h122 x0 26 a123 → 0 + 1 + 1 + 1 + 1 + 1 + 1 + 1 + 1 + 1 + 1 + 1 + 1 + 1 + 1 + 1 ≤ kc ∧ 0 + 4 + 4 + 4 + 16 + 4 + 4 + 16 + 80 + 10 + 30 + 16 + 80 + 80 + 4 + 3640 ≤ ks ∧ ∀ h131 : Mem, h131 = alloc h126 101 3640 → ∀ a132 : Int, a132 = h126 0 0 → ∀ h135 : Mem, h135 = up h131 x0 27 a132 → 0 + 1 + 1 + 1 + 1 + 1 + 1 + 1 + 1 + 1 + 1 + 1 + 1 + 1 + 1 + 1 + 1 ≤ kc ∧ 0 + 4 + 4 + 4 + 16 + 4 + 4 + 16 + 80 + 10 + 30 + 16 + 80 + 80 + 4 + 3640 + 13 ≤ ks ∧ ∀ h140 : Mem, h140 = alloc h135 104 13 → ∀ a141 : Int, a141 = h135 0 0 → ∀ h144 : Mem, h144 = up h140 x0 28 a141 → 0 + 1 + 1 + 1 + 1 + 1 + 1 + 1 + 1 + 1 + 1 + 1 + 1 + 1 + 1 + 1 + 1 + 1 ≤ kc ∧ 0 + 4 + 4 + 4 + 16 + 4 + 4 + 16 + 80 + 10 + 30 + 16 + 80 + 80 + 4 + 3640 + 13 + 4 ≤ ks ∧ ∀ h149 : Mem, h149 = alloc h144 101 4 → ∀ a150 : Int, a150 = h144 0 0 → ∀ h153 : Mem, h153 = up h149 x0 29 a150 → P 0 h153) :
    kX1_init G l kc ks x0 h P := by
  refine ct_of (by decide +kernel) (Nat.le_of_ble_eq_true rfl) fun X C e => ?_
  refine v_okz fun O => ?_
  exact wX1_init_0 (uc := 0) (us := 0) C (BX.rf O) (F X C e (BX.rf O))
set_option maxHeartbeats 4000000 in
theorem wX4_init_0 {G : GT} {X : MX} {h0 h : Mem} {P : Int → Mem → Prop} {x0 x1 : Int} (C : Cx G X cX4_init 2 RX4 1 0 0 none "<init>") (B0 : BX x0 h0 h)
    (F : h x0 (-1) = 5 ∧ ∀ h2 : Mem, h2 = up h x0 6 x1 → h2 x1 (-1) = 1 ∧ ∀ h7 : Mem, h7 = up h2 x0 0 (h x1 14) → ∀ h10 : Mem, h10 = up h7 x0 1 (h x1 4) → P 0 h10) :
    V G X 2 0 0 (QF G X 3 0 0 (PN x0 h0 P)) 0 [(0, rf x0), (1, rf x1)] [] h := by
  have B := B0
  refine v_aload_n C 0 rfl rfl dX4_init_0 ?_
  refine v_aload_n C 1 rfl rfl dX4_init_1 ?_
  obtain ⟨o1, F⟩ := F
  refine pX4_3 C rfl o1 (okI_r rfl rfl) dX4_init_2 ?_
  obtain ⟨h2, eh2⟩ : ∃ m : Mem, m = up h x0 6 x1 := ⟨_, rfl⟩
  have B3 : BX x0 h0 h2 := by rw [eh2]; exact BX_up B o1 (by decide) (Int.le_refl _) (by decide) (okI_r rfl rfl)
  refine v_mem eh2 ?_
  have F := F h2 eh2
  refine v_aload_n C 0 rfl rfl dX4_init_5 ?_
  have n5 : x0 ≠ 0 := by have z := (B3.1.2.1 x0 (by rw [(ck_up eh2 (by decide) o1)]; decide)).1; omega
  refine v_objInit C q507 q161 q162 n5 (by decide) (Nat.le_of_ble_eq_true rfl) dX4_init_6 ?_
  refine v_aload_n C 0 rfl rfl dX4_init_9 ?_
  refine v_aload_n C 0 rfl rfl dX4_init_10 ?_
  refine gX4_3 C (ck_up eh2 (by decide) o1) (show h2 x0 6 = x1 by rw [eh2, up_s]) dX4_init_11 ?_
  obtain ⟨o6, F⟩ := F
  refine gX4_15 C o6 (show h2 x1 14 = h x1 14 by rw [eh2, up_i (by decide)]) dX4_init_14 ?_
  refine pX4_19 C rfl (ck_up eh2 (by decide) o1) (okI_r rfl rfl) dX4_init_17 ?_
  obtain ⟨h7, eh7⟩ : ∃ m : Mem, m = up h2 x0 0 (h x1 14) := ⟨_, rfl⟩
  have B8 : BX x0 h0 h7 := by rw [eh7]; exact BX_up B3 (ck_up eh2 (by decide) o1) (by decide) (Int.le_refl _) (by decide) (okI_r rfl rfl)
  refine v_mem eh7 ?_
  have F := F h7 eh7
  refine v_aload_n C 0 rfl rfl dX4_init_20 ?_
  refine v_aload_n C 0 rfl rfl dX4_init_21 ?_
  refine gX4_3 C (ck_up eh7 (by decide) (ck_up eh2 (by decide) o1)) (show h7 x0 6 = x1 by rw [eh7, up_i (by decide), eh2, up_s]) dX4_init_22 ?_
  refine gX4_22 C (ck_up eh7 (by decide) o6) (show h7 x1 4 = h x1 4 by rw [eh7, up_i (by decide), eh2, up_i (by decide)]) dX4_init_25 ?_
  refine pX4_26 C rfl (ck_up eh7 (by decide) (ck_up eh2 (by decide) o1)) (okI_r rfl rfl) dX4_init_28 ?_
  obtain ⟨h10, eh10⟩ : ∃ m : Mem, m = up h7 x0 1 (h x1 4) := ⟨_, rfl⟩
  have B11 : BX x0 h0 h10 := by rw [eh10]; exact BX_up B8 (ck_up eh7 (by decide) (ck_up eh2 (by decide) o1)) (by decide) (Int.le_refl _) (by decide) (okI_r rfl rfl)
  refine v_mem eh10 ?_
  have F := F h10 eh10
  exact v_vret C (Nat.le_refl _) (Nat.le_refl _) dX4_init_31 ⟨B11, F⟩
set_option maxHeartbeats 1000000 in
theorem eX4_init {G : GT} {l : Launch} {x0 x1 : Int} {h : Mem} {P : Int → Mem → Prop} (F : ∀ X : MX, Cx G X cX4_init 2 RX4 1 0 0 none "<init>" → X.2.1 = l → (BX x0 h h) →
    h x0 (-1) = 5 ∧ ∀ h2 : Mem, h2 = up h x0 6 x1 → h2 x1 (-1) = 1 ∧ ∀ h7 : Mem, h7 = up h2 x0 0 (h x1 14) → ∀ h10 : Mem, h10 = up h7 x0 1 (h x1 4) → P 0 h10) :
    kX4_init G l x0 x1 h P := by
  refine ct_of (by decide +kernel) (Nat.le_of_ble_eq_true rfl) fun X C e => ?_
  refine v_okz fun O => ?_
  exact wX4_init_0 C (BX.rf O) (F X C e (BX.rf O))
set_option maxHeartbeats 4000000 in
theorem wX15_init_0 {G : GT} {X : MX} {h0 h : Mem} {P : Int → Mem → Prop} {kc ks uc us : Nat} {x0 : Int} (C : Cx G X cX15_init 1 RX15 2 kc ks none "<init>") (B0 : BX x0 h0 h)
    (F : h x0 (-1) = 14 ∧ 0 + 1 ≤ kc ∧ 0 + 30 ≤ ks ∧ ∀ h5 : Mem, h5 = alloc h 2 0 → ∀ a6 : Int, a6 = h 0 0 → ∃ c9 s10 : Nat, 0 + 1 + c9 ≤ kc ∧ 0 + 30 + s10 ≤ ks ∧ kX1_init G X.2.1 c9 s10 a6 h5 (fun _ h14 => BX a6 h5 h14 → h14 x0 (-1) = 14 ∧ ∀ h20 : Mem, h20 = up h14 x0 0 a6 → P 0 h20)) :
    V G X 1 0 0 (QF G X 3 kc ks (PN x0 h0 P)) 0 [(0, rf x0)] [] h := by
  have B := B0
  refine v_aload_n C 0 rfl rfl dX15_init_0 ?_
  obtain ⟨o1, F⟩ := F
  have n2 : x0 ≠ 0 := by have z := (B.1.2.1 x0 (by rw [o1]; decide)).1; omega
  refine v_objInit C q1195 q161 q162 n2 (by decide) (Nat.le_of_ble_eq_true rfl) dX15_init_1 ?_
  refine v_aload_n C 0 rfl rfl dX15_init_4 ?_
  obtain ⟨o3, o4, F⟩ := F
  refine nX15_7 C o3 o4 dX15_init_5 ?_
  obtain ⟨h5, eh5⟩ : ∃ m : Mem, m = alloc h 2 0 := ⟨_, rfl⟩
  obtain ⟨a6, ea6⟩ : ∃ z : Int, z = h 0 0 := ⟨_, rfl⟩
  have La6 : x0 ≤ a6 := by have z := (B.1.2.1 x0 (by rw [o1]; decide)).2; rw [ea6]; omega
  have Na6 : a6 ≠ 0 := by have z := B.1.2.2.1; rw [ea6]; omega
  have B7 : BX x0 h0 h5 := by rw [eh5]; exact BX_alloc B (by decide) (by decide) (by decide) (by decide)
  refine v_mem eh5 ?_
  refine v_topi ea6.symm ?_
  have F := F h5 eh5 a6 ea6
  refine v_dup C (rf_n1 _) dX15_init_8 ?_
  obtain ⟨c9, s10, o11, o12, F⟩ := F
  refine mX15_9 C Na6 (d2 := 1) (kc2 := c9) (ks2 := s10) (by decide) o11 o12 (Nat.le_of_ble_eq_true rfl) dX15_init_9 (Ct.mono (F) ?_)
  rintro r13 h14 ⟨e15, F⟩
  have F := F e15
  have B17 := BX_call B7 La6 e15
  obtain ⟨o19, F⟩ := F
  refine pX15_10 C rfl o19 (okI_r rfl rfl) dX15_init_12 ?_
  obtain ⟨h20, eh20⟩ : ∃ m : Mem, m = up h14 x0 0 a6 := ⟨_, rfl⟩
  have B21 : BX x0 h0 h20 := by rw [eh20]; exact BX_up B17 o19 (by decide) (Int.le_refl _) (by decide) (okI_r rfl rfl)
  refine v_mem eh20 ?_
  have F := F h20 eh20
  exact v_vret C o11 o12 dX15_init_15 ⟨B21, F⟩
set_option maxHeartbeats 1000000 in
theorem eX15_init {G : GT} {l : Launch} {kc ks : Nat} {x0 : Int} {h : Mem} {P : Int → Mem → Prop} (F : ∀ X : MX, Cx G X cX15_init 1 RX15 2 kc ks none "<init>" → X.2.1 = l → (BX x0 h h) →
    h x0 (-1) = 14 ∧ 0 + 1 ≤ kc ∧ 0 + 30 ≤ ks ∧ ∀ h5 : Mem, h5 = alloc h 2 0 → ∀ a6 : Int, a6 = h 0 0 → ∃ c9 s10 : Nat, 0 + 1 + c9 ≤ kc ∧ 0 + 30 + s10 ≤ ks ∧ kX1_init G X.2.1 c9 s10 a6 h5 (fun _ h14 => BX a6 h5 h14 → h14 x0 (-1) = 14 ∧ ∀ h20 : Mem, h20 = up h14 x0 0 a6 → P 0 h20)) :
    kX15_init G l kc ks x0 h P := by
  refine ct_of (by decide +kernel) (Nat.le_of_ble_eq_true rfl) fun X C e => ?_
  refine v_okz fun O => ?_
  exact wX15_init_0 (uc := 0) (us := 0) C (BX.rf O) (F X C e (BX.rf O))
