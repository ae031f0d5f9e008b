/-! the model: rows are carried into an image, and back -/
set_option maxRecDepth 100000
section
variable {G : GT} {P : Int → Mem → Prop} {l : Launch}
theorem l_carry0 {x n p : Int} (hx : x ≠ 224 ∧ x ≠ 177 ∧ 1 ≤ x) (p0 : 0 ≤ p) (pn : p + n ≤ 20500) (hs : Mem) {X : MX} {h0 : Mem} (C : Cx G X cX3_carryRow 3 RX3 0 0 0 none "carryRow") :
    ∀ (m k : Nat) (h : Mem), (k : Int) + m = n → EX h0 h → MS h → h x (-1) = 101 → h x (-2) = n → h 177 64 = 0 → h 177 63 = p + k → (∀ i : Int, h x i = hs x i) → (∀ i : Int, 0 ≤ i → i < k → h 224 (p + i) = hs x i) →
    (∀ h' : Mem, EX h h' → Fr (fun b j => (b = 177 ∧ j = 63) ∨ (b = 224 ∧ p ≤ j ∧ j < p + n)) h h' → h' 177 63 = p + n → (∀ i : Int, 0 ≤ i → i < n → h' 224 (p + i) = hs x i) → P 0 h') →
    V G X 3 0 0 (QF G X 3 0 0 (PR h0 P)) 2 [(0, rf 177), (1, rf x), (2, iv (k : Int))] [] h := by
  intro m
  induction m with
  | zero =>
    intro k h hk B M hk1 hl h64 h63 ex ei hp
    refine wX3_carryRow_L2 C ⟨B, ⟨by omega, by omega⟩⟩ ⟨M, hk1, ?_⟩
    rw [hl]
    refine ⟨fun _ => hp h (EX.rf B.2) (Fr.rf _ _) (by rw [h63]; omega) fun i i0 i1 => ei i i0 (by omega), fun q => absurd q (by omega)⟩
  | succ m ih =>
    intro k h hk B M hk1 hl h64 h63 ex ei hp
    refine wX3_carryRow_L2 C ⟨B, ⟨by omega, by omega⟩⟩ ⟨M, hk1, ?_⟩
    rw [hl, h63]
    refine ⟨fun q => absurd q (by omega), fun _ => ⟨fun _ => ⟨by omega, by omega, by omega, by omega, fun h8 e8 => ⟨⟨by omega, by omega⟩, fun h12 e12 => ⟨⟨by omega, by omega⟩, fun B' => ?_⟩⟩⟩, fun q => absurd h64 q⟩⟩
    have x8 : EX h h8 := by rw [e8]; exact EX_up (EX.rf B.2) M.k224 (by decide) rfl (by omega) (okI_a (Or.inl rfl) (EX.rI B hk1 rfl))
    have x12 : EX h h12 := by rw [e12]; exact EX_up x8 (M.ext x8.1).k177 (by decide) rfl (by decide) (okI_i rfl ⟨by omega, by omega⟩)
    have f12 : Fr (fun b j => (b = 177 ∧ j = 63) ∨ (b = 224 ∧ p ≤ j ∧ j < p + n)) h h12 := by
      rw [e12, e8]; exact ((Fr.rf _ _).up (Or.inr ⟨rfl, by omega, by omega⟩)).up (Or.inl ⟨rfl, rfl⟩)
    have := ih (k + 1) h12 (by omega) B'.1 (M.ext x12.1) ((f12 x (-1) (by omega)).trans hk1) ((f12 x (-2) (by omega)).trans hl) ((f12 177 64 (by omega)).trans h64) (by rw [e12, up_s]; omega) (fun i => (f12 x i (by omega)).trans (ex i)) (fun i i0 i1 => ?_) fun h' e3 f3 => hp h' (x12.tr e3) (f12.tr f3)
    · rwa [show ((k + 1 : Nat) : Int) = (k : Int) + 1 by omega] at this
    · rw [e12, up_a (by omega), e8]
      by_cases q : i = k
      · rw [q, up_s]; exact ex k
      · rw [up_i (by omega)]; exact ei i i0 (by omega)
theorem sX3_carry0 {h : Mem} {x n p : Int} (M : MS h) (hk1 : h x (-1) = 101) (hl : h x (-2) = n) (hx : x ≠ 224 ∧ x ≠ 177 ∧ 1 ≤ x) (hn : 0 ≤ n) (h64 : h 177 64 = 0) (h63 : h 177 63 = p) (p0 : 0 ≤ p) (pn : p + n ≤ 20500)
    (hp : ∀ h' : Mem, EX h h' → Fr (fun b j => (b = 177 ∧ j = 63) ∨ (b = 224 ∧ p ≤ j ∧ j < p + n)) h h' → h' 177 63 = p + n → (∀ i : Int, 0 ≤ i → i < n → h' 224 (p + i) = h x i) → P 0 h') : kX3_carryRow G l x h P := by
  refine eX3_carryRow fun X C e B B' => ?_
  exact l_carry0 hx p0 pn h C n.toNat 0 h (by omega) B'.1 M hk1 hl h64 (by rw [h63]; omega) (fun _ => rfl) (fun i i0 i1 => absurd i1 (by omega)) hp
theorem l_carry1 {x n p : Int} (hx : x ≠ 224 ∧ x ≠ 177 ∧ 1 ≤ x) (p0 : 0 ≤ p) (pn : p + n ≤ 20500) (hs : Mem) {X : MX} {h0 : Mem} (C : Cx G X cX3_carryRow 3 RX3 0 0 0 none "carryRow") :
    ∀ (m k : Nat) (h : Mem), (k : Int) + m = n → EX h0 h → MS h → h x (-1) = 101 → h x (-2) = n → h 177 64 ≠ 0 → h 177 63 = p + k → (∀ i : Int, h 224 i = hs 224 i) → (∀ i : Int, 0 ≤ i → i < k → h x i = hs 224 (p + i)) →
    (∀ h' : Mem, EX h h' → Fr (fun b j => (b = 177 ∧ j = 63) ∨ (b = x ∧ 0 ≤ j ∧ j < n)) h h' → h' 177 63 = p + n → (∀ i : Int, 0 ≤ i → i < n → h' x i = hs 224 (p + i)) → P 0 h') →
    V G X 3 0 0 (QF G X 3 0 0 (PR h0 P)) 2 [(0, rf 177), (1, rf x), (2, iv (k : Int))] [] h := by
  intro m
  induction m with
  | zero =>
    intro k h hk B M hk1 hl h64 h63 ex ei hp
    refine wX3_carryRow_L2 C ⟨B, ⟨by omega, by omega⟩⟩ ⟨M, hk1, ?_⟩
    rw [hl]
    refine ⟨fun _ => hp h (EX.rf B.2) (Fr.rf _ _) (by rw [h63]; omega) fun i i0 i1 => ei i i0 (by omega), fun q => absurd q (by omega)⟩
  | succ m ih =>
    intro k h hk B M hk1 hl h64 h63 ex ei hp
    refine wX3_carryRow_L2 C ⟨B, ⟨by omega, by omega⟩⟩ ⟨M, hk1, ?_⟩
    rw [hl, h63]
    refine ⟨fun q => absurd q (by omega), fun _ => ⟨fun q => absurd q h64, fun _ => ⟨by omega, by omega, by omega, by omega, fun h20 e20 => ?_⟩⟩⟩
    have g63 : h20 177 63 = p + k := by rw [e20, up_a (by omega)]; exact h63
    rw [g63]
    refine ⟨⟨by omega, by omega⟩, fun h24 e24 => ⟨⟨by omega, by omega⟩, fun B' => ?_⟩⟩
    have x20 : EX h h20 := by rw [e20]; exact EX_up (EX.rf B.2) hk1 (by decide) rfl (by omega) (okI_a (Or.inl rfl) (EX.rI B M.k224 rfl))
    have x24 : EX h h24 := by rw [e24]; exact EX_up x20 (M.ext x20.1).k177 (by decide) rfl (by decide) (okI_i rfl ⟨by omega, by omega⟩)
    have f24 : Fr (fun b j => (b = 177 ∧ j = 63) ∨ (b = x ∧ 0 ≤ j ∧ j < n)) h h24 := by
      rw [e24, e20]; exact ((Fr.rf _ _).up (Or.inr ⟨rfl, by omega, by omega⟩)).up (Or.inl ⟨rfl, rfl⟩)
    have := ih (k + 1) h24 (by omega) B'.1 (M.ext x24.1) ((f24 x (-1) (by omega)).trans hk1) ((f24 x (-2) (by omega)).trans hl) (by rw [f24 177 64 (by omega)]; exact h64) (by rw [e24, up_s]; omega) (fun i => (f24 224 i (by omega)).trans (ex i)) (fun i i0 i1 => ?_) fun h' e3 f3 => hp h' (x24.tr e3) (f24.tr f3)
    · rwa [show ((k + 1 : Nat) : Int) = (k : Int) + 1 by omega] at this
    · rw [e24, up_a (by omega), e20]
      by_cases q : i = k
      · rw [q, up_s]; exact ex (p + k)
      · rw [up_i q]; exact ei i i0 (by omega)
theorem sX3_carry1 {h : Mem} {x n p : Int} (M : MS h) (hk1 : h x (-1) = 101) (hl : h x (-2) = n) (hx : x ≠ 224 ∧ x ≠ 177 ∧ 1 ≤ x) (hn : 0 ≤ n) (h64 : h 177 64 ≠ 0) (h63 : h 177 63 = p) (p0 : 0 ≤ p) (pn : p + n ≤ 20500)
    (hp : ∀ h' : Mem, EX h h' → Fr (fun b j => (b = 177 ∧ j = 63) ∨ (b = x ∧ 0 ≤ j ∧ j < n)) h h' → h' 177 63 = p + n → (∀ i : Int, 0 ≤ i → i < n → h' x i = h 224 (p + i)) → P 0 h') : kX3_carryRow G l x h P := by
  refine eX3_carryRow fun X C e B B' => ?_
  exact l_carry1 hx p0 pn h C n.toNat 0 h (by omega) B'.1 M hk1 hl h64 (by rw [h63]; omega) (fun _ => rfl) (fun i i0 i1 => absurd i1 (by omega)) hp
/-- the rows that hours change, as they lie in the fifth image -/
def Kept (h hs : Mem) : Prop := (∀ i : Int, 0 ≤ i → i < 13 → h 224 (16400 + i) = hs 178 i) ∧ (∀ i : Int, 0 ≤ i → i < 4 → h 224 (16413 + i) = hs 182 i) ∧ (∀ i : Int, 0 ≤ i → i < 16 → h 224 (16417 + i) = hs 185 i) ∧
  (∀ i : Int, 0 ≤ i → i < 80 → h 224 (16433 + i) = hs 186 i) ∧ (∀ i : Int, 0 ≤ i → i < 80 → h 224 (16513 + i) = hs 187 i)
def sIm : Int → Int → Prop := fun b j => (b = 177 ∧ (j = 63 ∨ j = 64)) ∨ (b = 224 ∧ 16400 ≤ j)
theorem Kept.keep {h h' hs : Mem} (k : Kept h hs) (f : ∀ j : Int, h' 224 j = h 224 j) : Kept h' hs :=
  ⟨fun i a b => (f _).trans (k.1 i a b), fun i a b => (f _).trans (k.2.1 i a b), fun i a b => (f _).trans (k.2.2.1 i a b), fun i a b => (f _).trans (k.2.2.2.1 i a b), fun i a b => (f _).trans (k.2.2.2.2 i a b)⟩
theorem sX3_keeps4 {h : Mem} (M : MS h) (hp : ∀ h' : Mem, EX h h' → Fr sIm h h' → Kept h' h → P 0 h') : kX3_carriesAll G l 4 0 h P := by
  refine eX3_carriesAll fun X C e B => ⟨M, ⟨by decide, by decide⟩, fun h2 e2 => ⟨Or.inl rfl, fun h6 e6 => ?_⟩⟩
  have x2 : EX h h2 := by rw [e2]; exact EX_up (EX.rf B.1.2) M.k177 (by decide) rfl (by decide) (okI_i rfl ⟨by decide, by decide⟩)
  have x6 : EX h h6 := by rw [e6]; exact EX_up x2 (M.ext x2.1).k177 (by decide) rfl (by decide) (okI_i rfl ⟨by decide, by decide⟩)
  have f6 : Fr sIm h h6 := by rw [e6, e2]; exact ((Fr.rf _ _).up (Or.inl ⟨rfl, Or.inl rfl⟩)).up (Or.inl ⟨rfl, Or.inr rfl⟩)
  have p6 : h6 177 63 = 16400 := by rw [e6, up_i (by decide), e2, up_s]; decide
  have q6 : h6 177 64 = 0 := by rw [e6, up_s]
  have M6 := M.ext x6.1
  refine sX3_carry0 M6 M6.k178 M6.l178 ⟨by decide, by decide, by decide⟩ (by decide) q6 p6 (by decide) (by decide) fun h10 e10 f10 p10 c10 _ => ?_
  have M10 := M6.ext e10.1
  refine sX3_carry0 M10 M10.k182 M10.l182 ⟨by decide, by decide, by decide⟩ (by decide) ((f10 177 64 (by omega)).trans q6) p10 (by decide) (by decide) fun h16 e16 f16 p16 c16 _ => ?_
  have M16 := M10.ext e16.1
  refine sX3_carry0 M16 M16.k185 M16.l185 ⟨by decide, by decide, by decide⟩ (by decide) ((f16 177 64 (by omega)).trans ((f10 177 64 (by omega)).trans q6)) p16 (by decide) (by decide) fun h22 e22 f22 p22 c22 _ => ?_
  have M22 := M16.ext e22.1
  refine sX3_carry0 M22 M22.k186 M22.l186 ⟨by decide, by decide, by decide⟩ (by decide) ((f22 177 64 (by omega)).trans ((f16 177 64 (by omega)).trans ((f10 177 64 (by omega)).trans q6))) p22 (by decide) (by decide) fun h28 e28 f28 p28 c28 _ => ?_
  have M28 := M22.ext e28.1
  refine sX3_carry0 M28 M28.k187 M28.l187 ⟨by decide, by decide, by decide⟩ (by decide) ((f28 177 64 (by omega)).trans ((f22 177 64 (by omega)).trans ((f16 177 64 (by omega)).trans ((f10 177 64 (by omega)).trans q6)))) p28 (by decide) (by decide) fun h34 e34 f34 p34 c34 _ => ?_
  refine ⟨fun q => absurd rfl q, fun _ => hp h34 (((((x6.tr e10).tr e16).tr e22).tr e28).tr e34) (((((f6.tr (f10.mono ?_)).tr (f16.mono ?_)).tr (f22.mono ?_)).tr (f28.mono ?_)).tr (f34.mono ?_)) ⟨fun i i0 i1 => ?_, fun i i0 i1 => ?_, fun i i0 i1 => ?_, fun i i0 i1 => ?_, fun i i0 i1 => ?_⟩⟩
  · intro b j q; unfold sIm; omega
  · intro b j q; unfold sIm; omega
  · intro b j q; unfold sIm; omega
  · intro b j q; unfold sIm; omega
  · intro b j q; unfold sIm; omega
  · rw [f34 224 _ (by omega), f28 224 _ (by omega), f22 224 _ (by omega), f16 224 _ (by omega), c10 i i0 i1]
    exact f6 178 i (by unfold sIm; omega)
  · rw [f34 224 _ (by omega), f28 224 _ (by omega), f22 224 _ (by omega), show (16413 : Int) + i = 16400 + 13 + i by omega, c16 i i0 i1, f10 182 i (by omega)]
    exact f6 182 i (by unfold sIm; omega)
  · rw [f34 224 _ (by omega), f28 224 _ (by omega), show (16417 : Int) + i = 16400 + 13 + 4 + i by omega, c22 i i0 i1, f16 185 i (by omega), f10 185 i (by omega)]
    exact f6 185 i (by unfold sIm; omega)
  · rw [f34 224 _ (by omega), show (16433 : Int) + i = 16400 + 13 + 4 + 16 + i by omega, c28 i i0 i1, f22 186 i (by omega), f16 186 i (by omega), f10 186 i (by omega)]
    exact f6 186 i (by unfold sIm; omega)
  · rw [show (16513 : Int) + i = 16400 + 13 + 4 + 16 + 80 + i by omega, c34 i i0 i1, f28 187 i (by omega), f22 187 i (by omega), f16 187 i (by omega), f10 187 i (by omega)]
    exact f6 187 i (by unfold sIm; omega)
def sBk : Int → Int → Prop := fun b j => (b = 177 ∧ (j = 63 ∨ j = 64)) ∨ b = 178 ∨ b = 182 ∨ (185 ≤ b ∧ b ≤ 187)
/-- the rows are as they were when they were kept -/
def Back9 (h hs : Mem) : Prop := (∀ i : Int, 0 ≤ i → i < 13 → h 178 i = hs 178 i) ∧ (∀ i : Int, 0 ≤ i → i < 4 → h 182 i = hs 182 i) ∧ (∀ i : Int, 0 ≤ i → i < 16 → h 185 i = hs 185 i) ∧
  (∀ i : Int, 0 ≤ i → i < 80 → h 186 i = hs 186 i) ∧ (∀ i : Int, 0 ≤ i → i < 80 → h 187 i = hs 187 i)
theorem sX3_back4 {h hs : Mem} (M : MS h) (kp : Kept h hs) (hp : ∀ h' : Mem, EX h h' → Fr sBk h h' → Back9 h' hs → P 0 h') : kX3_carriesAll G l 4 1 h P := by
  refine eX3_carriesAll fun X C e B => ⟨M, ⟨by decide, by decide⟩, fun h2 e2 => ⟨Or.inr rfl, fun h6 e6 => ?_⟩⟩
  have x2 : EX h h2 := by rw [e2]; exact EX_up (EX.rf B.1.2) M.k177 (by decide) rfl (by decide) (okI_i rfl ⟨by decide, by decide⟩)
  have x6 : EX h h6 := by rw [e6]; exact EX_up x2 (M.ext x2.1).k177 (by decide) rfl (by decide) (okI_i rfl ⟨by decide, by decide⟩)
  have f6 : Fr sBk h h6 := by rw [e6, e2]; exact ((Fr.rf _ _).up (Or.inl ⟨rfl, Or.inl rfl⟩)).up (Or.inl ⟨rfl, Or.inr rfl⟩)
  have p6 : h6 177 63 = 16400 := by rw [e6, up_i (by decide), e2, up_s]; decide
  have q6 : h6 177 64 ≠ 0 := by rw [e6, up_s]; decide
  have M6 := M.ext x6.1
  have k6 : Kept h6 hs := kp.keep fun j => f6 224 j (by unfold sBk; omega)
  refine sX3_carry1 M6 M6.k178 M6.l178 ⟨by decide, by decide, by decide⟩ (by decide) q6 p6 (by decide) (by decide) fun h10 e10 f10 p10 c10 _ => ?_
  have M10 := M6.ext e10.1
  have q10 : h10 177 64 ≠ 0 := by rw [f10 177 64 (by omega)]; exact q6
  have k10 : Kept h10 hs := k6.keep fun j => f10 224 j (by omega)
  refine sX3_carry1 M10 M10.k182 M10.l182 ⟨by decide, by decide, by decide⟩ (by decide) q10 p10 (by decide) (by decide) fun h16 e16 f16 p16 c16 _ => ?_
  have M16 := M10.ext e16.1
  have q16 : h16 177 64 ≠ 0 := by rw [f16 177 64 (by omega)]; exact q10
  have k16 : Kept h16 hs := k10.keep fun j => f16 224 j (by omega)
  refine sX3_carry1 M16 M16.k185 M16.l185 ⟨by decide, by decide, by decide⟩ (by decide) q16 p16 (by decide) (by decide) fun h22 e22 f22 p22 c22 _ => ?_
  have M22 := M16.ext e22.1
  have q22 : h22 177 64 ≠ 0 := by rw [f22 177 64 (by omega)]; exact q16
  have k22 : Kept h22 hs := k16.keep fun j => f22 224 j (by omega)
  refine sX3_carry1 M22 M22.k186 M22.l186 ⟨by decide, by decide, by decide⟩ (by decide) q22 p22 (by decide) (by decide) fun h28 e28 f28 p28 c28 _ => ?_
  have M28 := M22.ext e28.1
  have q28 : h28 177 64 ≠ 0 := by rw [f28 177 64 (by omega)]; exact q22
  have k28 : Kept h28 hs := k22.keep fun j => f28 224 j (by omega)
  refine sX3_carry1 M28 M28.k187 M28.l187 ⟨by decide, by decide, by decide⟩ (by decide) q28 p28 (by decide) (by decide) fun h34 e34 f34 p34 c34 _ => ?_
  refine ⟨fun q => absurd rfl q, fun _ => hp h34 (((((x6.tr e10).tr e16).tr e22).tr e28).tr e34) (((((f6.tr (f10.mono ?_)).tr (f16.mono ?_)).tr (f22.mono ?_)).tr (f28.mono ?_)).tr (f34.mono ?_)) ⟨fun i i0 i1 => ?_, fun i i0 i1 => ?_, fun i i0 i1 => ?_, fun i i0 i1 => ?_, fun i i0 i1 => ?_⟩⟩
  · intro b j q; unfold sBk; omega
  · intro b j q; unfold sBk; omega
  · intro b j q; unfold sBk; omega
  · intro b j q; unfold sBk; omega
  · intro b j q; unfold sBk; omega
  · rw [f34 178 _ (by omega), f28 178 _ (by omega), f22 178 _ (by omega), f16 178 _ (by omega), c10 i i0 i1]
    exact k6.1 i i0 i1
  · rw [f34 182 _ (by omega), f28 182 _ (by omega), f22 182 _ (by omega), c16 i i0 i1, show (16400 : Int) + 13 + i = 16413 + i by omega]
    exact k10.2.1 i i0 i1
  · rw [f34 185 _ (by omega), f28 185 _ (by omega), c22 i i0 i1, show (16400 : Int) + 13 + 4 + i = 16417 + i by omega]
    exact k16.2.2.1 i i0 i1
  · rw [f34 186 _ (by omega), c28 i i0 i1, show (16400 : Int) + 13 + 4 + 16 + i = 16433 + i by omega]
    exact k22.2.2.2.1 i i0 i1
  · rw [c34 i i0 i1, show (16400 : Int) + 13 + 4 + 16 + 80 + i = 16513 + i by omega]
    exact k28.2.2.2.2 i i0 i1
end
