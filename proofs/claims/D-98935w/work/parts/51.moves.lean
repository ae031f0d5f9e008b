/-! the model: a row of the past is laid, is taken -/
set_option maxRecDepth 100000
section
variable {G : GT} {P : Int → Mem → Prop} {l : Launch}
/-- laying: the row stays, the past gets it -/
theorem l_lay {x n p : Int} (hx : x ≠ 216 ∧ x ≠ 177 ∧ 1 ≤ x) (p0 : 0 ≤ p) (pn : p + n ≤ 3640) (hs : Mem) {X : MX} {h0 : Mem} (C : Cx G X cX3_movesRow 3 RX3 1 0 0 none "movesRow") :
    ∀ (m k : Nat) (h : Mem), (k : Int) + m = n → EX h0 h → MS h → h x (-1) = 101 → h x (-2) = n → h 177 53 = 0 → h 177 52 = p + k → (∀ i : Int, h x i = hs x i) → (∀ i : Int, 0 ≤ i → i < k → h 216 (p + i) = hs x i) →
    (∀ h' : Mem, EX h h' → Fr (fun b j => (b = 177 ∧ j = 52) ∨ (b = 216 ∧ p ≤ j ∧ j < p + n)) h h' → h' 177 52 = p + n → (∀ i : Int, 0 ≤ i → i < n → h' 216 (p + i) = hs x i) → P 0 h') →
    V G X 3 0 0 (QF G X 3 0 0 (PR h0 P)) 2 [(0, rf 177), (1, rf x), (2, iv (k : Int))] [] h := by
  intro m
  induction m with
  | zero =>
    intro k h hk B M hk1 hl h53 h52 ex ei hp
    refine wX3_movesRow_L2 C ⟨B, ⟨by omega, by omega⟩⟩ ⟨M, hk1, ?_⟩
    rw [hl]
    refine ⟨fun _ => hp h (EX.rf B.2) (Fr.rf _ _) (by rw [h52]; omega) fun i i0 i1 => ei i i0 (by omega), fun q => absurd q (by omega)⟩
  | succ m ih =>
    intro k h hk B M hk1 hl h53 h52 ex ei hp
    refine wX3_movesRow_L2 C ⟨B, ⟨by omega, by omega⟩⟩ ⟨M, hk1, ?_⟩
    rw [hl]
    refine ⟨fun q => absurd q (by omega), fun _ => ⟨by omega, by omega, eX3_moves fun X2 C2 e2 B2 => ⟨M, fun _ => ?_, fun q => absurd h53 q⟩⟩⟩
    rw [h52]
    refine ⟨by omega, by omega, fun h4 e4 => ⟨⟨by omega, by omega⟩, fun h8 e8 ee => ?_⟩⟩
    have f8 : Fr (fun b j => (b = 177 ∧ j = 52) ∨ (b = 216 ∧ p ≤ j ∧ j < p + n)) h h8 := by
      rw [e8, e4]; exact ((Fr.rf _ _).up (Or.inr ⟨rfl, by omega, by omega⟩)).up (Or.inl ⟨rfl, rfl⟩)
    have k8 : h8 x (-1) = 101 := (f8 x (-1) (by omega)).trans hk1
    have l8 : h8 x (-2) = n := (f8 x (-2) (by omega)).trans hl
    refine ⟨k8, by rw [l8]; omega, fun h13 e13 => ⟨⟨by omega, by omega⟩, fun B' => ?_⟩⟩
    have same : ∀ b j : Int, h13 b j = h8 b j := fun b j => by
      rw [e13]
      by_cases q : b = x ∧ j = k
      · rw [q.1, q.2, up_s]; exact (f8 x k (by omega)).symm
      · exact up_n q
    have x13 : EX h h13 := by rw [e13]; exact EX_up ee k8 (by decide) rfl (by omega) (okI_a (Or.inl rfl) (EX.rI B hk1 rfl))
    have f13 : Fr (fun b j => (b = 177 ∧ j = 52) ∨ (b = 216 ∧ p ≤ j ∧ j < p + n)) h h13 := fun b j q => (same b j).trans (f8 b j q)
    have := ih (k + 1) h13 (by omega) B'.1 (M.ext x13.1) ((same _ _).trans k8) ((same _ _).trans l8) ((same _ _).trans ((f8 177 53 (by omega)).trans h53)) (by rw [same, e8, up_s]; omega) (fun i => (f13 x i (by omega)).trans (ex i)) (fun i i0 i1 => ?_) fun h' e3 f3 => hp h' (x13.tr e3) (f13.tr f3)
    · rwa [show ((k + 1 : Nat) : Int) = (k : Int) + 1 by omega] at this
    · rw [same, e8, up_a (by omega), e4]
      by_cases q : i = k
      · rw [q, up_s]; exact ex k
      · rw [up_i (by omega)]; exact ei i i0 (by omega)
theorem sX3_lay {h : Mem} {x n p : Int} (M : MS h) (hk1 : h x (-1) = 101) (hl : h x (-2) = n) (hx : x ≠ 216 ∧ x ≠ 177 ∧ 1 ≤ x) (hn : 0 ≤ n) (h53 : h 177 53 = 0) (h52 : h 177 52 = p) (p0 : 0 ≤ p) (pn : p + n ≤ 3640)
    (hp : ∀ h' : Mem, EX h h' → Fr (fun b j => (b = 177 ∧ j = 52) ∨ (b = 216 ∧ p ≤ j ∧ j < p + n)) h h' → h' 177 52 = p + n → (∀ i : Int, 0 ≤ i → i < n → h' 216 (p + i) = h x i) → P 0 h') : kX3_movesRow G l x h P := by
  refine eX3_movesRow fun X C e B B' => ?_
  exact l_lay hx p0 pn h C n.toNat 0 h (by omega) B'.1 M hk1 hl h53 (by rw [h52]; omega) (fun _ => rfl) (fun i i0 i1 => absurd i1 (by omega)) hp
/-- taking: the row is as the past tells it, the past stays -/
theorem l_take {x n p : Int} (hx : x ≠ 216 ∧ x ≠ 177 ∧ 1 ≤ x) (p0 : 0 ≤ p) (pn : p + n ≤ 3640) (hs : Mem) {X : MX} {h0 : Mem} (C : Cx G X cX3_movesRow 3 RX3 1 0 0 none "movesRow") :
    ∀ (m k : Nat) (h : Mem), (k : Int) + m = n → EX h0 h → MS h → h x (-1) = 101 → h x (-2) = n → h 177 53 ≠ 0 → h 177 52 = p + k → (∀ i : Int, h 216 i = hs 216 i) → (∀ i : Int, 0 ≤ i → i < k → h x i = hs 216 (p + i)) →
    (∀ h' : Mem, EX h h' → Fr (fun b j => (b = 177 ∧ j = 52) ∨ (b = x ∧ 0 ≤ j ∧ j < n)) h h' → h' 177 52 = p + n → (∀ i : Int, 0 ≤ i → i < n → h' x i = hs 216 (p + i)) → P 0 h') →
    V G X 3 0 0 (QF G X 3 0 0 (PR h0 P)) 2 [(0, rf 177), (1, rf x), (2, iv (k : Int))] [] h := by
  intro m
  induction m with
  | zero =>
    intro k h hk B M hk1 hl h53 h52 ex ei hp
    refine wX3_movesRow_L2 C ⟨B, ⟨by omega, by omega⟩⟩ ⟨M, hk1, ?_⟩
    rw [hl]
    refine ⟨fun _ => hp h (EX.rf B.2) (Fr.rf _ _) (by rw [h52]; omega) fun i i0 i1 => ei i i0 (by omega), fun q => absurd q (by omega)⟩
  | succ m ih =>
    intro k h hk B M hk1 hl h53 h52 ex ei hp
    refine wX3_movesRow_L2 C ⟨B, ⟨by omega, by omega⟩⟩ ⟨M, hk1, ?_⟩
    rw [hl]
    refine ⟨fun q => absurd q (by omega), fun _ => ⟨by omega, by omega, eX3_moves fun X2 C2 e2 B2 => ⟨M, fun q => absurd q h53, fun _ => ?_⟩⟩⟩
    rw [h52]
    refine ⟨by omega, by omega, fun y ey h4 e4 => ⟨⟨by omega, by omega⟩, fun h8 e8 ee => ?_⟩⟩
    have s4 : ∀ b j : Int, h4 b j = h b j := fun b j => by
      rw [e4]
      by_cases q : b = 216 ∧ j = p + k
      · rw [q.1, q.2, up_s]; exact ey
      · exact up_n q
    have f8 : Fr (fun b j => b = 177 ∧ j = 52) h h8 := fun b j q => by rw [e8, up_n q]; exact s4 b j
    have k8 : h8 x (-1) = 101 := (f8 x (-1) (by omega)).trans hk1
    have l8 : h8 x (-2) = n := (f8 x (-2) (by omega)).trans hl
    refine ⟨k8, by rw [l8]; omega, fun h13 e13 => ⟨⟨by omega, by omega⟩, fun B' => ?_⟩⟩
    have ry : R32 y := by rw [ey]; exact EX.rI B M.k216 rfl
    have x13 : EX h h13 := by rw [e13]; exact EX_up ee k8 (by decide) rfl (by omega) (okI_a (Or.inl rfl) ry)
    have f13 : Fr (fun b j => (b = 177 ∧ j = 52) ∨ (b = x ∧ 0 ≤ j ∧ j < n)) h h13 := fun b j q => by
      rw [e13, up_n (by omega)]; exact f8 b j (by omega)
    have := ih (k + 1) h13 (by omega) B'.1 (M.ext x13.1) ((f13 x (-1) (by omega)).trans hk1) ((f13 x (-2) (by omega)).trans hl) (by rw [f13 177 53 (by omega)]; exact h53) (by rw [e13, up_a (by omega), e8, up_s]; omega) (fun i => (f13 216 i (by omega)).trans (ex i)) (fun i i0 i1 => ?_) fun h' e3 f3 => hp h' (x13.tr e3) (f13.tr f3)
    · rwa [show ((k + 1 : Nat) : Int) = (k : Int) + 1 by omega] at this
    · rw [e13]
      by_cases q : i = k
      · rw [q, up_s, ey]; exact ex (p + k)
      · rw [up_i q, f8 x i (by omega)]; exact ei i i0 (by omega)
theorem sX3_take {h : Mem} {x n p : Int} (M : MS h) (hk1 : h x (-1) = 101) (hl : h x (-2) = n) (hx : x ≠ 216 ∧ x ≠ 177 ∧ 1 ≤ x) (hn : 0 ≤ n) (h53 : h 177 53 ≠ 0) (h52 : h 177 52 = p) (p0 : 0 ≤ p) (pn : p + n ≤ 3640)
    (hp : ∀ h' : Mem, EX h h' → Fr (fun b j => (b = 177 ∧ j = 52) ∨ (b = x ∧ 0 ≤ j ∧ j < n)) h h' → h' 177 52 = p + n → (∀ i : Int, 0 ≤ i → i < n → h' x i = h 216 (p + i)) → P 0 h') : kX3_movesRow G l x h P := by
  refine eX3_movesRow fun X C e B B' => ?_
  exact l_take hx p0 pn h C n.toNat 0 h (by omega) B'.1 M hk1 hl h53 (by rw [h52]; omega) (fun _ => rfl) (fun i i0 i1 => absurd i1 (by omega)) hp
end
