/-! the model keeps an act: the past moves up where it is full -/
set_option maxRecDepth 100000
theorem PastAt.keep {h h' h0 : Mem} {k : Int} (u : PastAt h k h0) (f : ∀ j : Int, 182 * k ≤ j → j < 182 * k + 182 → h' 216 j = h 216 j) : PastAt h' k h0 := by
  obtain ⟨u1, u2, u3, u4, u5, u6⟩ := u
  exact ⟨(f _ (by omega) (by omega)).trans u1, (f _ (by omega) (by omega)).trans u2, fun i i0 i1 => (f _ (by omega) (by omega)).trans (u3 i i0 i1), fun i i0 i1 => (f _ (by omega) (by omega)).trans (u4 i i0 i1), fun i i0 i1 => (f _ (by omega) (by omega)).trans (u5 i i0 i1), fun i i0 i1 => (f _ (by omega) (by omega)).trans (u6 i i0 i1)⟩
theorem PastAt.shift {h h' h0 : Mem} {k : Int} (u : PastAt h (k + 1) h0) (f : ∀ j : Int, 182 * k ≤ j → j < 182 * k + 182 → h' 216 j = h 216 (j + 182)) : PastAt h' k h0 := by
  obtain ⟨u1, u2, u3, u4, u5, u6⟩ := u
  refine ⟨?_, ?_, fun i i0 i1 => ?_, fun i i0 i1 => ?_, fun i i0 i1 => ?_, fun i i0 i1 => ?_⟩
  · rw [f _ (by omega) (by omega), show 182 * k + 182 = 182 * (k + 1) by omega]; exact u1
  · rw [f _ (by omega) (by omega), show 182 * k + 1 + 182 = 182 * (k + 1) + 1 by omega]; exact u2
  · rw [f _ (by omega) (by omega), show 182 * k + 2 + i + 182 = 182 * (k + 1) + 2 + i by omega]; exact u3 i i0 i1
  · rw [f _ (by omega) (by omega), show 182 * k + 6 + i + 182 = 182 * (k + 1) + 6 + i by omega]; exact u4 i i0 i1
  · rw [f _ (by omega) (by omega), show 182 * k + 22 + i + 182 = 182 * (k + 1) + 22 + i by omega]; exact u5 i i0 i1
  · rw [f _ (by omega) (by omega), show 182 * k + 102 + i + 182 = 182 * (k + 1) + 102 + i by omega]; exact u6 i i0 i1
/-- the past's n rows: how the model stood, the oldest first (g k: the memory then) -/
def Past (h : Mem) (n : Int) (g : Int → Mem) : Prop := h 177 51 = n ∧ 0 ≤ n ∧ n ≤ 20 ∧ ∀ k : Int, 0 ≤ k → k < n → PastAt h k (g k)
def sKp : Int → Int → Prop := fun b j => (b = 177 ∧ (j = 51 ∨ j = 52 ∨ j = 53)) ∨ b = 216
section
variable {G : GT} {P : Int → Mem → Prop} {l : Launch}
theorem l_keepsAct {h9 : Mem} {X : MX} {h0 : Mem} (C : Cx G X cX3_keepsAct 2 RX3 3 0 0 none "keepsAct") :
    ∀ (m : Nat) (x : Int) (h : Mem), 182 ≤ x → x + m = 3640 → EX h0 h → MS h → (∀ j : Int, 0 ≤ j → j < x - 182 → h 216 j = h9 216 (j + 182)) → (∀ j : Int, x - 182 ≤ j → j < 3640 → h 216 j = h9 216 j) → h 177 51 = 20 →
    (∀ h' : Mem, EX h h' → Fr (fun b _ => b = 216) h h' → (∀ j : Int, 0 ≤ j → j < 3458 → h' 216 j = h9 216 (j + 182)) → ∀ h3 : Mem, h3 = up h' 177 51 19 → EX h h3 → kX3_movesAll G X.2.1 19 0 h3 (fun _ h7 => EX h3 h7 → R32 (h7 177 51 + 1) ∧ ∀ h13 : Mem, h13 = up h7 177 51 (h7 177 51 + 1) → P 0 h13)) →
    V G X 2 0 0 (QF G X 3 0 0 (PR h0 P)) 13 [(0, rf 177), (1, iv x)] [] h := by
  intro m
  induction m with
  | zero =>
    intro x h hx hm B M lo hi hn hp
    refine wX3_keepsAct_L13 C ⟨B, ⟨by omega, by omega⟩⟩ ⟨M, fun _ => ?_, fun q => absurd q (by omega)⟩
    rw [hn]
    refine ⟨⟨by decide, by decide⟩, fun h3 e3 => ?_⟩
    have x3 : EX h h3 := by rw [e3]; exact EX_up (EX.rf B.2) M.k177 (by decide) rfl (by decide) (okI_i rfl ⟨by decide, by decide⟩)
    exact hp h (EX.rf B.2) (Fr.rf _ _) (fun j j0 j1 => lo j j0 (by omega)) h3 e3 x3
  | succ m ih =>
    intro x h hx hm B M lo hi hn hp
    refine wX3_keepsAct_L13 C ⟨B, ⟨by omega, by omega⟩⟩ ⟨M, fun q => absurd q (by omega), fun _ => ⟨by omega, by omega, by omega, by omega, fun h20 e20 => ⟨⟨by omega, by omega⟩, fun B' => ?_⟩⟩⟩
    have x20 : EX h h20 := by rw [e20]; exact EX_up (EX.rf B.2) M.k216 (by decide) rfl (by omega) (okI_a (Or.inl rfl) (EX.rI B M.k216 rfl))
    have f20 : Fr (fun b _ => b = 216) h h20 := by rw [e20]; exact (Fr.rf _ _).up rfl
    refine ih (x + 1) h20 (by omega) (by omega) B'.1 (M.ext x20.1) (fun j j0 j1 => ?_) (fun j j0 j1 => ?_) ((f20 177 51 (by omega)).trans hn) fun h' e3 f3 lo3 h3 a3 b3 => hp h' (x20.tr e3) (f20.tr f3) lo3 h3 a3 (x20.tr b3)
    · rw [e20]
      by_cases q : j = x - 182
      · rw [q, up_s, hi x (by omega) (by omega), show x - 182 + 182 = x by omega]
      · rw [up_i q]; exact lo j j0 (by omega)
    · rw [e20, up_i (by omega)]; exact hi j (by omega) j1
/-- the past with one act more -/
def pastN (n : Int) : Int := if n = 20 then 20 else n + 1
def pastG (n : Int) (g : Int → Mem) (h : Mem) : Int → Mem := if n = 20 then (fun k => if k = 19 then h else g (k + 1)) else fun k => if k = n then h else g k
theorem sX3_keepsAct {h : Mem} (M : MS h) {n : Int} {g : Int → Mem} (pa : Past h n g) (hp : ∀ (h' hk : Mem), EX h h' → Fr sKp h h' → (∀ b j : Int, b ≠ 177 → b ≠ 216 → hk b j = h b j) → Past h' (pastN n) (pastG n g hk) → P 0 h') : kX3_keepsAct G l h P := by
  obtain ⟨pn, n0, n1, pk⟩ := pa
  refine eX3_keepsAct fun X C e B => ⟨M, fun q => ?_, fun q B' => ?_⟩
  · rw [pn] at q ⊢
    have en : pastN n = n + 1 := if_neg q
    refine sX3_lays M n0 (by omega) fun h3 e3 f3 u3 _ => ?_
    have hn3 : h3 177 51 = n := (f3 177 51 (by omega)).trans pn
    rw [hn3]
    refine ⟨⟨by omega, by omega⟩, fun h9 e9 => ?_⟩
    have x9 : EX h h9 := by rw [e9]; exact EX_up e3 (M.ext e3.1).k177 (by decide) rfl (by decide) (okI_i rfl ⟨by omega, by omega⟩)
    have f9 : Fr (fun b j => b = 177 ∧ j = 51) h3 h9 := by rw [e9]; exact (Fr.rf _ _).up ⟨rfl, rfl⟩
    refine hp h9 h x9 (fun b j z => by unfold sKp at z; rw [f9 b j (by omega), f3 b j (by omega)]) (fun _ _ _ _ => rfl) ⟨by rw [e9, up_s, en], by rw [en]; omega, by rw [en]; omega, fun k k0 k1 => ?_⟩
    rw [en] at k1
    unfold pastG
    rw [if_neg q]
    by_cases c : k = n
    · rw [if_pos c, c]; exact u3.keep fun j j0 j1 => f9 216 j (by omega)
    · rw [if_neg c]; exact (pk k k0 (by omega)).keep fun j j0 j1 => (f9 216 j (by omega)).trans (f3 216 j (by omega))
  · rw [pn] at q
    subst q
    refine l_keepsAct (h9 := h) C 3458 182 h (by omega) (by omega) B'.1 M (fun j j0 j1 => absurd j1 (by omega)) (fun j _ _ => rfl) pn fun h1 e1 f1 lo h3 e3 x3 => ?_
    have f3 : Fr (fun b j => b = 177 ∧ j = 51) h1 h3 := by rw [e3]; exact (Fr.rf _ _).up ⟨rfl, rfl⟩
    refine sX3_lays (M.ext x3.1) (by decide) (by decide) fun h7 e7 f7 u7 _ => ?_
    have hn7 : h7 177 51 = 19 := by rw [f7 177 51 (by omega), e3, up_s]
    rw [hn7]
    refine ⟨⟨by decide, by decide⟩, fun h13 e13 => ?_⟩
    have x13 : EX h h13 := by rw [e13]; exact EX_up (x3.tr e7) ((M.ext x3.1).ext e7.1).k177 (by decide) rfl (by decide) (okI_i rfl ⟨by decide, by decide⟩)
    have f13 : Fr (fun b j => b = 177 ∧ j = 51) h7 h13 := by rw [e13]; exact (Fr.rf _ _).up ⟨rfl, rfl⟩
    have en : pastN 20 = 20 := if_pos rfl
    refine hp h13 h3 x13 (fun b j z => by unfold sKp at z; rw [f13 b j (by omega), f7 b j (by omega), f3 b j (by omega), f1 b j (by omega)]) (fun b j z1 z2 => by rw [f3 b j (by omega), f1 b j z2]) ⟨by rw [e13, up_s, en]; decide, by rw [en]; decide, by rw [en]; decide, fun k k0 k1 => ?_⟩
    rw [en] at k1
    unfold pastG
    rw [if_pos rfl]
    by_cases c : k = 19
    · rw [if_pos c, c]; exact u7.keep fun j j0 j1 => f13 216 j (by omega)
    · rw [if_neg c]
      exact (pk (k + 1) (by omega) (by omega)).shift fun j j0 j1 => by
        rw [f13 216 j (by omega), f7 216 j (by omega), f3 216 j (by omega)]; exact lo j (by omega) (by omega)
end
