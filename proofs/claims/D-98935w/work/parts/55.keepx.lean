/-! X keeps an act -/
set_option maxRecDepth 100000
theorem UndoAt.keep {h h' h0 : Mem} {a k : Int} (u : UndoAt h a k h0) (f : ∀ j : Int, 182 * k ≤ j → j < 182 * k + 182 → h' (a + 15) j = h (a + 15) j) : UndoAt h' a k h0 := by
  obtain ⟨u1, u2, u3, u4, u5, u6⟩ := u
  exact ⟨(f _ (by omega) (by omega)).trans u1, (f _ (by omega) (by omega)).trans u2, fun i i0 i1 => (f _ (by omega) (by omega)).trans (u3 i i0 i1), fun i i0 i1 => (f _ (by omega) (by omega)).trans (u4 i i0 i1), fun i i0 i1 => (f _ (by omega) (by omega)).trans (u5 i i0 i1), fun i i0 i1 => (f _ (by omega) (by omega)).trans (u6 i i0 i1)⟩
theorem UndoAt.shift {h h' h0 : Mem} {a k : Int} (u : UndoAt h a (k + 1) h0) (f : ∀ j : Int, 182 * k ≤ j → j < 182 * k + 182 → h' (a + 15) j = h (a + 15) (j + 182)) : UndoAt h' a k h0 := by
  obtain ⟨u1, u2, u3, u4, u5, u6⟩ := u
  refine ⟨?_, ?_, fun i i0 i1 => ?_, fun i i0 i1 => ?_, fun i i0 i1 => ?_, fun i i0 i1 => ?_⟩
  · rw [f _ (by omega) (by omega), show 182 * k + 182 = 182 * (k + 1) by omega]; exact u1
  · rw [f _ (by omega) (by omega), show 182 * k + 1 + 182 = 182 * (k + 1) + 1 by omega]; exact u2
  · rw [f _ (by omega) (by omega), show 182 * k + 2 + i + 182 = 182 * (k + 1) + 2 + i by omega]; exact u3 i i0 i1
  · rw [f _ (by omega) (by omega), show 182 * k + 18 + i + 182 = 182 * (k + 1) + 18 + i by omega]; exact u4 i i0 i1
  · rw [f _ (by omega) (by omega), show 182 * k + 98 + i + 182 = 182 * (k + 1) + 98 + i by omega]; exact u5 i i0 i1
  · rw [f _ (by omega) (by omega), show 182 * k + 178 + i + 182 = 182 * (k + 1) + 178 + i by omega]; exact u6 i i0 i1
/-- a town's past: n rows, the oldest first (g k: the memory then) -/
def Undo (h : Mem) (a n : Int) (g : Int → Mem) : Prop := h a 9 = n ∧ 0 ≤ n ∧ n ≤ 20 ∧ ∀ k : Int, 0 ≤ k → k < n → UndoAt h a k (g k)
def sUd (a : Int) : Int → Int → Prop := fun b j => (b = a ∧ j = 9) ∨ b = a + 15
section
variable {G : GT} {P : Int → Mem → Prop} {l : Launch}
theorem sX0_keepsAct {h : Mem} (A : XS h) (t : h 1 0 = 2) {n : Int} {g : Int → Mem} (ud : Undo h 2 n g) (hp : ∀ (h' hk : Mem), EX h h' → Fr (sUd 2) h h' → (∀ b j : Int, ¬ sUd 2 b j → hk b j = h b j) → Undo h' 2 (pastN n) (pastG n g hk) → P 0 h') : kX0_keepsAct G l h P := by
  obtain ⟨pn, n0, n1, pk⟩ := ud
  refine eX0_keepsAct fun X C e B => ⟨A, t, fun q => ?_, fun q h14 e14 => ?_⟩
  · rw [pn] at q ⊢
    have en : pastN n = n + 1 := if_neg q
    refine sX1_lays A.t2 n0 (by omega) fun h3 e3 f3 u3 _ => ?_
    have hn3 : h3 2 9 = n := (f3 2 9 (by omega)).trans pn
    rw [hn3]
    refine ⟨(f3 1 0 (by omega)).trans t, ⟨by omega, by omega⟩, fun h9 e9 => ?_⟩
    have x9 : EX h h9 := by rw [e9]; exact EX_up e3 (A.ext e3.1).t2.k (by decide) rfl (by decide) (okI_i rfl ⟨by omega, by omega⟩)
    have f9 : Fr (fun b j => b = 2 ∧ j = 9) h3 h9 := by rw [e9]; exact (Fr.rf _ _).up ⟨rfl, rfl⟩
    refine hp h9 h x9 (fun b j z => by unfold sUd at z; rw [f9 b j (by omega), f3 b j (by omega)]) (fun _ _ _ => rfl) ⟨by rw [e9, up_s, en], by rw [en]; omega, by rw [en]; omega, fun k k0 k1 => ?_⟩
    rw [en] at k1
    unfold pastG
    rw [if_neg q]
    by_cases c : k = n
    · rw [if_pos c, c]; exact u3.keep fun j j0 j1 => f9 _ j (by omega)
    · rw [if_neg c]; exact (pk k k0 (by omega)).keep fun j j0 j1 => (f9 _ j (by omega)).trans (f3 _ j (by omega))
  · rw [pn] at q
    subst q
    have x14 : EX h h14 := by rw [e14]; exact EX_cpy (EX.rf B.2) A.t2.k27 A.t2.k27 (by decide)
    have f14 : Fr (fun b _ => b = 17) h h14 := fun b j z => by rw [e14, cpy_n z]
    have hn14 : h14 2 9 = 20 := (f14 2 9 (by omega)).trans pn
    rw [hn14]
    refine ⟨(f14 1 0 (by omega)).trans t, ⟨by decide, by decide⟩, fun h19 e19 => ?_⟩
    have x19 : EX h h19 := by rw [e19]; exact EX_up x14 (A.ext x14.1).t2.k (by decide) rfl (by decide) (okI_i rfl ⟨by decide, by decide⟩)
    have f19 : Fr (fun b j => b = 2 ∧ j = 9) h14 h19 := by rw [e19]; exact (Fr.rf _ _).up ⟨rfl, rfl⟩
    refine sX1_lays (A.ext x19.1).t2 (by decide) (by decide) fun h23 e23 f23 u23 _ => ?_
    have hn23 : h23 2 9 = 19 := by rw [f23 2 9 (by omega), e19, up_s]; decide
    rw [hn23]
    refine ⟨(f23 1 0 (by omega)).trans ((f19 1 0 (by omega)).trans ((f14 1 0 (by omega)).trans t)), ⟨by decide, by decide⟩, fun h30 e30 => ?_⟩
    have x30 : EX h h30 := by rw [e30]; exact EX_up (x19.tr e23) ((A.ext x19.1).ext e23.1).t2.k (by decide) rfl (by decide) (okI_i rfl ⟨by decide, by decide⟩)
    have f30 : Fr (fun b j => b = 2 ∧ j = 9) h23 h30 := by rw [e30]; exact (Fr.rf _ _).up ⟨rfl, rfl⟩
    have en : pastN 20 = 20 := if_pos rfl
    refine hp h30 h19 x30 (fun b j z => by unfold sUd at z; rw [f30 b j (by omega), f23 b j (by omega), f19 b j (by omega), f14 b j (by omega)]) (fun b j z => by unfold sUd at z; rw [f19 b j (by omega), f14 b j (by omega)]) ⟨by rw [e30, up_s, en]; decide, by rw [en]; decide, by rw [en]; decide, fun k k0 k1 => ?_⟩
    rw [en] at k1
    unfold pastG
    rw [if_pos rfl]
    by_cases c : k = 19
    · rw [if_pos c, c]; exact u23.keep fun j j0 j1 => f30 _ j (by omega)
    · rw [if_neg c]
      exact (pk (k + 1) (by omega) (by omega)).shift fun j j0 j1 => by
        rw [f30 _ j (by omega), f23 _ j (by omega), f19 _ j (by omega), e14]
        show cpy h 17 182 17 0 3458 17 j = h 17 (j + 182)
        rw [cpy_i (by omega) (by omega), show (182 : Int) + (j - 0) = j + 182 by omega]
end
