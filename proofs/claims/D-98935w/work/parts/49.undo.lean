/-! a town: a row of the past is laid, is taken -/
set_option maxRecDepth 100000
theorem cpy_i {h : Mem} {s d n i sp dp : Int} (i0 : dp ≤ i) (i1 : i < dp + n) : cpy h s sp d dp n d i = h s (sp + (i - dp)) := if_pos ⟨rfl, i0, i1⟩
/-- the k-th row of the town a's past in h is how a stood in h0 -/
def UndoAt (h : Mem) (a k : Int) (h0 : Mem) : Prop :=
  h (a + 15) (182 * k) = h0 a 11 ∧ h (a + 15) (182 * k + 1) = h0 a 12 ∧ (∀ i : Int, 0 ≤ i → i < 16 → h (a + 15) (182 * k + 2 + i) = h0 (a + 11) i) ∧
  (∀ i : Int, 0 ≤ i → i < 80 → h (a + 15) (182 * k + 18 + i) = h0 (a + 12) i) ∧ (∀ i : Int, 0 ≤ i → i < 80 → h (a + 15) (182 * k + 98 + i) = h0 (a + 13) i) ∧ (∀ i : Int, 0 ≤ i → i < 4 → h (a + 15) (182 * k + 178 + i) = h0 (a + 14) i)
section
variable {G : GT} {P : Int → Mem → Prop} {l : Launch} {a : Int}
theorem sX1_lays {h : Mem} (A : TownS h a) {k : Int} (k0 : 0 ≤ k) (k1 : k < 20) (hp : ∀ h' : Mem, EX h h' → Fr (fun b j => b = a + 15 ∧ 182 * k ≤ j ∧ j < 182 * k + 182) h h' → UndoAt h' a k h → P 0 h') : kX1_lays G l a k h P := by
  refine eX1_lays fun X C e B => ⟨A, ⟨by omega, by omega⟩, fun y ey => ?_⟩
  subst ey
  refine ⟨by omega, by omega, fun h5 e5 => ⟨by omega, by omega, fun h10 e10 => ⟨by omega, by omega, fun h15 e15 => ⟨by omega, by omega, fun h20 e20 => ⟨by omega, by omega, fun h25 e25 => ⟨by omega, by omega, fun h30 e30 => ?_⟩⟩⟩⟩⟩⟩
  have x5 : EX h h5 := by rw [e5]; exact EX_up (EX.rf B.1.2) A.k27 (by decide) rfl (by omega) (okI_a (Or.inl rfl) (EX.rI B.1 A.k rfl))
  have x10 : EX h h10 := by rw [e10]; exact EX_up x5 (A.ext x5.1).k27 (by decide) rfl (by omega) (okI_a (Or.inl rfl) (EX.rI B.1 A.k rfl))
  have x15 : EX h h15 := by rw [e15]; exact EX_cpy x10 (A.ext x10.1).k23 (A.ext x10.1).k27 (by omega)
  have x20 : EX h h20 := by rw [e20]; exact EX_cpy x15 (A.ext x15.1).k24 (A.ext x15.1).k27 (by omega)
  have x25 : EX h h25 := by rw [e25]; exact EX_cpy x20 (A.ext x20.1).k25 (A.ext x20.1).k27 (by omega)
  have x30 : EX h h30 := by rw [e30]; exact EX_cpy x25 (A.ext x25.1).k26 (A.ext x25.1).k27 (by omega)
  refine hp h30 x30 (fun b j q => ?_) ⟨?_, ?_, fun i i0 i1 => ?_, fun i i0 i1 => ?_, fun i i0 i1 => ?_, fun i i0 i1 => ?_⟩
  · by_cases c : b = a + 15
    · rw [e30, cpy_o (by omega), e25, cpy_o (by omega), e20, cpy_o (by omega), e15, cpy_o (by omega), e10, up_n (by omega), e5, up_n (by omega)]
    · rw [e30, cpy_n c, e25, cpy_n c, e20, cpy_n c, e15, cpy_n c, e10, up_n (by omega), e5, up_n (by omega)]
  · rw [e30, cpy_o (by omega), e25, cpy_o (by omega), e20, cpy_o (by omega), e15, cpy_o (by omega), e10, up_n (by omega), e5, up_s]
  · rw [e30, cpy_o (by omega), e25, cpy_o (by omega), e20, cpy_o (by omega), e15, cpy_o (by omega), e10, up_s]
  · rw [e30, cpy_o (by omega), e25, cpy_o (by omega), e20, cpy_o (by omega), e15, cpy_i (by omega) (by omega), e10, up_n (by omega), e5, up_n (by omega), show (0 : Int) + (182 * k + 2 + i - (182 * k + 2)) = i by omega]
  · rw [e30, cpy_o (by omega), e25, cpy_o (by omega), e20, cpy_i (by omega) (by omega), e15, cpy_n (by omega), e10, up_n (by omega), e5, up_n (by omega), show (0 : Int) + (182 * k + 18 + i - (182 * k + 18)) = i by omega]
  · rw [e30, cpy_o (by omega), e25, cpy_i (by omega) (by omega), e20, cpy_n (by omega), e15, cpy_n (by omega), e10, up_n (by omega), e5, up_n (by omega), show (0 : Int) + (182 * k + 98 + i - (182 * k + 98)) = i by omega]
  · rw [e30, cpy_i (by omega) (by omega), e25, cpy_n (by omega), e20, cpy_n (by omega), e15, cpy_n (by omega), e10, up_n (by omega), e5, up_n (by omega), show (0 : Int) + (182 * k + 178 + i - (182 * k + 178)) = i by omega]
/-- a stands as the k-th row of its past told it -/
theorem sX1_takes {h h0 : Mem} (A : TownS h a) {k : Int} (k0 : 0 ≤ k) (k1 : k < 20) (u : UndoAt h a k h0) (hp : ∀ h' : Mem, EX h h' → Fr (sSd a) h h' → (h' a 11 = h0 a 11 ∧ h' a 12 = h0 a 12) → Like h' a h0 a 11 14 → P 0 h') : kX1_takes G l a k h P := by
  refine eX1_takes fun X C e B => ⟨A, ⟨by omega, by omega⟩, fun y ey => ?_⟩
  subst ey
  refine ⟨by omega, by omega, fun h5 e5 => ⟨by omega, by omega, fun h10 e10 => ⟨by omega, by omega, fun h15 e15 => ⟨by omega, by omega, fun h20 e20 => ⟨by omega, by omega, fun h25 e25 => ⟨by omega, by omega, fun h30 e30 => ?_⟩⟩⟩⟩⟩⟩
  have x5 : EX h h5 := by rw [e5]; exact EX_up (EX.rf B.1.2) A.k (by decide) rfl (by decide) (okI_i rfl (EX.rI B.1 A.k27 rfl))
  have x10 : EX h h10 := by rw [e10]; exact EX_up x5 (A.ext x5.1).k (by decide) rfl (by decide) (okI_i rfl (EX.rI B.1 A.k27 rfl))
  have x15 : EX h h15 := by rw [e15]; exact EX_cpy x10 (A.ext x10.1).k27 (A.ext x10.1).k23 (by decide)
  have x20 : EX h h20 := by rw [e20]; exact EX_cpy x15 (A.ext x15.1).k27 (A.ext x15.1).k24 (by decide)
  have x25 : EX h h25 := by rw [e25]; exact EX_cpy x20 (A.ext x20.1).k27 (A.ext x20.1).k25 (by decide)
  have x30 : EX h h30 := by rw [e30]; exact EX_cpy x25 (A.ext x25.1).k27 (A.ext x25.1).k26 (by decide)
  obtain ⟨u1, u2, u3, u4, u5, u6⟩ := u
  refine hp h30 x30 (fun b j q => ?_) ⟨?_, ?_⟩ fun r r0 r1 i i0 i1 => ?_
  · unfold sSd at q
    rw [e30, cpy_n (by omega), e25, cpy_n (by omega), e20, cpy_n (by omega), e15, cpy_n (by omega), e10, up_n (by omega), e5, up_n (by omega)]
  · rw [e30, cpy_n (by omega), e25, cpy_n (by omega), e20, cpy_n (by omega), e15, cpy_n (by omega), e10, up_i (by decide), e5, up_s]; exact u1
  · rw [e30, cpy_n (by omega), e25, cpy_n (by omega), e20, cpy_n (by omega), e15, cpy_n (by omega), e10, up_s]; exact u2
  · have c : r = 11 ∨ r = 12 ∨ r = 13 ∨ r = 14 := by omega
    rcases c with c | c | c | c <;> subst c
    · have i1' : i < 16 := i1
      rw [e30, cpy_n (by omega), e25, cpy_n (by omega), e20, cpy_n (by omega), e15, cpy_i i0 (by omega), e10, up_n (by omega), e5, up_n (by omega), show 182 * k + 2 + (i - 0) = 182 * k + 2 + i by omega]
      exact u3 i i0 i1'
    · have i1' : i < 80 := i1
      rw [e30, cpy_n (by omega), e25, cpy_n (by omega), e20, cpy_i i0 (by omega), e15, cpy_n (by omega), e10, up_n (by omega), e5, up_n (by omega), show 182 * k + 18 + (i - 0) = 182 * k + 18 + i by omega]
      exact u4 i i0 i1'
    · have i1' : i < 80 := i1
      rw [e30, cpy_n (by omega), e25, cpy_i i0 (by omega), e20, cpy_n (by omega), e15, cpy_n (by omega), e10, up_n (by omega), e5, up_n (by omega), show 182 * k + 98 + (i - 0) = 182 * k + 98 + i by omega]
      exact u5 i i0 i1'
    · have i1' : i < 4 := i1
      rw [e30, cpy_i i0 (by omega), e25, cpy_n (by omega), e20, cpy_n (by omega), e15, cpy_n (by omega), e10, up_n (by omega), e5, up_n (by omega), show 182 * k + 178 + (i - 0) = 182 * k + 178 + i by omega]
      exact u6 i i0 i1'
end
