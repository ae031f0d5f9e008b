/-! the model: a whole row of the past -/
set_option maxRecDepth 100000
/-- the k-th row of the past in h is how the model stood in h0 -/
def PastAt (h : Mem) (k : Int) (h0 : Mem) : Prop :=
  h 216 (182 * k) = h0 178 8 ∧ h 216 (182 * k + 1) = h0 178 9 ∧ (∀ i : Int, 0 ≤ i → i < 4 → h 216 (182 * k + 2 + i) = h0 182 i) ∧
  (∀ i : Int, 0 ≤ i → i < 16 → h 216 (182 * k + 6 + i) = h0 185 i) ∧ (∀ i : Int, 0 ≤ i → i < 80 → h 216 (182 * k + 22 + i) = h0 186 i) ∧ (∀ i : Int, 0 ≤ i → i < 80 → h 216 (182 * k + 102 + i) = h0 187 i)
section
variable {G : GT} {P : Int → Mem → Prop} {l : Launch}
theorem sX3_lays {h : Mem} (M : MS h) {k : Int} (k0 : 0 ≤ k) (k1 : k < 20) (hp : ∀ h' : Mem, EX h h' → Fr (fun b j => (b = 177 ∧ (j = 52 ∨ j = 53)) ∨ (b = 216 ∧ 182 * k ≤ j ∧ j < 182 * k + 182)) h h' → PastAt h' k h → P 0 h') : kX3_movesAll G l k 0 h P := by
  refine eX3_movesAll fun X C e B => ⟨M, ⟨by omega, by omega⟩, fun h2 e2 => ⟨Or.inl rfl, fun h6 e6 => ?_⟩⟩
  have x2 : EX h h2 := by rw [e2]; exact EX_up (EX.rf B.1.2) M.k177 (by decide) rfl (by decide) (okI_i rfl ⟨by omega, by omega⟩)
  have x6 : EX h h6 := by rw [e6]; exact EX_up x2 (M.ext x2.1).k177 (by decide) rfl (by decide) (okI_i rfl ⟨by decide, by decide⟩)
  have f6 : Fr (fun b j => b = 177 ∧ (j = 52 ∨ j = 53)) h h6 := by rw [e6, e2]; exact ((Fr.rf _ _).up ⟨rfl, Or.inl rfl⟩).up ⟨rfl, Or.inr rfl⟩
  have p6 : h6 177 52 = 182 * k := by rw [e6, up_i (by decide), e2, up_s]
  have q6 : h6 177 53 = 0 := by rw [e6, up_s]
  have M6 := M.ext x6.1
  refine eX3_moves fun X2 C2 d2 B2 => ⟨M6, fun _ => ?_, fun q => absurd q6 q⟩
  rw [p6]
  refine ⟨by omega, by omega, fun ha ea => ⟨⟨by omega, by omega⟩, fun hb eb ee h15 e15 => ?_⟩⟩
  have M15k : MS hb := M6.ext ee.1
  have x15 : EX h h15 := by rw [e15]; exact EX_up (x6.tr ee) M15k.k178 (by decide) rfl (by decide) (okI_a (Or.inl rfl) (EX.rI B.1 M.k178 rfl))
  have fb : Fr (fun b j => (b = 177 ∧ j = 52) ∨ (b = 216 ∧ j = 182 * k)) h6 hb := by rw [eb, ea]; exact ((Fr.rf _ _).up (Or.inr ⟨rfl, rfl⟩)).up (Or.inl ⟨rfl, rfl⟩)
  have f15 : ∀ b j : Int, ¬ ((b = 177 ∧ (j = 52 ∨ j = 53)) ∨ (b = 216 ∧ j = 182 * k)) → h15 b j = h b j := fun b j q => by
    rw [e15]
    by_cases c : b = 178 ∧ j = 8
    · rw [c.1, c.2, up_s]
    · rw [up_n c, fb b j (by omega)]; exact f6 b j (by omega)
  have v15 : h15 216 (182 * k) = h 178 8 := by rw [e15, up_a (by decide), eb, up_a (by decide), ea, up_s]
  have p15 : h15 177 52 = 182 * k + 1 := by rw [e15, up_a (by decide), eb, up_s]
  have q15 : h15 177 53 = 0 := by rw [e15, up_a (by decide), fb 177 53 (by omega)]; exact q6
  have M15 := M.ext x15.1
  have h9 : hb 178 9 = h 178 9 := (fb 178 9 (by omega)).trans (f6 178 9 (by omega))
  rw [h9]
  refine eX3_moves fun X3 C3 d3 B3 => ⟨M15, fun _ => ?_, fun q => absurd q15 q⟩
  rw [p15]
  refine ⟨by omega, by omega, fun hc ec => ⟨⟨by omega, by omega⟩, fun hd ed ee2 h24 e24 => ?_⟩⟩
  have M24k : MS hd := M15.ext ee2.1
  have x24 : EX h h24 := by rw [e24]; exact EX_up (x15.tr ee2) M24k.k178 (by decide) rfl (by decide) (okI_a (Or.inl rfl) (EX.rI B.1 M.k178 rfl))
  have fd : Fr (fun b j => (b = 177 ∧ j = 52) ∨ (b = 216 ∧ j = 182 * k + 1)) h15 hd := by rw [ed, ec]; exact ((Fr.rf _ _).up (Or.inr ⟨rfl, rfl⟩)).up (Or.inl ⟨rfl, rfl⟩)
  have f24 : ∀ b j : Int, ¬ ((b = 177 ∧ (j = 52 ∨ j = 53)) ∨ (b = 216 ∧ (j = 182 * k ∨ j = 182 * k + 1))) → h24 b j = h b j := fun b j q => by
    rw [e24]
    by_cases c : b = 178 ∧ j = 9
    · rw [c.1, c.2, up_s]
    · rw [up_n c, fd b j (by omega)]; exact f15 b j (by omega)
  have v24 : h24 216 (182 * k) = h 178 8 := by rw [e24, up_a (by decide), fd 216 _ (by omega)]; exact v15
  have w24 : h24 216 (182 * k + 1) = h 178 9 := by rw [e24, up_a (by decide), ed, up_a (by decide), ec, up_s]
  have p24 : h24 177 52 = 182 * k + 1 + 1 := by rw [e24, up_a (by decide), ed, up_s]
  have q24 : h24 177 53 = 0 := by rw [e24, up_a (by decide), fd 177 53 (by omega)]; exact q15
  have M24 := M.ext x24.1
  refine sX3_lay M24 M24.k182 M24.l182 ⟨by decide, by decide, by decide⟩ (by decide) q24 p24 (by omega) (by omega) fun g1 a1 b1 c1 d1 _ => ?_
  have N1 := M24.ext a1.1
  have r1 : g1 177 53 = 0 := (b1 177 53 (by omega)).trans q24
  refine sX3_lay N1 N1.k185 N1.l185 ⟨by decide, by decide, by decide⟩ (by decide) r1 c1 (by omega) (by omega) fun g2 a2 b2 c2 d2 _ => ?_
  have N2 := N1.ext a2.1
  have r2 : g2 177 53 = 0 := (b2 177 53 (by omega)).trans r1
  refine sX3_lay N2 N2.k186 N2.l186 ⟨by decide, by decide, by decide⟩ (by decide) r2 c2 (by omega) (by omega) fun g3 a3 b3 c3 d3 _ => ?_
  have N3 := N2.ext a3.1
  have r3 : g3 177 53 = 0 := (b3 177 53 (by omega)).trans r2
  refine sX3_lay N3 N3.k187 N3.l187 ⟨by decide, by decide, by decide⟩ (by decide) r3 c3 (by omega) (by omega) fun g4 a4 b4 c4 d4 _ => ?_
  refine hp g4 ((((x24.tr a1).tr a2).tr a3).tr a4) (fun b j q => ?_) ⟨?_, ?_, fun i i0 i1 => ?_, fun i i0 i1 => ?_, fun i i0 i1 => ?_, fun i i0 i1 => ?_⟩
  · rw [b4 b j (by omega), b3 b j (by omega), b2 b j (by omega), b1 b j (by omega)]; exact f24 b j (by omega)
  · rw [b4 216 _ (by omega), b3 216 _ (by omega), b2 216 _ (by omega), b1 216 _ (by omega)]; exact v24
  · rw [b4 216 _ (by omega), b3 216 _ (by omega), b2 216 _ (by omega), b1 216 _ (by omega)]; exact w24
  · rw [b4 216 _ (by omega), b3 216 _ (by omega), b2 216 _ (by omega), show 182 * k + 2 + i = 182 * k + 1 + 1 + i by omega, d1 i i0 i1]; exact f24 182 i (by omega)
  · rw [b4 216 _ (by omega), b3 216 _ (by omega), show 182 * k + 6 + i = 182 * k + 1 + 1 + 4 + i by omega, d2 i i0 i1, b1 185 i (by omega)]; exact f24 185 i (by omega)
  · rw [b4 216 _ (by omega), show 182 * k + 22 + i = 182 * k + 1 + 1 + 4 + 16 + i by omega, d3 i i0 i1, b2 186 i (by omega), b1 186 i (by omega)]; exact f24 186 i (by omega)
  · rw [show 182 * k + 102 + i = 182 * k + 1 + 1 + 4 + 16 + 80 + i by omega, d4 i i0 i1, b3 187 i (by omega), b2 187 i (by omega), b1 187 i (by omega)]; exact f24 187 i (by omega)
end
