/-! the model: a whole row of the past is taken -/
set_option maxRecDepth 100000
/-- the rows that acts change are as in h0 -/
def Act9 (h h0 : Mem) : Prop := h 178 8 = h0 178 8 ∧ h 178 9 = h0 178 9 ∧ (∀ i : Int, 0 ≤ i → i < 4 → h 182 i = h0 182 i) ∧ (∀ i : Int, 0 ≤ i → i < 16 → h 185 i = h0 185 i) ∧ (∀ i : Int, 0 ≤ i → i < 80 → h 186 i = h0 186 i) ∧ (∀ i : Int, 0 ≤ i → i < 80 → h 187 i = h0 187 i)
def sTk : Int → Int → Prop := fun b j => (b = 177 ∧ (j = 52 ∨ j = 53)) ∨ (b = 178 ∧ (j = 8 ∨ j = 9)) ∨ b = 182 ∨ (185 ≤ b ∧ b ≤ 187)
section
variable {G : GT} {P : Int → Mem → Prop} {l : Launch}
theorem sX3_takes {h h0 : Mem} (M : MS h) {k : Int} (k0 : 0 ≤ k) (k1 : k < 20) (u : PastAt h k h0) (hp : ∀ h' : Mem, EX h h' → Fr sTk h h' → Act9 h' h0 → P 0 h') : kX3_movesAll G l k 1 h P := by
  obtain ⟨u1, u2, u3, u4, u5, u6⟩ := u
  refine eX3_movesAll fun X C e B => ⟨M, ⟨by omega, by omega⟩, fun h2 e2 => ⟨Or.inr rfl, fun h6 e6 => ?_⟩⟩
  have x2 : EX h h2 := by rw [e2]; exact EX_up (EX.rf B.1.2) M.k177 (by decide) rfl (by decide) (okI_i rfl ⟨by omega, by omega⟩)
  have x6 : EX h h6 := by rw [e6]; exact EX_up x2 (M.ext x2.1).k177 (by decide) rfl (by decide) (okI_i rfl ⟨by decide, by decide⟩)
  have f6 : Fr (fun b j => b = 177 ∧ (j = 52 ∨ j = 53)) h h6 := by rw [e6, e2]; exact ((Fr.rf _ _).up ⟨rfl, Or.inl rfl⟩).up ⟨rfl, Or.inr rfl⟩
  have p6 : h6 177 52 = 182 * k := by rw [e6, up_i (by decide), e2, up_s]
  have q6 : h6 177 53 ≠ 0 := by rw [e6, up_s]; decide
  have M6 := M.ext x6.1
  refine eX3_moves fun X2 C2 d2 B2 => ⟨M6, fun q => absurd q q6, fun _ => ?_⟩
  rw [p6, f6 216 (182 * k) (by omega), u1]
  refine ⟨by omega, by omega, fun y ey ha ea => ⟨⟨by omega, by omega⟩, fun hb eb ee h15 e15 => ?_⟩⟩
  subst ey
  have sa : ∀ b j : Int, ha b j = h6 b j := fun b j => by
    rw [ea]
    by_cases q : b = 216 ∧ j = 182 * k
    · rw [q.1, q.2, up_s, f6 216 _ (by omega)]; exact u1.symm
    · exact up_n q
  have fb : Fr (fun b j => b = 177 ∧ j = 52) h6 hb := fun b j q => by rw [eb, up_n q]; exact sa b j
  have rb : R32 (h0 178 8) := by rw [← u1]; exact EX.rI B.1 M.k216 rfl
  have rh : R32 (h0 178 9) := by rw [← u2]; exact EX.rI B.1 M.k216 rfl
  have x15 : EX h h15 := by rw [e15]; exact EX_up (x6.tr ee) (M6.ext ee.1).k178 (by decide) rfl (by decide) (okI_a (Or.inl rfl) rb)
  have f15 : ∀ b j : Int, ¬ ((b = 177 ∧ (j = 52 ∨ j = 53)) ∨ (b = 178 ∧ j = 8)) → h15 b j = h b j := fun b j q => by
    rw [e15, up_n (by omega), fb b j (by omega)]; exact f6 b j (by omega)
  have v15 : h15 178 8 = h0 178 8 := by rw [e15, up_s]
  have p15 : h15 177 52 = 182 * k + 1 := by rw [e15, up_a (by decide), eb, up_s]
  have q15 : h15 177 53 ≠ 0 := by rw [e15, up_a (by decide), fb 177 53 (by omega)]; exact q6
  have M15 := M.ext x15.1
  refine eX3_moves fun X3 C3 d3 B3 => ⟨M15, fun q => absurd q q15, fun _ => ?_⟩
  rw [p15, f15 216 (182 * k + 1) (by omega), u2]
  refine ⟨by omega, by omega, fun y ey hc ec => ⟨⟨by omega, by omega⟩, fun hd ed ee2 h24 e24 => ?_⟩⟩
  subst ey
  have sc : ∀ b j : Int, hc b j = h15 b j := fun b j => by
    rw [ec]
    by_cases q : b = 216 ∧ j = 182 * k + 1
    · rw [q.1, q.2, up_s, f15 216 _ (by omega)]; exact u2.symm
    · exact up_n q
  have fd : Fr (fun b j => b = 177 ∧ j = 52) h15 hd := fun b j q => by rw [ed, up_n q]; exact sc b j
  have x24 : EX h h24 := by rw [e24]; exact EX_up (x15.tr ee2) (M15.ext ee2.1).k178 (by decide) rfl (by decide) (okI_a (Or.inl rfl) rh)
  have f24 : ∀ b j : Int, ¬ ((b = 177 ∧ (j = 52 ∨ j = 53)) ∨ (b = 178 ∧ (j = 8 ∨ j = 9))) → h24 b j = h b j := fun b j q => by
    rw [e24, up_n (by omega), fd b j (by omega)]; exact f15 b j (by omega)
  have v24 : h24 178 8 = h0 178 8 := by rw [e24, up_i (by decide), fd 178 8 (by omega)]; exact v15
  have w24 : h24 178 9 = h0 178 9 := by rw [e24, up_s]
  have p24 : h24 177 52 = 182 * k + 1 + 1 := by rw [e24, up_a (by decide), ed, up_s]
  have q24 : h24 177 53 ≠ 0 := by rw [e24, up_a (by decide), fd 177 53 (by omega)]; exact q15
  have M24 := M.ext x24.1
  refine sX3_take M24 M24.k182 M24.l182 ⟨by decide, by decide, by decide⟩ (by decide) q24 p24 (by omega) (by omega) fun g1 a1 b1 c1 d1 _ => ?_
  have N1 := M24.ext a1.1
  have r1 : g1 177 53 ≠ 0 := by rw [b1 177 53 (by omega)]; exact q24
  refine sX3_take N1 N1.k185 N1.l185 ⟨by decide, by decide, by decide⟩ (by decide) r1 c1 (by omega) (by omega) fun g2 a2 b2 c2 d2 _ => ?_
  have N2 := N1.ext a2.1
  have r2 : g2 177 53 ≠ 0 := by rw [b2 177 53 (by omega)]; exact r1
  refine sX3_take N2 N2.k186 N2.l186 ⟨by decide, by decide, by decide⟩ (by decide) r2 c2 (by omega) (by omega) fun g3 a3 b3 c3 d3 _ => ?_
  have N3 := N2.ext a3.1
  have r3 : g3 177 53 ≠ 0 := by rw [b3 177 53 (by omega)]; exact r2
  refine sX3_take N3 N3.k187 N3.l187 ⟨by decide, by decide, by decide⟩ (by decide) r3 c3 (by omega) (by omega) fun g4 a4 b4 c4 d4 _ => ?_
  refine hp g4 ((((x24.tr a1).tr a2).tr a3).tr a4) (fun b j q => ?_) ⟨?_, ?_, fun i i0 i1 => ?_, fun i i0 i1 => ?_, fun i i0 i1 => ?_, fun i i0 i1 => ?_⟩
  · unfold sTk at q
    rw [b4 b j (by omega), b3 b j (by omega), b2 b j (by omega), b1 b j (by omega)]; exact f24 b j (by omega)
  · rw [b4 178 _ (by omega), b3 178 _ (by omega), b2 178 _ (by omega), b1 178 _ (by omega)]; exact v24
  · rw [b4 178 _ (by omega), b3 178 _ (by omega), b2 178 _ (by omega), b1 178 _ (by omega)]; exact w24
  · rw [b4 182 _ (by omega), b3 182 _ (by omega), b2 182 _ (by omega), d1 i i0 i1, f24 216 _ (by omega), show 182 * k + 1 + 1 + i = 182 * k + 2 + i by omega]; exact u3 i i0 i1
  · rw [b4 185 _ (by omega), b3 185 _ (by omega), d2 i i0 i1, b1 216 _ (by omega), f24 216 _ (by omega), show 182 * k + 1 + 1 + 4 + i = 182 * k + 6 + i by omega]; exact u4 i i0 i1
  · rw [b4 186 _ (by omega), d3 i i0 i1, b2 216 _ (by omega), b1 216 _ (by omega), f24 216 _ (by omega), show 182 * k + 1 + 1 + 4 + 16 + i = 182 * k + 22 + i by omega]; exact u5 i i0 i1
  · rw [d4 i i0 i1, b3 216 _ (by omega), b2 216 _ (by omega), b1 216 _ (by omega), f24 216 _ (by omega), show 182 * k + 1 + 1 + 4 + 16 + 80 + i = 182 * k + 102 + i by omega]; exact u6 i i0 i1
end
