/-! a town that is made like another one: all of it -/
set_option maxRecDepth 100000
def sCp (a : Int) : Int → Int → Prop := fun b j => (b = a ∧ 0 ≤ j ∧ j ≤ 12) ∨ (a + 1 ≤ b ∧ b ≤ a + 15)
section
variable {G : GT} {P : Int → Mem → Prop} {l : Launch} {a o : Int}
set_option maxHeartbeats 4000000 in
theorem sX1_copies {h : Mem} (A : TownS h a) (O : TownS h o) (d : apart a o) (hp : ∀ h' : Mem, EX h h' → Fr (sCp a) h h' → (∀ j : Int, 0 ≤ j → j ≤ 12 → h' a j = h o j) → Like h' a h o 1 15 → P a h') : kX1_copies G l a o h P := by
  have d0 := d
  unfold apart at d
  refine eX1_copies fun X C e B => ⟨O, A, fun h1 e1 h4 e4 h7 e7 h10 e10 h13 e13 h16 e16 h19 e19 h22 e22 h25 e25 h28 e28 h31 e31 h34 e34 h37 e37 h40 e40 h43 e43 h46 e46 h49 e49 h52 e52 h55 e55 h58 e58 h61 e61 h64 e64 => ?_⟩
  have x1 : EX h h1 := by rw [e1]; exact EX_up (EX.rf B.2) A.k (by decide) rfl (by decide) (okI_i rfl (EX.rI B O.k rfl))
  have x4 : EX h h4 := by rw [e4]; exact EX_up x1 (A.ext x1.1).k (by decide) rfl (by decide) (okI_i rfl (EX.rI B O.k rfl))
  have x7 : EX h h7 := by rw [e7]; exact EX_up x4 (A.ext x4.1).k (by decide) rfl (by decide) (okI_i rfl (EX.rI B O.k rfl))
  have x10 : EX h h10 := by rw [e10]; exact EX_up x7 (A.ext x7.1).k (by decide) rfl (by decide) (okI_i rfl (EX.rI B O.k rfl))
  have x13 : EX h h13 := by rw [e13]; exact EX_up x10 (A.ext x10.1).k (by decide) rfl (by decide) (okI_i rfl (EX.rI B O.k rfl))
  have x16 : EX h h16 := by rw [e16]; exact EX_up x13 (A.ext x13.1).k (by decide) rfl (by decide) (okI_i rfl (EX.rI B O.k rfl))
  have x19 : EX h h19 := by rw [e19]; exact EX_up x16 (A.ext x16.1).k (by decide) rfl (by decide) (okI_i rfl (EX.rI B O.k rfl))
  have x22 : EX h h22 := by rw [e22]; exact EX_up x19 (A.ext x19.1).k (by decide) rfl (by decide) (okI_i rfl (EX.rI B O.k rfl))
  have x25 : EX h h25 := by rw [e25]; exact EX_up x22 (A.ext x22.1).k (by decide) rfl (by decide) (okI_i rfl (EX.rI B O.k rfl))
  have x28 : EX h h28 := by rw [e28]; exact EX_up x25 (A.ext x25.1).k (by decide) rfl (by decide) (okI_i rfl (EX.rI B O.k rfl))
  have x31 : EX h h31 := by rw [e31]; exact EX_up x28 (A.ext x28.1).k (by decide) rfl (by decide) (okI_i rfl (EX.rI B O.k rfl))
  have x34 : EX h h34 := by rw [e34]; exact EX_cpy x31 (O.ext x31.1).k13 (A.ext x31.1).k13 (by decide)
  have x37 : EX h h37 := by rw [e37]; exact EX_cpy x34 (O.ext x34.1).k14 (A.ext x34.1).k14 (by decide)
  have x40 : EX h h40 := by rw [e40]; exact EX_cpy x37 (O.ext x37.1).k15 (A.ext x37.1).k15 (by decide)
  have x43 : EX h h43 := by rw [e43]; exact EX_cpy x40 (O.ext x40.1).k16 (A.ext x40.1).k16 (by decide)
  have x46 : EX h h46 := by rw [e46]; exact EX_cpy x43 (O.ext x43.1).k17 (A.ext x43.1).k17 (by decide)
  have x49 : EX h h49 := by rw [e49]; exact EX_cpy x46 (O.ext x46.1).k18 (A.ext x46.1).k18 (by decide)
  have x52 : EX h h52 := by rw [e52]; exact EX_cpy x49 (O.ext x49.1).k19 (A.ext x49.1).k19 (by decide)
  have x55 : EX h h55 := by rw [e55]; exact EX_cpy x52 (O.ext x52.1).k20 (A.ext x52.1).k20 (by decide)
  have x58 : EX h h58 := by rw [e58]; exact EX_cpy x55 (O.ext x55.1).k21 (A.ext x55.1).k21 (by decide)
  have x61 : EX h h61 := by rw [e61]; exact EX_cpy x58 (O.ext x58.1).k22 (A.ext x58.1).k22 (by decide)
  have x64 : EX h h64 := by rw [e64]; exact EX_cpy x61 (O.ext x61.1).k27 (A.ext x61.1).k27 (by decide)
  have far : ∀ b j : Int, ¬ ((b = a ∧ 0 ≤ j ∧ j ≤ 10) ∨ (a + 1 ≤ b ∧ b ≤ a + 10) ∨ b = a + 15) → h64 b j = h b j := fun b j q => by
    rw [e64, cpy_n (by omega), e61, cpy_n (by omega), e58, cpy_n (by omega), e55, cpy_n (by omega), e52, cpy_n (by omega), e49, cpy_n (by omega), e46, cpy_n (by omega), e43, cpy_n (by omega), e40, cpy_n (by omega), e37, cpy_n (by omega), e34, cpy_n (by omega), e31, up_n (by omega), e28, up_n (by omega), e25, up_n (by omega), e22, up_n (by omega), e19, up_n (by omega), e16, up_n (by omega), e13, up_n (by omega), e10, up_n (by omega), e7, up_n (by omega), e4, up_n (by omega), e1, up_n (by omega)]
  have sc : ∀ j : Int, 0 ≤ j → j ≤ 10 → h64 a j = h o j := fun j j0 j1 => by
    rw [e64, cpy_n (by omega), e61, cpy_n (by omega), e58, cpy_n (by omega), e55, cpy_n (by omega), e52, cpy_n (by omega), e49, cpy_n (by omega), e46, cpy_n (by omega), e43, cpy_n (by omega), e40, cpy_n (by omega), e37, cpy_n (by omega), e34, cpy_n (by omega)]
    have c : j = 0 ∨ j = 1 ∨ j = 2 ∨ j = 3 ∨ j = 4 ∨ j = 5 ∨ j = 6 ∨ j = 7 ∨ j = 8 ∨ j = 9 ∨ j = 10 := by omega
    rcases c with c | c | c | c | c | c | c | c | c | c | c <;> subst c
    · rw [e31, up_i (by decide), e28, up_i (by decide), e25, up_i (by decide), e22, up_i (by decide), e19, up_i (by decide), e16, up_i (by decide), e13, up_i (by decide), e10, up_i (by decide), e7, up_i (by decide), e4, up_i (by decide), e1, up_s]
    · rw [e31, up_i (by decide), e28, up_i (by decide), e25, up_i (by decide), e22, up_i (by decide), e19, up_i (by decide), e16, up_i (by decide), e13, up_i (by decide), e10, up_i (by decide), e7, up_i (by decide), e4, up_s]
    · rw [e31, up_i (by decide), e28, up_i (by decide), e25, up_i (by decide), e22, up_i (by decide), e19, up_i (by decide), e16, up_i (by decide), e13, up_i (by decide), e10, up_i (by decide), e7, up_s]
    · rw [e31, up_i (by decide), e28, up_i (by decide), e25, up_i (by decide), e22, up_i (by decide), e19, up_i (by decide), e16, up_i (by decide), e13, up_i (by decide), e10, up_s]
    · rw [e31, up_i (by decide), e28, up_i (by decide), e25, up_i (by decide), e22, up_i (by decide), e19, up_i (by decide), e16, up_i (by decide), e13, up_s]
    · rw [e31, up_i (by decide), e28, up_i (by decide), e25, up_i (by decide), e22, up_i (by decide), e19, up_i (by decide), e16, up_s]
    · rw [e31, up_i (by decide), e28, up_i (by decide), e25, up_i (by decide), e22, up_i (by decide), e19, up_s]
    · rw [e31, up_i (by decide), e28, up_i (by decide), e25, up_i (by decide), e22, up_s]
    · rw [e31, up_i (by decide), e28, up_i (by decide), e25, up_s]
    · rw [e31, up_i (by decide), e28, up_s]
    · rw [e31, up_s]
  have r1 : ∀ x : Int, 0 ≤ x → x < 4 → h64 (a + 1) x = h (o + 1) x := fun x z0 z1 => by
    rw [e64, cpy_n (by omega), e61, cpy_n (by omega), e58, cpy_n (by omega), e55, cpy_n (by omega), e52, cpy_n (by omega), e49, cpy_n (by omega), e46, cpy_n (by omega), e43, cpy_n (by omega), e40, cpy_n (by omega), e37, cpy_n (by omega), e34, cpy_s z0 z1, e31, up_n (by omega), e28, up_n (by omega), e25, up_n (by omega), e22, up_n (by omega), e19, up_n (by omega), e16, up_n (by omega), e13, up_n (by omega), e10, up_n (by omega), e7, up_n (by omega), e4, up_n (by omega), e1, up_n (by omega)]
  have r2 : ∀ x : Int, 0 ≤ x → x < 4 → h64 (a + 2) x = h (o + 2) x := fun x z0 z1 => by
    rw [e64, cpy_n (by omega), e61, cpy_n (by omega), e58, cpy_n (by omega), e55, cpy_n (by omega), e52, cpy_n (by omega), e49, cpy_n (by omega), e46, cpy_n (by omega), e43, cpy_n (by omega), e40, cpy_n (by omega), e37, cpy_s z0 z1, e34, cpy_n (by omega), e31, up_n (by omega), e28, up_n (by omega), e25, up_n (by omega), e22, up_n (by omega), e19, up_n (by omega), e16, up_n (by omega), e13, up_n (by omega), e10, up_n (by omega), e7, up_n (by omega), e4, up_n (by omega), e1, up_n (by omega)]
  have r3 : ∀ x : Int, 0 ≤ x → x < 4 → h64 (a + 3) x = h (o + 3) x := fun x z0 z1 => by
    rw [e64, cpy_n (by omega), e61, cpy_n (by omega), e58, cpy_n (by omega), e55, cpy_n (by omega), e52, cpy_n (by omega), e49, cpy_n (by omega), e46, cpy_n (by omega), e43, cpy_n (by omega), e40, cpy_s z0 z1, e37, cpy_n (by omega), e34, cpy_n (by omega), e31, up_n (by omega), e28, up_n (by omega), e25, up_n (by omega), e22, up_n (by omega), e19, up_n (by omega), e16, up_n (by omega), e13, up_n (by omega), e10, up_n (by omega), e7, up_n (by omega), e4, up_n (by omega), e1, up_n (by omega)]
  have r4 : ∀ x : Int, 0 ≤ x → x < 16 → h64 (a + 4) x = h (o + 4) x := fun x z0 z1 => by
    rw [e64, cpy_n (by omega), e61, cpy_n (by omega), e58, cpy_n (by omega), e55, cpy_n (by omega), e52, cpy_n (by omega), e49, cpy_n (by omega), e46, cpy_n (by omega), e43, cpy_s z0 z1, e40, cpy_n (by omega), e37, cpy_n (by omega), e34, cpy_n (by omega), e31, up_n (by omega), e28, up_n (by omega), e25, up_n (by omega), e22, up_n (by omega), e19, up_n (by omega), e16, up_n (by omega), e13, up_n (by omega), e10, up_n (by omega), e7, up_n (by omega), e4, up_n (by omega), e1, up_n (by omega)]
  have r5 : ∀ x : Int, 0 ≤ x → x < 4 → h64 (a + 5) x = h (o + 5) x := fun x z0 z1 => by
    rw [e64, cpy_n (by omega), e61, cpy_n (by omega), e58, cpy_n (by omega), e55, cpy_n (by omega), e52, cpy_n (by omega), e49, cpy_n (by omega), e46, cpy_s z0 z1, e43, cpy_n (by omega), e40, cpy_n (by omega), e37, cpy_n (by omega), e34, cpy_n (by omega), e31, up_n (by omega), e28, up_n (by omega), e25, up_n (by omega), e22, up_n (by omega), e19, up_n (by omega), e16, up_n (by omega), e13, up_n (by omega), e10, up_n (by omega), e7, up_n (by omega), e4, up_n (by omega), e1, up_n (by omega)]
  have r6 : ∀ x : Int, 0 ≤ x → x < 4 → h64 (a + 6) x = h (o + 6) x := fun x z0 z1 => by
    rw [e64, cpy_n (by omega), e61, cpy_n (by omega), e58, cpy_n (by omega), e55, cpy_n (by omega), e52, cpy_n (by omega), e49, cpy_s z0 z1, e46, cpy_n (by omega), e43, cpy_n (by omega), e40, cpy_n (by omega), e37, cpy_n (by omega), e34, cpy_n (by omega), e31, up_n (by omega), e28, up_n (by omega), e25, up_n (by omega), e22, up_n (by omega), e19, up_n (by omega), e16, up_n (by omega), e13, up_n (by omega), e10, up_n (by omega), e7, up_n (by omega), e4, up_n (by omega), e1, up_n (by omega)]
  have r7 : ∀ x : Int, 0 ≤ x → x < 16 → h64 (a + 7) x = h (o + 7) x := fun x z0 z1 => by
    rw [e64, cpy_n (by omega), e61, cpy_n (by omega), e58, cpy_n (by omega), e55, cpy_n (by omega), e52, cpy_s z0 z1, e49, cpy_n (by omega), e46, cpy_n (by omega), e43, cpy_n (by omega), e40, cpy_n (by omega), e37, cpy_n (by omega), e34, cpy_n (by omega), e31, up_n (by omega), e28, up_n (by omega), e25, up_n (by omega), e22, up_n (by omega), e19, up_n (by omega), e16, up_n (by omega), e13, up_n (by omega), e10, up_n (by omega), e7, up_n (by omega), e4, up_n (by omega), e1, up_n (by omega)]
  have r8 : ∀ x : Int, 0 ≤ x → x < 80 → h64 (a + 8) x = h (o + 8) x := fun x z0 z1 => by
    rw [e64, cpy_n (by omega), e61, cpy_n (by omega), e58, cpy_n (by omega), e55, cpy_s z0 z1, e52, cpy_n (by omega), e49, cpy_n (by omega), e46, cpy_n (by omega), e43, cpy_n (by omega), e40, cpy_n (by omega), e37, cpy_n (by omega), e34, cpy_n (by omega), e31, up_n (by omega), e28, up_n (by omega), e25, up_n (by omega), e22, up_n (by omega), e19, up_n (by omega), e16, up_n (by omega), e13, up_n (by omega), e10, up_n (by omega), e7, up_n (by omega), e4, up_n (by omega), e1, up_n (by omega)]
  have r9 : ∀ x : Int, 0 ≤ x → x < 10 → h64 (a + 9) x = h (o + 9) x := fun x z0 z1 => by
    rw [e64, cpy_n (by omega), e61, cpy_n (by omega), e58, cpy_s z0 z1, e55, cpy_n (by omega), e52, cpy_n (by omega), e49, cpy_n (by omega), e46, cpy_n (by omega), e43, cpy_n (by omega), e40, cpy_n (by omega), e37, cpy_n (by omega), e34, cpy_n (by omega), e31, up_n (by omega), e28, up_n (by omega), e25, up_n (by omega), e22, up_n (by omega), e19, up_n (by omega), e16, up_n (by omega), e13, up_n (by omega), e10, up_n (by omega), e7, up_n (by omega), e4, up_n (by omega), e1, up_n (by omega)]
  have r10 : ∀ x : Int, 0 ≤ x → x < 30 → h64 (a + 10) x = h (o + 10) x := fun x z0 z1 => by
    rw [e64, cpy_n (by omega), e61, cpy_s z0 z1, e58, cpy_n (by omega), e55, cpy_n (by omega), e52, cpy_n (by omega), e49, cpy_n (by omega), e46, cpy_n (by omega), e43, cpy_n (by omega), e40, cpy_n (by omega), e37, cpy_n (by omega), e34, cpy_n (by omega), e31, up_n (by omega), e28, up_n (by omega), e25, up_n (by omega), e22, up_n (by omega), e19, up_n (by omega), e16, up_n (by omega), e13, up_n (by omega), e10, up_n (by omega), e7, up_n (by omega), e4, up_n (by omega), e1, up_n (by omega)]
  have r15 : ∀ x : Int, 0 ≤ x → x < 3640 → h64 (a + 15) x = h (o + 15) x := fun x z0 z1 => by
    rw [e64, cpy_s z0 z1, e61, cpy_n (by omega), e58, cpy_n (by omega), e55, cpy_n (by omega), e52, cpy_n (by omega), e49, cpy_n (by omega), e46, cpy_n (by omega), e43, cpy_n (by omega), e40, cpy_n (by omega), e37, cpy_n (by omega), e34, cpy_n (by omega), e31, up_n (by omega), e28, up_n (by omega), e25, up_n (by omega), e22, up_n (by omega), e19, up_n (by omega), e16, up_n (by omega), e13, up_n (by omega), e10, up_n (by omega), e7, up_n (by omega), e4, up_n (by omega), e1, up_n (by omega)]
  refine sX1_standsAs (A.ext x64.1) (O.ext x64.1) d0 fun h' e' f' q' lk' _ => ⟨rfl, hp h' (x64.tr e') (fun b j z => ?_) (fun j j0 j1 => ?_) fun k k0 k1 x z0 z1 => ?_⟩
  · rw [f' b j (by unfold sSd; unfold sCp at z; omega)]
    exact far b j (by unfold sCp at z; omega)
  · by_cases c : j ≤ 10
    · rw [f' a j (by unfold sSd; omega)]; exact sc j j0 c
    · have c2 : j = 11 ∨ j = 12 := by omega
      rcases c2 with c2 | c2 <;> subst c2
      · rw [q'.1]; exact far o 11 (by omega)
      · rw [q'.2]; exact far o 12 (by omega)
  · by_cases c : 11 ≤ k ∧ k ≤ 14
    · rw [lk' k c.1 c.2 x z0 z1]; exact far (o + k) x (by omega)
    · rw [f' (a + k) x (by unfold sSd; omega)]
      have c2 : k = 1 ∨ k = 2 ∨ k = 3 ∨ k = 4 ∨ k = 5 ∨ k = 6 ∨ k = 7 ∨ k = 8 ∨ k = 9 ∨ k = 10 ∨ k = 15 := by omega
      rcases c2 with c2 | c2 | c2 | c2 | c2 | c2 | c2 | c2 | c2 | c2 | c2 <;> subst c2
      · exact r1 x z0 z1
      · exact r2 x z0 z1
      · exact r3 x z0 z1
      · exact r4 x z0 z1
      · exact r5 x z0 z1
      · exact r6 x z0 z1
      · exact r7 x z0 z1
      · exact r8 x z0 z1
      · exact r9 x z0 z1
      · exact r10 x z0 z1
      · exact r15 x z0 z1
theorem TR.like {h h' : Mem} {E : En} {S : St} (T : TR h o E S) (A : TownS h a) (e : Ext h h') (q : ∀ j : Int, 0 ≤ j → j ≤ 12 → h' a j = h o j) (lk : Like h' a h o 1 15) : TR h' a E S := by
  have Kc := T.en.cm
  have Kp := T.en.pm
  have Kt := T.en.tm
  have Kr := T.en.rm
  obtain ⟨⟨a1, a2, a3, a4, a5, a6, a7, a8⟩, b, c, d, g⟩ := T.te
  refine ⟨A.ext e, T.en, T.st, ⟨⟨(q 0 (by decide) (by decide)).trans a1, (q 1 (by decide) (by decide)).trans a2, (q 2 (by decide) (by decide)).trans a3, (q 3 (by decide) (by decide)).trans a4, (q 4 (by decide) (by decide)).trans a5, (q 5 (by decide) (by decide)).trans a6, (q 6 (by decide) (by decide)).trans a7, (q 7 (by decide) (by decide)).trans a8⟩, ?_, ?_, ?_, ?_⟩, ⟨(q 11 (by decide) (by decide)).trans T.td.1.1, (q 12 (by decide) (by decide)).trans T.td.1.2⟩, ?_, ?_⟩
  · intro t t0 t1
    rw [lk 1 (by decide) (by decide) t t0 (by show t < 4; omega), lk 2 (by decide) (by decide) t t0 (by show t < 4; omega), lk 3 (by decide) (by decide) t t0 (by show t < 4; omega)]
    exact b t t0 t1
  · intro x x0 x1; rw [lk 4 (by decide) (by decide) x x0 (by show x < 16; omega)]; exact c x x0 x1
  · intro x x0 x1; rw [lk 5 (by decide) (by decide) x x0 (by show x < 4; omega)]; exact d x x0 x1
  · intro x x0 x1
    rw [lk 9 (by decide) (by decide) (2 * x) (by omega) (by show 2 * x < 10; omega), lk 9 (by decide) (by decide) (2 * x + 1) (by omega) (by show 2 * x + 1 < 10; omega)]
    exact g x x0 x1
  · intro x x0 x1
    have Z := (T.st.co x x0 x1).1
    rw [lk 11 (by decide) (by decide) x x0 (by show x < 16; omega)]
    exact ⟨(T.co x0 x1).1, (T.co x0 x1).2.mono fun i i0 i1 => ⟨lk 12 (by decide) (by decide) i (by omega) (by show i < 80; omega), lk 13 (by decide) (by decide) i (by omega) (by show i < 80; omega)⟩⟩
  · intro p p0 p1
    rw [lk 14 (by decide) (by decide) p p0 (by show p < 4; omega)]
    exact T.td.2.2 p p0 p1
end
