/-! a town that is made like another one -/
set_option maxRecDepth 100000
theorem cpy_s {h : Mem} {s d n i : Int} (i0 : 0 ≤ i) (i1 : i < n) : cpy h s 0 d 0 n d i = h s i := by
  rw [cpy, if_pos ⟨rfl, i0, by omega⟩, show (0 : Int) + (i - 0) = i by omega]
theorem cpy_n {h : Mem} {s d n a i sp dp : Int} (q : a ≠ d) : cpy h s sp d dp n a i = h a i := if_neg fun z => q z.1
theorem cpy_o {h : Mem} {s d n a i sp dp : Int} (q : ¬ (dp ≤ i ∧ i < dp + n)) : cpy h s sp d dp n a i = h a i := if_neg fun z => q z.2
/-- how long a town's k-th row is -/
def tLen (k : Int) : Int := if k = 4 ∨ k = 7 ∨ k = 11 then 16 else if k = 8 ∨ k = 12 ∨ k = 13 then 80 else if k = 9 then 10 else if k = 10 then 30 else if k = 15 then 3640 else if k = 16 then 13 else 4
/-- in h' a's rows from i to j are o's of h -/
def Like (h' : Mem) (a : Int) (h : Mem) (o i j : Int) : Prop := ∀ k : Int, i ≤ k → k ≤ j → ∀ x : Int, 0 ≤ x → x < tLen k → h' (a + k) x = h (o + k) x
def sSd (a : Int) : Int → Int → Prop := fun b j => (b = a ∧ (j = 11 ∨ j = 12)) ∨ (a + 11 ≤ b ∧ b ≤ a + 14)
section
variable {G : GT} {P : Int → Mem → Prop} {l : Launch} {a o : Int}
def apart (a o : Int) : Prop := a + 17 < o ∨ o + 17 < a
theorem sX1_standsAs {h : Mem} (A : TownS h a) (O : TownS h o) (d : apart a o) (hp : ∀ h' : Mem, EX h h' → Fr (sSd a) h h' → (h' a 11 = h o 11 ∧ h' a 12 = h o 12) → Like h' a h o 11 14 → P a h') : kX1_standsAs G l a o h P := by
  unfold apart at d
  refine eX1_standsAs fun X C e B => ⟨O, A, fun h1 e1 h4 e4 h7 e7 h10 e10 h13 e13 h16 e16 => ?_⟩
  have x1 : EX h h1 := by rw [e1]; exact EX_up (EX.rf B.2) A.k (by decide) rfl (by decide) (okI_i rfl (EX.rI B O.k rfl))
  have x4 : EX h h4 := by rw [e4]; exact EX_up x1 (A.ext x1.1).k (by decide) rfl (by decide) (okI_i rfl (EX.rI B O.k rfl))
  have x7 : EX h h7 := by rw [e7]; exact EX_cpy x4 (O.ext x4.1).k23 (A.ext x4.1).k23 (by decide)
  have x10 : EX h h10 := by rw [e10]; exact EX_cpy x7 (O.ext x7.1).k24 (A.ext x7.1).k24 (by decide)
  have x13 : EX h h13 := by rw [e13]; exact EX_cpy x10 (O.ext x10.1).k25 (A.ext x10.1).k25 (by decide)
  have x16 : EX h h16 := by rw [e16]; exact EX_cpy x13 (O.ext x13.1).k26 (A.ext x13.1).k26 (by decide)
  have far : ∀ b j : Int, ¬ sSd a b j → h16 b j = h b j := fun b j q => by
    unfold sSd at q
    rw [e16, cpy_n (by omega), e13, cpy_n (by omega), e10, cpy_n (by omega), e7, cpy_n (by omega), e4, up_n (by omega), e1, up_n (by omega)]
  refine hp h16 x16 far ⟨?_, ?_⟩ fun k k0 k1 i i0 i1 => ?_
  · rw [e16, cpy_n (by omega), e13, cpy_n (by omega), e10, cpy_n (by omega), e7, cpy_n (by omega), e4, up_i (by decide), e1, up_s]
  · rw [e16, cpy_n (by omega), e13, cpy_n (by omega), e10, cpy_n (by omega), e7, cpy_n (by omega), e4, up_s]
  · have c : k = 11 ∨ k = 12 ∨ k = 13 ∨ k = 14 := by omega
    rcases c with c | c | c | c <;> subst c
    · have i1' : i < 16 := i1
      rw [e16, cpy_n (by omega), e13, cpy_n (by omega), e10, cpy_n (by omega), e7, cpy_s i0 i1', e4, up_a (by omega), e1, up_a (by omega)]
    · have i1' : i < 80 := i1
      rw [e16, cpy_n (by omega), e13, cpy_n (by omega), e10, cpy_s i0 i1', e7, cpy_n (by omega), e4, up_a (by omega), e1, up_a (by omega)]
    · have i1' : i < 80 := i1
      rw [e16, cpy_n (by omega), e13, cpy_s i0 i1', e10, cpy_n (by omega), e7, cpy_n (by omega), e4, up_a (by omega), e1, up_a (by omega)]
    · have i1' : i < 4 := i1
      rw [e16, cpy_s i0 i1', e13, cpy_n (by omega), e10, cpy_n (by omega), e7, cpy_n (by omega), e4, up_a (by omega), e1, up_a (by omega)]
/-- a town that stands as another one, of the same text -/
theorem TR.stands {h h' : Mem} {E : En} {S S0 : St} (T : TR h o E S) (A : TR h a E S0) (e : Ext h h') (f : Fr (sSd a) h h') (q : h' a 11 = h o 11 ∧ h' a 12 = h o 12) (lk : Like h' a h o 11 14) : TR h' a E S := by
  have Kc := T.en.cm
  have Kp := T.en.pm
  refine ⟨A.tw.ext e, T.en, T.st, A.te.keep fun b j z => f b j (by unfold sSd; omega), ⟨q.1.trans T.td.1.1, q.2.trans T.td.1.2⟩, fun c c0 c1 => ?_, fun p p0 p1 => (lk 14 (by decide) (by decide) p p0 (by show p < 4; omega)).trans (T.td.2.2 p p0 p1)⟩
  have Z := (T.st.co c c0 c1).1
  rw [lk 11 (by decide) (by decide) c c0 (by show c < 16; omega)]
  exact ⟨(T.co c0 c1).1, (T.co c0 c1).2.mono fun i i0 i1 => ⟨lk 12 (by decide) (by decide) i (by omega) (by show i < 80; omega), lk 13 (by decide) (by decide) i (by omega) (by show i < 80; omega)⟩⟩
end
