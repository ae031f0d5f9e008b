/-! HOURS AND ACTS: the street's steps, and a town that takes them -/
set_option maxRecDepth 100000
def fu {α : Type} (f : Int → α) (i : Int) (v : α) : Int → α := fun x => if x = i then v else f x
theorem fu_s {α : Type} (f : Int → α) (i : Int) (v : α) : fu f i v i = v := if_pos rfl
theorem fu_n {α : Type} {f : Int → α} {i x : Int} {v : α} (h : x ≠ i) : fu f i v x = f x := if_neg h
def putS (S : St) (c p : Int) : St := (S.now, S.bare, fu S.co c (putL p S.now (S.co c)), S.purse)
def costS (E : En) (S : St) (p : Int) : St := (S.now, S.bare, S.co, fu S.purse p (S.purse p - E.cost))
def dropS (S : St) (c : Int) (l : Co) : St := (S.now, S.bare, fu S.co c l, S.purse)
def washS (E : En) (S : St) : St := (S.now, S.bare, (fun c => if 0 ≤ c ∧ c < E.cm then washL E S.now (S.co c) else S.co c), S.purse)
def hourS (S : St) (n : Int) : St := (n, S.bare, S.co, S.purse)
def purseS (S : St) (f : Int → Int) : St := (S.now, S.bare, S.co, f)
/-- the rents of the first n things: purses, and what each got -/
def payN (E : En) (S : St) (x : (Int → Int) × (Int → Int)) : Nat → (Int → Int) × (Int → Int)
  | 0 => x
  | n + 1 => if whoF E S n = -1 then payN E S x n else (fu (payN E S x n).1 (whoF E S n) (min 999 ((payN E S x n).1 (whoF E S n) + E.rent n)), fu (payN E S x n).2 (whoF E S n) (w32 ((payN E S x n).2 (whoF E S n) + E.rent n)))
def dueS (E : En) (S : St) : St := hourS (if rainF E S.now = true then washS E S else S) (S.now + 1)
def closeS (E : En) (S : St) : St := if (S.now + 1).tmod 24 = 12 then purseS (dueS E S) (payN E (dueS E S) ((dueS E S).purse, (dueS E S).purse) E.tm.toNat).1 else dueS E S
def closeG (E : En) (S : St) (g : Int → Int) : Int → Int := if (S.now + 1).tmod 24 = 12 then (payN E (dueS E S) ((dueS E S).purse, g) E.tm.toNat).2 else g
theorem payN_1 (E : En) (S : St) (f g g' : Int → Int) : ∀ n : Nat, (payN E S (f, g) n).1 = (payN E S (f, g') n).1
  | 0 => rfl
  | n + 1 => by
    rw [payN, payN]
    split
    · exact payN_1 E S f g g' n
    · rw [payN_1 E S f g g' n]
theorem whoF_rng {E : En} (K : EnOk E) (S : St) {t : Int} (h0 : 0 ≤ t) (h1 : t < E.tm) : whoF E S t = -1 ∨ 0 ≤ whoF E S t ∧ whoF E S t < E.pm := thingF_rng K h0 h1 K.part.1
theorem StOk.mk {E : En} {S : St} (h1 : 0 ≤ S.now ∧ S.now ≤ 1000000) (h2 : R32 S.bare) (h3 : ∀ c : Int, 0 ≤ c → c < E.cm → CoOk E S.now (S.co c)) (h4 : ∀ p : Int, 0 ≤ p → p < E.pm → 0 ≤ S.purse p ∧ S.purse p ≤ 999) : StOk E S := ⟨h1, h2, h3, h4⟩
theorem CoOk.put {E : En} {now : Int} {l : Co} (h : CoOk E now l) {p : Int} (hn : 0 ≤ now) (p0 : 0 ≤ p) (p1 : p < E.pm) : CoOk E now (putL p now l) := by
  refine ⟨by unfold putL; rw [List.length_cons, List.length_take]; omega, fun b w q => ?_, ?_⟩
  · rcases List.mem_cons.mp q with q | q
    · cases q; exact ⟨p0, p1, by omega, Int.le_refl _⟩
    · exact h.2.1 b w (List.mem_of_mem_take q)
  · refine List.pairwise_cons.mpr ⟨fun x q => ?_, h.2.2.sublist (List.take_sublist _ _)⟩
    obtain ⟨b, w⟩ := x
    exact (h.2.1 b w (List.mem_of_mem_take q)).2.2.2
theorem CoOk.suf {E : En} {now : Int} {l r : Co} (h : CoOk E now l) (q : r <:+ l) : CoOk E now r :=
  ⟨Nat.le_trans q.length_le h.1, fun b w z => h.2.1 b w (q.subset z), h.2.2.sublist q.sublist⟩
theorem CoOk.later {E : En} {now now' : Int} {l : Co} (h : CoOk E now l) (q : now ≤ now') : CoOk E now' l :=
  ⟨h.1, fun b w z => ⟨(h.2.1 b w z).1, (h.2.1 b w z).2.1, (h.2.1 b w z).2.2.1, Int.le_trans (h.2.1 b w z).2.2.2 q⟩, h.2.2⟩
theorem washL_suf (E : En) (now : Int) : ∀ l : Co, washL E now l <:+ l
  | [] => List.suffix_refl _
  | (b, w) :: r => by
    rw [washL]
    split
    · exact List.suffix_refl _
    · exact (washL_suf E now r).trans (List.suffix_cons _ _)
theorem StOk.put {E : En} {S : St} (h : StOk E S) {c p : Int} (p0 : 0 ≤ p) (p1 : p < E.pm) : StOk E (putS S c p) := by
  refine StOk.mk h.now h.bare (fun x x0 x1 => ?_) h.purse
  show CoOk E S.now (fu S.co c (putL p S.now (S.co c)) x)
  by_cases q : x = c
  · subst q; rw [fu_s]; exact (h.co x x0 x1).put h.now.1 p0 p1
  · rw [fu_n q]; exact h.co x x0 x1
theorem StOk.drop {E : En} {S : St} (h : StOk E S) {c : Int} {l : Co} (q : l <:+ S.co c) : StOk E (dropS S c l) := by
  refine StOk.mk h.now h.bare (fun x x0 x1 => ?_) h.purse
  show CoOk E S.now (fu S.co c l x)
  by_cases e : x = c
  · subst e; rw [fu_s]; exact (h.co x x0 x1).suf q
  · rw [fu_n e]; exact h.co x x0 x1
theorem StOk.cost {E : En} {S : St} (h : StOk E S) (K : EnOk E) {p : Int} (q : E.cost ≤ S.purse p) : StOk E (costS E S p) := by
  refine StOk.mk h.now h.bare h.co fun x x0 x1 => ?_
  show 0 ≤ fu S.purse p (S.purse p - E.cost) x ∧ fu S.purse p (S.purse p - E.cost) x ≤ 999
  by_cases e : x = p
  · subst e; rw [fu_s]; have := h.purse x x0 x1; have := K.cost; omega
  · rw [fu_n e]; exact h.purse x x0 x1
theorem StOk.wash {E : En} {S : St} (h : StOk E S) : StOk E (washS E S) := by
  refine StOk.mk h.now h.bare (fun x x0 x1 => ?_) h.purse
  show CoOk E S.now (if 0 ≤ x ∧ x < E.cm then washL E S.now (S.co x) else S.co x)
  rw [if_pos ⟨x0, x1⟩]
  exact (h.co x x0 x1).suf (washL_suf E S.now _)
theorem StOk.hour {E : En} {S : St} (h : StOk E S) {n : Int} (h1 : S.now ≤ n) (h2 : n ≤ 1000000) : StOk E (hourS S n) :=
  StOk.mk ⟨Int.le_trans h.now.1 h1, h2⟩ h.bare (fun x x0 x1 => (h.co x x0 x1).later h1) h.purse
/-- what a town's steps change -/
def sTw (a : Int) : Int → Int → Prop := fun b j => (b = a ∧ (j = 11 ∨ j = 12)) ∨ (a + 11 ≤ b ∧ b ≤ a + 14) ∨ b = a + 16 ∨ b = a + 17
def sTg (a : Int) : Int → Int → Prop := fun b j => sTw a b j ∨ b = 165
theorem Fr.gt {a : Int} {h h' : Mem} (f : Fr (sTw a) h h') : Fr (sTg a) h h' := f.mono fun _ _ q => Or.inl q
theorem Fr.owt {a : Int} {h h' : Mem} (f : Fr (sOw a) h h') : Fr (sTw a) h h' := f.mono fun b j q => Or.inr (Or.inr (Or.inr q))
theorem TE.keep {h h' : Mem} {a : Int} {E : En} (T : TE h a E) (f : ∀ b j : Int, (b = a ∧ 0 ≤ j ∧ j ≤ 7) ∨ (a < b ∧ b ≤ a + 9 ∧ b ≠ a + 6 ∧ b ≠ a + 7 ∧ b ≠ a + 8) → h' b j = h b j) : TE h' a E := by
  obtain ⟨⟨a1, a2, a3, a4, a5, a6, a7, a8⟩, b, c, d, g⟩ := T
  have f0 : ∀ j : Int, 0 ≤ j ∧ j ≤ 7 → h' a j = h a j := fun j q => f a j (Or.inl ⟨rfl, q⟩)
  have f1 : ∀ i : Int, 0 < i ∧ i ≤ 9 ∧ i ≠ 6 ∧ i ≠ 7 ∧ i ≠ 8 → ∀ j, h' (a + i) j = h (a + i) j := fun i q j => f (a + i) j (Or.inr ⟨by omega, by omega, by omega, by omega, by omega⟩)
  refine ⟨⟨?_, ?_, ?_, ?_, ?_, ?_, ?_, ?_⟩, ?_, ?_, ?_, ?_⟩
  · rw [f0 0 (by omega)]; exact a1
  · rw [f0 1 (by omega)]; exact a2
  · rw [f0 2 (by omega)]; exact a3
  · rw [f0 3 (by omega)]; exact a4
  · rw [f0 4 (by omega)]; exact a5
  · rw [f0 5 (by omega)]; exact a6
  · rw [f0 6 (by omega)]; exact a7
  · rw [f0 7 (by omega)]; exact a8
  · intro t h0 h1; rw [f1 1 (by omega), f1 2 (by omega), f1 3 (by omega)]; exact b t h0 h1
  · intro t h0 h1; rw [f1 4 (by omega)]; exact c t h0 h1
  · intro t h0 h1; rw [f1 5 (by omega)]; exact d t h0 h1
  · intro t h0 h1; rw [f1 9 (by omega), f1 9 (by omega)]; exact g t h0 h1
theorem TE.tg {h h' : Mem} {a : Int} {E : En} (T : TE h a E) (ha : a + 17 < 165 ∨ 165 < a) (f : Fr (sTg a) h h') : TE h' a E :=
  T.keep fun b j q => f b j fun z => by unfold sTg sTw at z; omega
/-- the lowest coat goes, the others one place down: by the k-th place on -/
theorem Col.take4 {f g f' g' : Int → Int} {e : Int → Int} {base : Int} : ∀ {l : Co}, Col f g e base l → (∀ i : Int, 0 ≤ i → i < 4 → f' (base + i) = f (base + i + 1) ∧ g' (base + i) = g (base + i + 1)) → l.length = 5 → Col f' g' e base (l.take 4)
  | [(b1, w1), (b2, w2), (b3, w3), (b4, w4), (b5, w5)], ⟨x1, y1, x2, y2, x3, y3, x4, y4, _⟩, h, _ => by
    have z : ∀ (n m : Nat), n + 1 = m → m ≤ 4 → f' (base + (n : Int)) = f (base + (m : Int)) ∧ g' (base + (n : Int)) = g (base + (m : Int)) := fun n m q1 q2 => by
      have := h n (by omega) (by omega)
      rwa [show base + (n : Int) + 1 = base + (m : Int) by omega] at this
    exact ⟨(z 3 4 rfl (by omega)).1.trans x1, (z 3 4 rfl (by omega)).2.trans y1, (z 2 3 rfl (by omega)).1.trans x2, (z 2 3 rfl (by omega)).2.trans y2, (z 1 2 rfl (by omega)).1.trans x3, (z 1 2 rfl (by omega)).2.trans y3, (z 0 1 rfl (by omega)).1.trans x4, (z 0 1 rfl (by omega)).2.trans y4, trivial⟩
section
variable {G : GT} {h : Mem} {a : Int} {E : En} {S : St} {P : Int → Mem → Prop} {l : Launch}
/-- a town of which one cell's coats have changed -/
theorem TR.cell {h' : Mem} (T : TR h a E S) {c : Int} (c0 : 0 ≤ c) (c1 : c < E.cm) (e : Ext h h') {l9 : Co} (hS : StOk E (dropS S c l9))
    (f : ∀ b j : Int, tIn a b j → ¬ (b = a + 11 ∧ j = c) → ¬ ((b = a + 12 ∨ b = a + 13) ∧ 5 * c ≤ j ∧ j < 5 * c + 5) → h' b j = h b j) (hl : h' (a + 11) c = (l9.length : Int)) (hc : Col (h' (a + 12)) (h' (a + 13)) eX (5 * c) l9) : TR h' a E (dropS S c l9) := by
  have fx : ∀ j : Int, j ≠ 8 ∧ j ≠ 9 ∧ j ≠ 10 → h' a j = h a j := fun j q => f a j (Or.inl ⟨rfl, q⟩) (by omega) (by omega)
  refine ⟨T.tw.ext e, T.en, hS, T.te.keep fun b j q => f b j (by unfold tIn; omega) (by omega) (by omega), ⟨?_, ?_⟩, fun x x0 x1 => ?_, fun p p0 p1 => ?_⟩
  · rw [fx 11 (by omega)]; exact T.td.1.1
  · rw [fx 12 (by omega)]; exact T.td.1.2
  · show h' (a + 11) x = ((fu S.co c l9 x).length : Int) ∧ Col _ _ _ _ (fu S.co c l9 x)
    by_cases q : x = c
    · subst q; rw [fu_s]; exact ⟨hl, hc⟩
    · rw [fu_n q]
      have z := T.co x0 x1
      have zl := (T.st.co x x0 x1).1
      refine ⟨(f (a + 11) x (by unfold tIn; omega) (by omega) (by omega)).trans z.1, z.2.mono fun i i0 i1 => ⟨f (a + 12) i (by unfold tIn; omega) (by omega) (by omega), f (a + 13) i (by unfold tIn; omega) (by omega) (by omega)⟩⟩
  · rw [f (a + 14) p (by unfold tIn; omega) (by omega) (by omega)]
    exact T.td.2.2 p p0 p1
theorem l_put5 (A : TownS h a) {c p hour : Int} (c0 : 0 ≤ c) (c1 : c < 16) (Rp : R32 p) (Rh : R32 hour) {X : MX} {h0 : Mem} (C : Cx G X cX1_putsCoat 6 RX1 0 0 0 none "putsCoat") (hm : h (a + 11) c = 5)
    (hp : ∀ h' : Mem, EX h h' → Fr (fun b j => (b = a + 11 ∧ j = c) ∨ ((b = a + 12 ∨ b = a + 13) ∧ 5 * c ≤ j ∧ j < 5 * c + 5)) h h' → (∀ i : Int, 0 ≤ i → i < 4 → h' (a + 12) (5 * c + i) = h (a + 12) (5 * c + i + 1) ∧ h' (a + 13) (5 * c + i) = h (a + 13) (5 * c + i + 1)) → h' (a + 12) (5 * c + 4) = p → h' (a + 13) (5 * c + 4) = hour → h' (a + 11) c = 5 → P 0 h') :
    ∀ (m k : Nat) (h1 : Mem), k + m = 5 → 1 ≤ k → EX h0 h1 → EX h h1 → Fr (fun b j => (b = a + 11 ∧ j = c) ∨ ((b = a + 12 ∨ b = a + 13) ∧ 5 * c ≤ j ∧ j < 5 * c + 5)) h h1 → h1 (a + 11) c = 5 →
      (∀ i : Int, 0 ≤ i → i + 1 < k → h1 (a + 12) (5 * c + i) = h (a + 12) (5 * c + i + 1) ∧ h1 (a + 13) (5 * c + i) = h (a + 13) (5 * c + i + 1)) → (∀ i : Int, (k : Int) ≤ i + 1 → i < 5 → h1 (a + 12) (5 * c + i) = h (a + 12) (5 * c + i) ∧ h1 (a + 13) (5 * c + i) = h (a + 13) (5 * c + i)) →
      V G X 6 0 0 (QF G X 3 0 0 (PR h0 P)) 18 [(0, rf a), (1, iv c), (2, iv p), (3, iv hour), (4, iv (5 * c)), (5, iv (k : Int))] [] h1 := by
  intro m
  induction m with
  | zero =>
    intro k h1 hk k1 B e f hm1 lo hi
    refine wX1_putsCoat_L18 C ⟨B, ⟨by omega, by omega⟩, Rp, Rh, ⟨by omega, by omega⟩, ⟨by omega, by omega⟩⟩ ⟨A.ext e.1, fun _ => ?_, fun q => absurd q (by omega)⟩
    rw [hm1]
    refine ⟨c0, by omega, ⟨by decide, by decide⟩, fun h5 e5 => ⟨by omega, by omega, fun h10 e10 h13 e13 => ⟨⟨by decide, by decide⟩, fun h17 e17 => ?_⟩⟩⟩
    have A1 := A.ext e.1
    have x5 : EX h h5 := by rw [e5]; exact EX_up e A1.k23 (by decide) rfl c0 (okI_a (Or.inl rfl) ⟨by decide, by decide⟩)
    have x10 : EX h h10 := by rw [e10]; exact EX_up x5 (A.ext x5.1).k24 (by decide) rfl (by omega) (okI_a (Or.inl rfl) Rp)
    have x13 : EX h h13 := by rw [e13]; exact EX_up x10 (A.ext x10.1).k25 (by decide) rfl (by omega) (okI_a (Or.inl rfl) Rh)
    have x17 : EX h h17 := by rw [e17]; exact EX_up x13 (A.ext x13.1).k23 (by decide) rfl (by omega) (okI_a (Or.inl rfl) ⟨by decide, by decide⟩)
    have g12 : ∀ i : Int, h17 (a + 12) i = if i = 5 * c + (5 - 1) then p else h1 (a + 12) i := fun i => by
      rw [e17, up_a (by omega), e13, up_a (by omega), e10]
      by_cases q : i = 5 * c + (5 - 1)
      · rw [q, up_s, if_pos rfl]
      · rw [up_i q, if_neg q, e5, up_a (by omega)]
    have g13 : ∀ i : Int, h17 (a + 13) i = if i = 5 * c + (5 - 1) then hour else h1 (a + 13) i := fun i => by
      rw [e17, up_a (by omega), e13]
      by_cases q : i = 5 * c + (5 - 1)
      · rw [q, up_s, if_pos rfl]
      · rw [up_i q, if_neg q, e10, up_a (by omega), e5, up_a (by omega)]
    refine hp h17 x17 ?_ (fun i i0 i1 => ?_) ?_ ?_ ?_
    · rw [e17, e13, e10, e5]
      exact (((f.up (Or.inl ⟨rfl, rfl⟩)).up (Or.inr ⟨Or.inl rfl, by omega, by omega⟩)).up (Or.inr ⟨Or.inr rfl, by omega, by omega⟩)).up (Or.inl ⟨rfl, rfl⟩)
    · rw [g12, g13, if_neg (by omega), if_neg (by omega)]; exact lo i i0 (by omega)
    · rw [g12, if_pos (by omega)]
    · rw [g13, if_pos (by omega)]
    · rw [e17, up_s]; omega
  | succ m ih =>
    intro k h1 hk k1 B e f hm1 lo hi
    refine wX1_putsCoat_L18 C ⟨B, ⟨by omega, by omega⟩, Rp, Rh, ⟨by omega, by omega⟩, ⟨by omega, by omega⟩⟩ ⟨A.ext e.1, fun q => absurd q (by omega), fun _ => ⟨by omega, by omega, by omega, by omega, fun h24 e24 h27 e27 => ⟨⟨by omega, by omega⟩, fun B' => ?_⟩⟩⟩
    have A1 := A.ext e.1
    have x24 : EX h h24 := by rw [e24]; exact EX_up e A1.k24 (by decide) rfl (by omega) (okI_a (Or.inl rfl) (EX.rI e A1.k24 rfl))
    have x27 : EX h h27 := by rw [e27]; exact EX_up x24 (A.ext x24.1).k25 (by decide) rfl (by omega) (okI_a (Or.inl rfl) (EX.rI e A1.k25 rfl))
    have g12 : ∀ i : Int, h27 (a + 12) i = if i = 5 * c + k - 1 then h1 (a + 12) (5 * c + k) else h1 (a + 12) i := fun i => by
      rw [e27, up_a (by omega), e24]
      by_cases q : i = 5 * c + k - 1
      · rw [q, up_s, if_pos rfl]
      · rw [up_i q, if_neg q]
    have g13 : ∀ i : Int, h27 (a + 13) i = if i = 5 * c + k - 1 then h1 (a + 13) (5 * c + k) else h1 (a + 13) i := fun i => by
      rw [e27]
      by_cases q : i = 5 * c + k - 1
      · rw [q, up_s, if_pos rfl]
      · rw [up_i q, if_neg q, e24, up_a (by omega)]
    have hk5 := hi k (by omega) (by omega)
    have := ih (k + 1) h27 (by omega) (by omega) B'.1 x27 (by
        rw [e27, e24]
        exact (f.up (Or.inr ⟨Or.inl rfl, by omega, by omega⟩)).up (Or.inr ⟨Or.inr rfl, by omega, by omega⟩)) (by rw [e27, up_a (by omega), e24, up_a (by omega)]; exact hm1) (fun i i0 i1 => ?_) (fun i i0 i1 => ?_)
    · rwa [show ((k + 1 : Nat) : Int) = (k : Int) + 1 by omega] at this
    · rw [g12, g13]
      by_cases q : 5 * c + i = 5 * c + k - 1
      · rw [if_pos q, if_pos q, show 5 * c + i + 1 = 5 * c + (k : Int) by omega]; exact hk5
      · rw [if_neg q, if_neg q]; exact lo i i0 (by omega)
    · rw [g12, g13, if_neg (by omega), if_neg (by omega)]; exact hi i (by omega) i1
theorem sX1_putsCoat (T : TR h a E S) {c p : Int} (c0 : 0 ≤ c) (c1 : c < E.cm) (p0 : 0 ≤ p) (p1 : p < E.pm)
    (hp : ∀ h' : Mem, EX h h' → Fr (sTw a) h h' → TR h' a E (putS S c p) → P 0 h') : kX1_putsCoat G l a c p S.now h P := by
  refine eX1_putsCoat fun X C e B => ?_
  have K := T.en.cm
  have Kp := T.en.pm
  have Kn := T.st.now
  have Z := T.st.co c c0 c1
  have q := T.co c0 c1
  have hS := T.st.put (c := c) p0 p1
  refine ⟨T.tw, ⟨by omega, by omega⟩, fun y ey => ⟨c0, by omega, ?_, ?_⟩⟩
  · subst ey
    rw [q.1]
    intro hn
    have hn5 : (S.co c).length < 5 := by have := Z.1; omega
    refine ⟨by omega, by omega, fun h8 e8 h11 e11 => ⟨⟨by omega, by omega⟩, fun h15 e15 => ?_⟩⟩
    have x8 : EX h h8 := by rw [e8]; exact EX_up (EX.rf B.1.2) T.tw.k24 (by decide) rfl (by omega) (okI_a (Or.inl rfl) ⟨by omega, by omega⟩)
    have x11 : EX h h11 := by rw [e11]; exact EX_up x8 (T.tw.ext x8.1).k25 (by decide) rfl (by omega) (okI_a (Or.inl rfl) ⟨by omega, by omega⟩)
    have x15 : EX h h15 := by rw [e15]; exact EX_up x11 (T.tw.ext x11.1).k23 (by decide) rfl (by omega) (okI_a (Or.inl rfl) ⟨by omega, by omega⟩)
    have ff : Fr (fun b j => (b = a + 11 ∧ j = c) ∨ ((b = a + 12 ∨ b = a + 13) ∧ 5 * c ≤ j ∧ j < 5 * c + 5)) h h15 := by
      rw [e15, e11, e8]
      exact (((Fr.rf _ _).up (Or.inr ⟨Or.inl rfl, by omega, by omega⟩)).up (Or.inr ⟨Or.inr rfl, by omega, by omega⟩)).up (Or.inl ⟨rfl, rfl⟩)
    have et : (S.co c).take 4 = S.co c := List.take_of_length_le (by omega)
    refine hp h15 x15 (ff.mono fun b j z => by unfold sTw; omega) (T.cell c0 c1 x15.1 hS (fun b j _ n1 n2 => ff b j (by omega)) ?_ ?_)
    · rw [e15, up_s, putL, et, List.length_cons]; omega
    · rw [putL, et]
      have g12 : ∀ i : Int, h15 (a + 12) i = if i = 5 * c + ((S.co c).length : Int) then p else h (a + 12) i := fun i => by
        rw [e15, up_a (by omega), e11, up_a (by omega), e8]
        by_cases z : i = 5 * c + ((S.co c).length : Int)
        · rw [z, up_s, if_pos rfl]
        · rw [up_i z, if_neg z]
      have g13 : ∀ i : Int, h15 (a + 13) i = if i = 5 * c + ((S.co c).length : Int) then S.now else h (a + 13) i := fun i => by
        rw [e15, up_a (by omega), e11]
        by_cases z : i = 5 * c + ((S.co c).length : Int)
        · rw [z, up_s, if_pos rfl]
        · rw [up_i z, if_neg z, e8, up_a (by omega)]
      refine ⟨?_, ?_, q.2.mono fun i i0 i1 => ?_⟩
      · rw [g12, if_pos rfl]
      · rw [g13, if_pos rfl]; unfold eX; rw [if_neg (by omega)]
      · rw [g12, g13, if_neg (by omega), if_neg (by omega)]; exact ⟨rfl, rfl⟩
  · subst ey
    intro hm B'
    have h5 : (S.co c).length = 5 := by rw [q.1] at hm; omega
    have := l_put5 (P := P) (G := G) T.tw c0 (by omega) B'.2.2.1 B'.2.2.2.1 (h0 := h) C hm (fun h' e2 f2 lo g1 g2 g3 => ?_) 4 1 h rfl (Nat.le_refl 1) B'.1 B'.1 (Fr.rf _ _) hm (fun i i0 i1 => absurd i1 (by omega)) (fun i _ _ => ⟨rfl, rfl⟩)
    · exact this
    · refine hp h' e2 (f2.mono fun b j z => by unfold sTw; omega) (T.cell c0 c1 e2.1 hS (fun b j _ n1 n2 => f2 b j (by omega)) ?_ ?_)
      · rw [g3, putL, List.length_cons, List.length_take]; omega
      · rw [putL]
        have lt : ((S.co c).take 4).length = 4 := by rw [List.length_take]; omega
        refine ⟨by rw [lt]; exact g1, by rw [lt]; unfold eX; rw [if_neg (by omega)]; exact g2, q.2.take4 lo h5⟩
end
