/-! the model: paint, rain, rent, the hour's end, bare things, one colour -/
set_option maxRecDepth 100000
def sM1 : Int → Int → Prop := fun b j => (b = 178 ∧ (j = 8 ∨ j = 9)) ∨ b = 182 ∨ (185 ≤ b ∧ b ≤ 187) ∨ b = 214
def sMs : Int → Int → Prop := fun b j => sM1 b j ∨ b = 215
theorem Fr.cns {h h' : Mem} (f : Fr sCn h h') : Fr sMs h h' := f.mono fun b j q => by unfold sCn at q; unfold sMs sM1; omega
theorem ME.keep {h h' : Mem} {E : En} (T : ME h E) (f : ∀ b j : Int, (b = 178 ∧ 0 ≤ j ∧ j ≤ 7) ∨ b = 179 ∨ b = 180 ∨ b = 181 ∨ b = 183 ∨ b = 184 → h' b j = h b j) : ME h' E := by
  obtain ⟨⟨a1, a2, a3, a4, a5, a6, a7, a8⟩, b, c, d, g⟩ := T
  have f0 : ∀ j : Int, 0 ≤ j ∧ j ≤ 7 → h' 178 j = h 178 j := fun j q => f 178 j (Or.inl ⟨rfl, q⟩)
  refine ⟨⟨?_, ?_, ?_, ?_, ?_, ?_, ?_, ?_⟩, ?_, ?_, ?_, ?_⟩
  · rw [f0 0 (by omega)]; exact a1
  · rw [f0 1 (by omega)]; exact a2
  · rw [f0 2 (by omega)]; exact a3
  · rw [f0 3 (by omega)]; exact a4
  · rw [f0 4 (by omega)]; exact a5
  · rw [f0 5 (by omega)]; exact a6
  · rw [f0 6 (by omega)]; exact a7
  · rw [f0 7 (by omega)]; exact a8
  · intro t h0 h1; rw [f 179 t (by omega)]; exact b t h0 h1
  · intro t h0 h1; rw [f 180 t (by omega)]; exact c t h0 h1
  · intro t h0 h1; rw [f 181 t (by omega)]; exact d t h0 h1
  · intro t h0 h1; rw [f 183 t (by omega), f 184 t (by omega)]; exact g t h0 h1
theorem MR.congr {h : Mem} {E : En} {S S' : St} (T : MR h E S) (e1 : S'.now = S.now) (e2 : S'.bare = S.bare) (e3 : ∀ c : Int, 0 ≤ c → c < E.cm → S'.co c = S.co c) (e4 : ∀ p : Int, 0 ≤ p → p < E.pm → S'.purse p = S.purse p) : MR h E S' :=
  ⟨T.ms, T.en, T.st.congr e1 e2 e3 e4, T.te, ⟨by rw [e1]; exact T.td.1.1, by rw [e2]; exact T.td.1.2⟩, fun c c0 c1 => by rw [e3 c c0 c1]; exact T.co c0 c1, fun p p0 p1 => by rw [e4 p p0 p1]; exact T.td.2.2 p p0 p1⟩
section
variable {G : GT} {h : Mem} {E : En} {S : St} {P : Int → Mem → Prop} {l : Launch}
theorem sX3_canPaint (T : MR h E S) {c p : Int} (c0 : 0 ≤ c) (c1 : c < E.cm) (p0 : 0 ≤ p) (p1 : p < E.pm) (hp : P (if canF E S c p = true then 1 else 0) h) : kX3_canPaint G l c p h P := by
  refine eX3_canPaint fun X C e B => ⟨T.ms, sX3_thingOf T c0 c1 fun _ => sX3_isBare T.ms fun _ => ?_⟩
  rw [T.td.1.2]
  refine ⟨fun q => ?_, fun q => ⟨p0, by have := T.en.pm; omega, ?_⟩⟩
  · have hy : hs S.bare (E.thingOf c) := Classical.byContradiction fun z => by rw [if_neg z] at q; exact q rfl
    rw [if_neg (by simp [canF, hy])] at hp
    exact hp
  · have hn : ¬ hs S.bare (E.thingOf c) := fun z => by rw [if_pos z] at q; cases q
    rw [T.td.2.2 p p0 p1, T.te.1.2.2.1]
    refine ⟨fun q2 => ?_, fun q2 => ?_⟩
    · rw [if_neg (by simp [canF]; omega)] at hp; exact hp
    · rw [if_pos (by simp [canF, hn]; omega)] at hp; exact hp
theorem MR.cell {h' : Mem} (T : MR h E S) {c : Int} (c0 : 0 ≤ c) (c1 : c < E.cm) (e : Ext h h') {l9 : Co} (hS : StOk E (dropS S c l9))
    (f : ∀ b j : Int, mIn b j → ¬ (b = 185 ∧ j = c) → ¬ ((b = 186 ∨ b = 187) ∧ 5 * c ≤ j ∧ j < 5 * c + 5) → h' b j = h b j) (hl : h' 185 c = (l9.length : Int)) (hc : Col (h' 186) (h' 187) eM (5 * c) l9) : MR h' E (dropS S c l9) := by
  have fx : ∀ j : Int, 0 ≤ j ∧ j ≤ 9 → h' 178 j = h 178 j := fun j q => f 178 j (Or.inl ⟨rfl, q⟩) (by omega) (by omega)
  refine ⟨T.ms.ext e, T.en, hS, T.te.keep fun b j q => f b j (by unfold mIn; omega) (by omega) (by omega), ⟨?_, ?_⟩, fun x x0 x1 => ?_, fun p p0 p1 => ?_⟩
  · rw [fx 9 (by omega)]; exact T.td.1.1
  · rw [fx 8 (by omega)]; exact T.td.1.2
  · show h' 185 x = ((fu S.co c l9 x).length : Int) ∧ Col _ _ _ _ (fu S.co c l9 x)
    by_cases q : x = c
    · subst q; rw [fu_s]; exact ⟨hl, hc⟩
    · rw [fu_n q]
      have z := T.co x0 x1
      have zl := (T.st.co x x0 x1).1
      refine ⟨(f 185 x (by unfold mIn; omega) (by omega) (by omega)).trans z.1, z.2.mono fun i i0 i1 => ⟨f 186 i (by unfold mIn; omega) (by omega) (by omega), f 187 i (by unfold mIn; omega) (by omega) (by omega)⟩⟩
  · rw [f 182 p (by unfold mIn; omega) (by omega) (by omega)]
    exact T.td.2.2 p p0 p1
theorem l_mput5 (A : MS h) {c p hour : Int} (c0 : 0 ≤ c) (c1 : c < 16) (Rp : R32 p) (hh : h 178 9 = hour) (Rh : R32 hour) {X : MX} {h0 : Mem} (C : Cx G X cX3_paints 4 RX3 0 0 0 none "paints") (hm : h 185 c = 5)
    (hp : ∀ h' : Mem, EX h h' → Fr (fun b j => (b = 185 ∧ j = c) ∨ ((b = 186 ∨ b = 187) ∧ 5 * c ≤ j ∧ j < 5 * c + 5)) h h' → (∀ i : Int, 0 ≤ i → i < 4 → h' 186 (5 * c + i) = h 186 (5 * c + i + 1) ∧ h' 187 (5 * c + i) = h 187 (5 * c + i + 1)) → h' 186 (5 * c + 4) = p → h' 187 (5 * c + 4) = hour → h' 185 c = 5 → P 0 h') :
    ∀ (m k : Nat) (h1 : Mem), k + m = 5 → 1 ≤ k → EX h0 h1 → EX h h1 → Fr (fun b j => (b = 185 ∧ j = c) ∨ ((b = 186 ∨ b = 187) ∧ 5 * c ≤ j ∧ j < 5 * c + 5)) h h1 → h1 185 c = 5 →
      (∀ i : Int, 0 ≤ i → i + 1 < k → h1 186 (5 * c + i) = h 186 (5 * c + i + 1) ∧ h1 187 (5 * c + i) = h 187 (5 * c + i + 1)) → (∀ i : Int, (k : Int) ≤ i + 1 → i < 5 → h1 186 (5 * c + i) = h 186 (5 * c + i) ∧ h1 187 (5 * c + i) = h 187 (5 * c + i)) →
      V G X 4 0 0 (QF G X 3 0 0 (PR h0 P)) 16 [(0, rf 177), (1, iv c), (2, iv p), (3, iv (5 * c + (k : Int)))] [] h1 := by
  intro m
  induction m with
  | zero =>
    intro k h1 hk k1 B e f hm1 lo hi
    refine wX3_paints_L16 C ⟨B, ⟨by omega, by omega⟩, Rp, ⟨by omega, by omega⟩⟩ ⟨A.ext e.1, ⟨by omega, by omega⟩, fun _ => ?_, fun q => absurd q (by omega)⟩
    rw [hm1, f 178 9 (by omega), hh]
    refine ⟨c0, by omega, ⟨by decide, by decide⟩, fun h5 e5 => ⟨by omega, by omega, fun h10 e10 h13 e13 => ⟨⟨by decide, by decide⟩, fun h17 e17 => ?_⟩⟩⟩
    have A1 := A.ext e.1
    have x5 : EX h h5 := by rw [e5]; exact EX_up e A1.k185 (by decide) rfl c0 (okI_a (Or.inl rfl) ⟨by decide, by decide⟩)
    have x10 : EX h h10 := by rw [e10]; exact EX_up x5 (A.ext x5.1).k186 (by decide) rfl (by omega) (okI_a (Or.inl rfl) Rp)
    have x13 : EX h h13 := by rw [e13]; exact EX_up x10 (A.ext x10.1).k187 (by decide) rfl (by omega) (okI_a (Or.inl rfl) Rh)
    have x17 : EX h h17 := by rw [e17]; exact EX_up x13 (A.ext x13.1).k185 (by decide) rfl (by omega) (okI_a (Or.inl rfl) ⟨by decide, by decide⟩)
    have g12 : ∀ i : Int, h17 186 i = if i = 5 * c + (5 - 1) then p else h1 186 i := fun i => by
      rw [e17, up_a (by omega), e13, up_a (by omega), e10]
      by_cases q : i = 5 * c + (5 - 1)
      · rw [q, up_s, if_pos rfl]
      · rw [up_i q, if_neg q, e5, up_a (by omega)]
    have g13 : ∀ i : Int, h17 187 i = if i = 5 * c + (5 - 1) then hour else h1 187 i := fun i => by
      rw [e17, up_a (by omega), e13]
      by_cases q : i = 5 * c + (5 - 1)
      · rw [q, up_s, if_pos rfl]
      · rw [up_i q, if_neg q, e10, up_a (by omega), e5, up_a (by omega)]
    refine hp h17 x17 ?_ (fun i i0 i1 => ?_) ?_ ?_ ?_
    · rw [e17, e13, e10, e5]
      exact (((f.up (Or.inl ⟨rfl, rfl⟩)).up (Or.inr ⟨Or.inl rfl, by omega, by omega⟩)).up (Or.inr ⟨Or.inr rfl, by omega, by omega⟩)).up (Or.inl ⟨rfl, rfl⟩)
    · rw [g12, g13, if_neg (by omega), if_neg (by omega)]; exact lo i i0 (by omega)
    · rw [g12, if_pos (by omega)]
    · rw [g13, if_pos (by omega)]
    · rw [e17, up_s]; omega
  | succ m ih =>
    intro k h1 hk k1 B e f hm1 lo hi
    refine wX3_paints_L16 C ⟨B, ⟨by omega, by omega⟩, Rp, ⟨by omega, by omega⟩⟩ ⟨A.ext e.1, ⟨by omega, by omega⟩, fun q => absurd q (by omega), fun _ => ⟨by omega, by omega, by omega, by omega, fun h24 e24 h27 e27 => ⟨⟨by omega, by omega⟩, fun B' => ?_⟩⟩⟩
    have A1 := A.ext e.1
    have x24 : EX h h24 := by rw [e24]; exact EX_up e A1.k186 (by decide) rfl (by omega) (okI_a (Or.inl rfl) (EX.rI e A1.k186 rfl))
    have x27 : EX h h27 := by rw [e27]; exact EX_up x24 (A.ext x24.1).k187 (by decide) rfl (by omega) (okI_a (Or.inl rfl) (EX.rI e A1.k187 rfl))
    have g12 : ∀ i : Int, h27 186 i = if i = 5 * c + k - 1 then h1 186 (5 * c + k) else h1 186 i := fun i => by
      rw [e27, up_a (by omega), e24]
      by_cases q : i = 5 * c + k - 1
      · rw [q, up_s, if_pos rfl]
      · rw [up_i q, if_neg q]
    have g13 : ∀ i : Int, h27 187 i = if i = 5 * c + k - 1 then h1 187 (5 * c + k) else h1 187 i := fun i => by
      rw [e27]
      by_cases q : i = 5 * c + k - 1
      · rw [q, up_s, if_pos rfl]
      · rw [up_i q, if_neg q, e24, up_a (by omega)]
    have hk5 := hi k (by omega) (by omega)
    have := ih (k + 1) h27 (by omega) (by omega) B'.1 x27 (by
        rw [e27, e24]
        exact (f.up (Or.inr ⟨Or.inl rfl, by omega, by omega⟩)).up (Or.inr ⟨Or.inr rfl, by omega, by omega⟩)) (by rw [e27, up_a (by omega), e24, up_a (by omega)]; exact hm1) (fun i i0 i1 => ?_) (fun i i0 i1 => ?_)
    · rwa [show 5 * c + ((k + 1 : Nat) : Int) = 5 * c + (k : Int) + 1 by omega] at this
    · rw [g12, g13]
      by_cases q : 5 * c + i = 5 * c + k - 1
      · rw [if_pos q, if_pos q, show 5 * c + i + 1 = 5 * c + (k : Int) by omega]; exact hk5
      · rw [if_neg q, if_neg q]; exact lo i i0 (by omega)
    · rw [g12, g13, if_neg (by omega), if_neg (by omega)]; exact hi i (by omega) i1
theorem sX3_paints (T : MR h E S) {c p : Int} (c0 : 0 ≤ c) (c1 : c < E.cm) (p0 : 0 ≤ p) (p1 : p < E.pm)
    (hp : ∀ h' : Mem, EX h h' → Fr sM1 h h' → MR h' E (putS S c p) → P 0 h') : kX3_paints G l c p h P := by
  refine eX3_paints fun X C e B => ?_
  have K := T.en.cm
  have Kp := T.en.pm
  have Kn := T.st.now
  have Z := T.st.co c c0 c1
  have q := T.co c0 c1
  have hS := T.st.put (c := c) p0 p1
  refine ⟨T.ms, c0, by omega, ?_, ?_⟩
  · rw [q.1, T.td.1.1]
    intro hn
    have hn5 : (S.co c).length < 5 := by have := Z.1; omega
    refine ⟨by omega, by omega, fun h8 e8 h11 e11 => ⟨⟨by omega, by omega⟩, fun h15 e15 => ?_⟩⟩
    have x8 : EX h h8 := by rw [e8]; exact EX_up (EX.rf B.1.2) T.ms.k186 (by decide) rfl (by omega) (okI_a (Or.inl rfl) ⟨by omega, by omega⟩)
    have x11 : EX h h11 := by rw [e11]; exact EX_up x8 (T.ms.ext x8.1).k187 (by decide) rfl (by omega) (okI_a (Or.inl rfl) ⟨by omega, by omega⟩)
    have x15 : EX h h15 := by rw [e15]; exact EX_up x11 (T.ms.ext x11.1).k185 (by decide) rfl (by omega) (okI_a (Or.inl rfl) ⟨by omega, by omega⟩)
    have ff : Fr (fun b j => (b = 185 ∧ j = c) ∨ ((b = 186 ∨ b = 187) ∧ 5 * c ≤ j ∧ j < 5 * c + 5)) h h15 := by
      rw [e15, e11, e8]
      exact (((Fr.rf _ _).up (Or.inr ⟨Or.inl rfl, by omega, by omega⟩)).up (Or.inr ⟨Or.inr rfl, by omega, by omega⟩)).up (Or.inl ⟨rfl, rfl⟩)
    have et : (S.co c).take 4 = S.co c := List.take_of_length_le (by omega)
    refine hp h15 x15 (ff.mono fun b j z => by unfold sM1; omega) (T.cell c0 c1 x15.1 hS (fun b j _ n1 n2 => ff b j (by omega)) ?_ ?_)
    · rw [e15, up_s, putL, et, List.length_cons]; omega
    · rw [putL, et]
      have g12 : ∀ i : Int, h15 186 i = if i = 5 * c + ((S.co c).length : Int) then p else h 186 i := fun i => by
        rw [e15, up_a (by omega), e11, up_a (by omega), e8]
        by_cases z : i = 5 * c + ((S.co c).length : Int)
        · rw [z, up_s, if_pos rfl]
        · rw [up_i z, if_neg z]
      have g13 : ∀ i : Int, h15 187 i = if i = 5 * c + ((S.co c).length : Int) then S.now else h 187 i := fun i => by
        rw [e15, up_a (by omega), e11]
        by_cases z : i = 5 * c + ((S.co c).length : Int)
        · rw [z, up_s, if_pos rfl]
        · rw [up_i z, if_neg z, e8, up_a (by omega)]
      refine ⟨?_, ?_, q.2.mono fun i i0 i1 => ?_⟩
      · rw [g12, if_pos rfl]
      · rw [g13, if_pos rfl]; rfl
      · rw [g12, g13, if_neg (by omega), if_neg (by omega)]; exact ⟨rfl, rfl⟩
  · intro hm
    refine ⟨⟨by omega, by omega⟩, fun y ey B' => ?_⟩
    subst ey
    have h5 : (S.co c).length = 5 := by rw [q.1] at hm; omega
    have := l_mput5 (P := P) (G := G) T.ms c0 (by omega) B.2.2 T.td.1.1 ⟨by omega, by omega⟩ (h0 := h) C hm (fun h' e2 f2 lo g1 g2 g3 => ?_) 4 1 h rfl (Nat.le_refl 1) B'.1 B'.1 (Fr.rf _ _) hm (fun i i0 i1 => absurd i1 (by omega)) (fun i _ _ => ⟨rfl, rfl⟩)
    · exact this
    · refine hp h' e2 (f2.mono fun b j z => by unfold sM1; omega) (T.cell c0 c1 e2.1 hS (fun b j _ n1 n2 => f2 b j (by omega)) ?_ ?_)
      · rw [g3, putL, List.length_cons, List.length_take]; omega
      · rw [putL]
        have lt : ((S.co c).take 4).length = 4 := by rw [List.length_take]; omega
        refine ⟨by rw [lt]; exact g1, by rw [lt]; exact g2, q.2.take4 lo h5⟩
theorem MR.purse {h' : Mem} (T : MR h E S) {f : Int → Int} (e : Ext h h') (fr : Fr (fun b _ => b = 182 ∨ b = 215) h h') (hf : ∀ p : Int, 0 ≤ p → p < E.pm → h' 182 p = f p) (hS : StOk E (purseS S f)) : MR h' E (purseS S f) := by
  refine ⟨T.ms.ext e, T.en, hS, T.te.keep fun b j q => fr b j (by omega), ⟨(fr 178 9 (by omega)).trans T.td.1.1, (fr 178 8 (by omega)).trans T.td.1.2⟩, fun c c0 c1 => ?_, hf⟩
  rw [fr 185 c (by omega)]
  exact ⟨(T.co c0 c1).1, (T.co c0 c1).2.mono fun i _ _ => ⟨fr 186 i (by omega), fr 187 i (by omega)⟩⟩
theorem l_washes3 {X : MX} {h0 : Mem} (C : Cx G X cX3_washes 2 RX3 2 0 0 none "washes") :
    ∀ (m n : Nat) (h : Mem) (S1 : St), EX h0 h → MR h E S1 → WI E S S1 n → (n : Int) + m = E.cm → (∀ h' : Mem, EX h h' → Fr sM1 h h' → MR h' E (washS E S) → P 0 h') →
    V G X 2 0 0 (QF G X 3 0 0 (PR h0 P)) 2 [(0, rf 177), (1, iv (n : Int))] [] h := by
  intro m
  induction m with
  | zero =>
    intro n h S1 B T w hn hp
    have K := T.en.cm
    refine wX3_washes_L2 C ⟨B, ⟨by omega, by omega⟩⟩ ?_
    rw [T.te.1.2.2.2.2.1]
    refine ⟨T.ms, fun _ => hp h (EX.rf B.2) (Fr.rf _ _) (T.congr w.1.symm w.2.1.symm (fun c c0 c1 => ?_) fun p _ _ => ?_), fun q => absurd q (by omega)⟩
    · show (if 0 ≤ c ∧ c < E.cm then washL E S.now (S.co c) else S.co c) = _
      rw [if_pos ⟨c0, c1⟩, w.2.2.2 c c0 c1, if_pos (by omega)]
    · show S.purse p = _
      rw [w.2.2.1]
  | succ m ih =>
    intro n h S1 B T w hn hp
    have K := T.en.cm
    have inner : ∀ (l9 : Co) (h : Mem) (S1 : St), EX h0 h → MR h E S1 → S1.now = S.now ∧ S1.bare = S.bare ∧ S1.purse = S.purse ∧ (∀ c : Int, 0 ≤ c → c < E.cm → c ≠ n → S1.co c = if c < n then washL E S.now (S.co c) else S.co c) → S1.co n = l9 → washL E S.now l9 = washL E S.now (S.co n) →
        (∀ h' : Mem, EX h h' → Fr sM1 h h' → MR h' E (washS E S) → P 0 h') → V G X 2 0 0 (QF G X 3 0 0 (PR h0 P)) 12 [(0, rf 177), (1, iv (n : Int))] [] h := by
      intro l9
      induction l9 with
      | nil =>
        intro h S1 B T w el ew hp
        refine wX3_washes_L12 C ⟨B, ⟨by omega, by omega⟩⟩ ⟨T.ms, sX3_isTopWet T (by omega) (by omega) fun e => ⟨fun q => ⟨⟨by omega, by omega⟩, fun B' => ?_⟩, fun q => absurd q (by rw [el]; simp [wetL])⟩⟩
        have := ih (n + 1) h S1 B T ⟨w.1, w.2.1, w.2.2.1, fun c c0 c1 => ?_⟩ (by omega) hp
        · rwa [show ((n + 1 : Nat) : Int) = (n : Int) + 1 by omega] at this
        · by_cases z : c = n
          · rw [z, if_pos (by omega), ← ew, el]; rfl
          · rw [w.2.2.2 c c0 c1 z]
            by_cases z2 : c < n
            · rw [if_pos z2, if_pos (by omega)]
            · rw [if_neg z2, if_neg (by omega)]
      | cons x r ihr =>
        intro h S1 B T w el ew hp
        obtain ⟨b, wn⟩ := x
        refine wX3_washes_L12 C ⟨B, ⟨by omega, by omega⟩⟩ ⟨T.ms, sX3_isTopWet T (by omega) (by omega) fun e => ⟨fun q => ⟨⟨by omega, by omega⟩, fun B' => ?_⟩, fun q => ?_⟩⟩
        · have hd : wn = -1 ∨ wn + E.dry ≤ S.now := by
            rw [el] at q
            by_cases z : wn = -1 ∨ wn + E.dry ≤ S1.now
            · rw [w.1] at z; exact z
            · rw [if_pos (by simp [wetL]; omega)] at q; cases q
          have := ih (n + 1) h S1 B T ⟨w.1, w.2.1, w.2.2.1, fun c c0 c1 => ?_⟩ (by omega) hp
          · rwa [show ((n + 1 : Nat) : Int) = (n : Int) + 1 by omega] at this
          · by_cases z : c = n
            · rw [z, if_pos (by omega), ← ew, el, washL, if_pos hd]
            · rw [w.2.2.2 c c0 c1 z]
              by_cases z2 : c < n
              · rw [if_pos z2, if_pos (by omega)]
              · rw [if_neg z2, if_neg (by omega)]
        · have hd : ¬ (wn = -1 ∨ wn + E.dry ≤ S.now) := fun z => by
            rw [el, if_neg (by simp [wetL, w.1]; omega)] at q; exact q rfl
          have tc := T.co (c := (n : Int)) (by omega) (by omega)
          rw [el] at tc
          have hl := (T.st.co n (by omega) (by omega)).1
          rw [el, List.length_cons] at hl
          have el2 : (((b, wn) :: r).length : Int) - 1 = (r.length : Int) := by rw [List.length_cons]; omega
          rw [tc.1, el2]
          refine ⟨by omega, by omega, ⟨by omega, by omega⟩, fun h12 e12 B' => ?_⟩
          have x12 : EX h h12 := by rw [e12]; exact EX_up e T.ms.k185 (by decide) rfl (by omega) (okI_a (Or.inl rfl) ⟨by omega, by omega⟩)
          have f12 : Fr (fun b j => b = 185 ∧ j = (n : Int)) h h12 := by rw [e12]; exact (Fr.rf _ _).up ⟨rfl, rfl⟩
          have T12 : MR h12 E (dropS S1 n r) := T.cell (by omega) (by omega) x12.1 (T.st.drop (by rw [el]; exact List.suffix_cons _ _)) (fun b j _ n1 _ => f12 b j n1) (by rw [e12, up_s]) (tc.2.2.2.mono fun i i0 i1 => ⟨f12 186 i (by omega), f12 187 i (by omega)⟩)
          refine ihr h12 (dropS S1 n r) B'.1 T12 ⟨w.1, w.2.1, w.2.2.1, fun c c0 c1 z => ?_⟩ ?_ ?_ fun h' e3 f3 => hp h' (x12.tr e3) ((f12.mono fun b j q => by unfold sM1; omega).tr f3)
          · show fu S1.co n r c = _
            rw [fu_n z]; exact w.2.2.2 c c0 c1 z
          · show fu S1.co n r n = r
            rw [fu_s]
          · rw [← ew, washL, if_neg hd]
    refine wX3_washes_L2 C ⟨B, ⟨by omega, by omega⟩⟩ ?_
    rw [T.te.1.2.2.2.2.1]
    refine ⟨T.ms, fun q => absurd q (by omega), fun _ B' => ?_⟩
    have wn := w.2.2.2 n (by omega) (by omega)
    rw [if_neg (by omega)] at wn
    exact inner (S1.co n) h S1 B T ⟨w.1, w.2.1, w.2.2.1, fun c c0 c1 _ => w.2.2.2 c c0 c1⟩ rfl (by rw [wn]) hp
theorem sX3_washes (T : MR h E S) (hp : ∀ h' : Mem, EX h h' → Fr sM1 h h' → MR h' E (washS E S) → P 0 h') : kX3_washes G l h P := by
  refine eX3_washes fun X C e B B' => ?_
  have K := T.en.cm
  exact l_washes3 C E.cm.toNat 0 h S B'.1 T ⟨rfl, rfl, rfl, fun c c0 c1 => by rw [if_neg (by omega)]⟩ (by omega) hp
/-- what each got: the model's row -/
def MG (h : Mem) (g : Int → Int) : Prop := ∀ p : Int, 0 ≤ p → p < 4 → h 215 p = g p
theorem MG.keep {h h' : Mem} {g : Int → Int} (x : MG h g) (f : ∀ j : Int, h' 215 j = h 215 j) : MG h' g := fun p p0 p1 => (f p).trans (x p p0 p1)
theorem l_ends {g : Int → Int} {X : MX} {h0 : Mem} (C : Cx G X cX3_ends 3 RX3 4 0 0 none "ends") (K : EnOk E) (hno : S.now.tmod 24 = 12) :
    ∀ (m n : Nat) (h : Mem), EX h0 h → MR h E (purseS S (payN E S (S.purse, g) n).1) → MG h (payN E S (S.purse, g) n).2 → (n : Int) + m = E.tm → (∀ h' : Mem, EX h h' → Fr sMs h h' → MR h' E (purseS S (payN E S (S.purse, g) E.tm.toNat).1) → MG h' (payN E S (S.purse, g) E.tm.toNat).2 → P 0 h') →
    V G X 3 0 0 (QF G X 3 0 0 (PR h0 P)) 31 [(0, rf 177), (1, iv (n : Int))] [] h := by
  intro m
  have Kt := K.tm
  have Kp := K.pm
  induction m with
  | zero =>
    intro n h B T xg hn hp
    refine wX3_ends_L31 C ⟨B, ⟨by omega, by omega⟩⟩ ?_
    rw [T.te.1.2.2.2.1]
    refine ⟨T.ms, fun _ => hp h (EX.rf B.2) (Fr.rf _ _) ?_ ?_, fun q => absurd q (by omega)⟩
    · rw [show E.tm.toNat = n by omega]; exact T
    · rw [show E.tm.toNat = n by omega]; exact xg
  | succ m ih =>
    intro n h B T xg hn hp
    have r1 : R32 ((n : Int) + 1) := ⟨by omega, by omega⟩
    have Kr := K.rent n (by omega) (by omega)
    refine wX3_ends_L31 C ⟨B, ⟨by omega, by omega⟩⟩ ?_
    rw [T.te.1.2.2.2.1, T.td.1.1]
    refine ⟨T.ms, fun q => absurd q (by omega), fun _ => ⟨fun q => absurd hno q, fun _ => sX3_thingOwner T (by omega) (by omega) fun h3 e3 f3 _ => ?_⟩⟩
    have T3 := T.cn e3.1 f3
    have xg3 : MG h3 (payN E S (S.purse, g) n).2 := xg.keep fun j => f3 215 j (by unfold sCn; omega)
    have ew : whoF E (purseS S (payN E S (S.purse, g) n).1) n = whoF E S n := rfl
    rw [ew]
    have nx : payN E S (S.purse, g) (n + 1) = if whoF E S n = -1 then payN E S (S.purse, g) n else (fu (payN E S (S.purse, g) n).1 (whoF E S n) (min 999 ((payN E S (S.purse, g) n).1 (whoF E S n) + E.rent n)), fu (payN E S (S.purse, g) n).2 (whoF E S n) (w32 ((payN E S (S.purse, g) n).2 (whoF E S n) + E.rent n))) := rfl
    refine ⟨fun q => ⟨r1, fun B' => ?_⟩, fun q => ?_⟩
    · rw [if_pos q] at nx
      have := ih (n + 1) h3 B'.1 (by rw [nx]; exact T3) (by rw [nx]; exact xg3) (by omega) fun h' e4 f4 => hp h' (e3.tr e4) (f3.cns.tr f4)
      rwa [show ((n + 1 : Nat) : Int) = (n : Int) + 1 by omega] at this
    · have r := (whoF_rng K S (t := n) (by omega) (by omega)).resolve_left q
      obtain ⟨o, eo⟩ : ∃ z : Int, z = whoF E S n := ⟨_, rfl⟩
      rw [if_neg q] at nx
      rw [← eo] at q r nx ⊢
      have hpu := T3.st.purse o r.1 r.2
      have tp := T3.td.2.2 o r.1 r.2
      have tpe : (purseS S (payN E S (S.purse, g) n).1).purse o = (payN E S (S.purse, g) n).1 o := rfl
      rw [tpe] at hpu tp
      rw [tp, T3.te.2.2.1 n (by omega) (by omega), xg3 o r.1 (by omega)]
      have fin : ∀ (h15 h20 : Mem) (v : Int), h15 = up h3 215 o (w32 ((payN E S (S.purse, g) n).2 o + E.rent n)) → v = min 999 ((payN E S (S.purse, g) n).1 o + E.rent n) → h20 = up h15 182 o v → EX h0 h20 → V G X 3 0 0 (QF G X 3 0 0 (PR h0 P)) 31 [(0, rf 177), (1, iv ((n : Int) + 1))] [] h20 := fun h15 h20 v e15 ev e20 B' => by
        have x15 : EX h3 h15 := by rw [e15]; exact EX_up (EX.rf e3.2) T3.ms.k215 (by decide) rfl r.1 (okI_a (Or.inl rfl) (w32_R _))
        have x20 : EX h3 h20 := by rw [e20]; exact EX_up x15 (T3.ms.ext x15.1).k182 (by decide) rfl r.1 (okI_a (Or.inl rfl) ⟨by omega, by omega⟩)
        have f20 : Fr (fun b _ => b = 182 ∨ b = 215) h3 h20 := by rw [e20, e15]; exact ((Fr.rf _ _).up (Or.inr rfl)).up (Or.inl rfl)
        have hSn : StOk E (purseS S (payN E S (S.purse, g) (n + 1)).1) := by
          refine StOk.mk T.st.now T.st.bare T.st.co fun p p0 p1 => ?_
          show 0 ≤ (payN E S (S.purse, g) (n + 1)).1 p ∧ (payN E S (S.purse, g) (n + 1)).1 p ≤ 999
          rw [nx]
          show 0 ≤ fu _ _ _ p ∧ fu _ _ _ p ≤ 999
          by_cases z : p = o
          · rw [z, fu_s]; omega
          · rw [fu_n z]; exact T.st.purse p p0 p1
        have T20 : MR h20 E (purseS S (payN E S (S.purse, g) (n + 1)).1) := by
          refine (T3.purse (f := (payN E S (S.purse, g) (n + 1)).1) x20.1 f20 (fun p p0 p1 => ?_) hSn : MR h20 E (purseS (purseS S (payN E S (S.purse, g) n).1) (payN E S (S.purse, g) (n + 1)).1))
          rw [e20, nx]
          show _ = fu _ _ _ p
          by_cases z : p = o
          · rw [z, up_s, fu_s, ev]
          · rw [up_i z, fu_n z, e15, up_a (by omega)]; exact T3.td.2.2 p p0 p1
        have xg20 : MG h20 (payN E S (S.purse, g) (n + 1)).2 := fun p p0 p1 => by
          rw [e20, up_a (by omega), e15, nx]
          show _ = fu _ _ _ p
          by_cases z : p = o
          · rw [z, up_s, fu_s]
          · rw [up_i z, fu_n z]; exact xg3 p p0 p1
        have := ih (n + 1) h20 B' T20 xg20 (by omega) fun h' e4 f4 => hp h' ((e3.tr x20).tr e4) ((f3.cns.tr (f20.mono fun b j q => by unfold sMs sM1; omega)).tr f4)
        rwa [show ((n + 1 : Nat) : Int) = (n : Int) + 1 by omega] at this
      refine ⟨r.1, by omega, by omega, by omega, fun h15 e15 => ⟨⟨by omega, by omega⟩, fun q2 h20 e20 => ⟨r1, fun B' => fin h15 h20 _ e15 (by omega) e20 B'.1⟩, fun q2 h20 e20 => ⟨r1, fun B' => fin h15 h20 _ e15 (by omega) e20 B'.1⟩⟩⟩
theorem MR.hour {h' : Mem} (T : MR h E S) {n : Int} (e : Ext h h') (f : Fr (fun b j => b = 178 ∧ j = 9) h h') (hn : h' 178 9 = n) (h1 : S.now ≤ n) (h2 : n ≤ 1000000) : MR h' E (hourS S n) := by
  refine ⟨T.ms.ext e, T.en, T.st.hour h1 h2, T.te.keep fun b j q => f b j (by omega), ⟨hn, (f 178 8 (by omega)).trans T.td.1.2⟩, fun c c0 c1 => ?_, fun p p0 p1 => (f _ _ (by omega)).trans (T.td.2.2 p p0 p1)⟩
  rw [f 185 c (by omega)]
  exact ⟨(T.co c0 c1).1, (T.co c0 c1).2.mono fun i _ _ => ⟨f 186 i (by omega), f 187 i (by omega)⟩⟩
theorem sX3_ends {g : Int → Int} (T : MR h E S) (xg : MG h g) (hn : S.now < 1000000) (hp : ∀ h' : Mem, EX h h' → Fr sMs h h' → MR h' E (closeS E S) → MG h' (closeG E S g) → P 0 h') : kX3_ends G l h P := by
  refine eX3_ends fun X C e B => ⟨T.ms, ?_⟩
  have Kn := T.st.now
  have Kt := T.en.tm
  rw [T.td.1.1]
  have fin : ∀ (h2 h9 : Mem) (S2 : St), EX h h2 → Fr sMs h h2 → MR h2 E S2 → MG h2 g → S2.now = S.now → S2 = (if rainF E S.now = true then washS E S else S) → h9 = up h2 178 9 (h2 178 9 + 1) → EX h h9 →
      V G X 3 0 0 (QF G X 3 0 0 (PR h P)) 31 [(0, rf 177), (1, iv 0)] [] h9 := fun h2 h9 S2 e2 f2 T2 x2 en eS e9 B9 => by
    have x9 : EX h2 h9 := by rw [e9]; exact EX_up (EX.rf e2.2) T2.ms.k178 (by decide) rfl (by decide) (okI_a (Or.inl rfl) (by rw [T2.td.1.1, en]; exact ⟨by omega, by omega⟩))
    have f9 : Fr (fun b j => b = 178 ∧ j = 9) h2 h9 := by rw [e9]; exact (Fr.rf _ _).up ⟨rfl, rfl⟩
    have T9 : MR h9 E (hourS S2 (S.now + 1)) := T2.hour x9.1 f9 (by rw [e9, up_s, T2.td.1.1, en]) (by rw [en]; omega) (by omega)
    have xg9 : MG h9 g := x2.keep fun j => f9 215 j (by omega)
    have fr9 : Fr sMs h h9 := f2.tr (f9.mono fun b j q => by unfold sMs sM1; omega)
    have ed : hourS S2 (S.now + 1) = dueS E S := by rw [eS]; rfl
    rw [ed] at T9
    by_cases q : (S.now + 1).tmod 24 = 12
    · refine l_ends (S := dueS E S) (g := g) C T.en q E.tm.toNat 0 h9 B9 (T9.congr rfl rfl (fun _ _ _ => rfl) fun _ _ _ => rfl) xg9 (by omega) fun h' e3 f3 T3 x3 => hp h' (B9.tr e3) (fr9.tr f3) ?_ ?_
      · rw [closeS, if_pos q, payN_1 E (dueS E S) (dueS E S).purse (dueS E S).purse g]; exact T3
      · rw [closeG, if_pos q]; exact x3
    · have done : P 0 h9 := hp h9 B9 fr9 (by rw [closeS, if_neg q]; exact T9) (by rw [closeG, if_neg q]; exact xg9)
      refine wX3_ends_L31 C ⟨B9, ⟨by decide, by decide⟩⟩ ?_
      rw [T9.te.1.2.2.2.1, T9.td.1.1]
      exact ⟨T9.ms, fun _ => done, fun _ => ⟨fun _ => done, fun z => absurd z q⟩⟩
  refine sX3_rains T fun e2 => ⟨fun q => ?_, fun q => ?_⟩
  · have hr : ¬ rainF E S.now = true := fun z => by rw [if_pos z] at q; cases q
    refine ⟨by rw [T.td.1.1]; exact ⟨by omega, by omega⟩, fun h9 e9 B' => fin h h9 S e2 (Fr.rf _ _) T xg rfl (by rw [if_neg hr]) e9 B'.1⟩
  · have hr : rainF E S.now = true := Classical.byContradiction fun z => by rw [if_neg z] at q; exact q rfl
    refine sX3_washes T fun h20 e20 f20 T20 e21 => ?_
    have xg20 : MG h20 g := xg.keep fun j => f20 215 j (by unfold sM1; omega)
    refine ⟨?_, fun h26 e26 B' => fin h20 h26 (washS E S) e20 (f20.mono fun _ _ z => Or.inl z) T20 xg20 rfl (by rw [if_pos hr]) e26 B'.1⟩
    rw [T20.td.1.1]
    show R32 (S.now + 1)
    exact ⟨by omega, by omega⟩
end
