/-! THE MODEL HOLDS A STREET; what its methods that only ask answer -/
set_option maxRecDepth 100000
def ME (h : Mem) (E : En) : Prop :=
  (h 178 0 = E.dry ∧ h 178 1 = E.part ∧ h 178 2 = E.cost ∧ h 178 3 = E.tm ∧ h 178 4 = E.cm ∧ h 178 5 = E.pm ∧ h 178 6 = E.suit ∧ h 178 7 = E.rm) ∧
  (∀ t : Int, 0 ≤ t → t ≤ E.tm → h 179 t = E.first t) ∧ (∀ t : Int, 0 ≤ t → t < E.tm → h 180 t = E.rent t) ∧ (∀ p : Int, 0 ≤ p → p < E.pm → h 181 p = E.colour p) ∧
  (∀ k : Int, 0 ≤ k → k < E.rm → h 183 k = E.rfr k ∧ h 184 k = E.rto k)
def MD (h : Mem) (E : En) (S : St) : Prop :=
  (h 178 9 = S.now ∧ h 178 8 = S.bare) ∧ (∀ c : Int, 0 ≤ c → c < E.cm → h 185 c = ((S.co c).length : Int) ∧ Col (h 186) (h 187) eM (5 * c) (S.co c)) ∧
  (∀ p : Int, 0 ≤ p → p < E.pm → h 182 p = S.purse p)
def MR (h : Mem) (E : En) (S : St) : Prop := MS h ∧ EnOk E ∧ StOk E S ∧ ME h E ∧ MD h E S
theorem MR.ms {h : Mem} {E : En} {S : St} (T : MR h E S) : MS h := T.1
theorem MR.en {h : Mem} {E : En} {S : St} (T : MR h E S) : EnOk E := T.2.1
theorem MR.st {h : Mem} {E : En} {S : St} (T : MR h E S) : StOk E S := T.2.2.1
theorem MR.te {h : Mem} {E : En} {S : St} (T : MR h E S) : ME h E := T.2.2.2.1
theorem MR.td {h : Mem} {E : En} {S : St} (T : MR h E S) : MD h E S := T.2.2.2.2
theorem MR.co {h : Mem} {E : En} {S : St} (T : MR h E S) {c : Int} (h0 : 0 ≤ c) (h1 : c < E.cm) : h 185 c = ((S.co c).length : Int) ∧ Col (h 186) (h 187) eM (5 * c) (S.co c) := T.td.2.1 c h0 h1
def mIn (b j : Int) : Prop := (b = 178 ∧ 0 ≤ j ∧ j ≤ 9) ∨ (179 ≤ b ∧ b ≤ 187)
theorem MR.keep {h h' : Mem} {E : En} {S : St} (T : MR h E S) (e : Ext h h') (f : ∀ b j : Int, mIn b j → h' b j = h b j) : MR h' E S := by
  obtain ⟨t1, t2, t3, ⟨⟨a1, a2, a3, a4, a5, a6, a7, a8⟩, b, c, d, g⟩, ⟨k1, k2⟩, l, m⟩ := T
  have f0 : ∀ j : Int, 0 ≤ j ∧ j ≤ 9 → h' 178 j = h 178 j := fun j q => f 178 j (Or.inl ⟨rfl, q⟩)
  have f1 : ∀ i : Int, 179 ≤ i ∧ i ≤ 187 → ∀ j, h' i j = h i j := fun i q j => f i j (Or.inr q)
  refine ⟨t1.ext e, t2, t3, ⟨⟨?_, ?_, ?_, ?_, ?_, ?_, ?_, ?_⟩, ?_, ?_, ?_, ?_⟩, ⟨?_, ?_⟩, ?_, ?_⟩
  · rw [f0 0 (by omega)]; exact a1
  · rw [f0 1 (by omega)]; exact a2
  · rw [f0 2 (by omega)]; exact a3
  · rw [f0 3 (by omega)]; exact a4
  · rw [f0 4 (by omega)]; exact a5
  · rw [f0 5 (by omega)]; exact a6
  · rw [f0 6 (by omega)]; exact a7
  · rw [f0 7 (by omega)]; exact a8
  · intro t h0 h1; rw [f1 179 (by omega)]; exact b t h0 h1
  · intro t h0 h1; rw [f1 180 (by omega)]; exact c t h0 h1
  · intro t h0 h1; rw [f1 181 (by omega)]; exact d t h0 h1
  · intro t h0 h1; rw [f1 183 (by omega), f1 184 (by omega)]; exact g t h0 h1
  · rw [f0 9 (by omega)]; exact k1
  · rw [f0 8 (by omega)]; exact k2
  · intro t h0 h1
    rw [f1 185 (by omega)]
    exact ⟨(l t h0 h1).1, (l t h0 h1).2.mono fun i _ _ => ⟨f1 186 (by omega) i, f1 187 (by omega) i⟩⟩
  · intro t h0 h1; rw [f1 182 (by omega)]; exact m t h0 h1
def sCn : Int → Int → Prop := fun b _ => b = 214
theorem MR.cn {h h' : Mem} {E : En} {S : St} (T : MR h E S) (e : Ext h h') (f : Fr sCn h h') : MR h' E S :=
  T.keep e fun b j q => f b j fun z => by unfold sCn at z; unfold mIn at q; omega
section
variable {G : GT} {h : Mem} {E : En} {S : St} {P : Int → Mem → Prop} {l : Launch}
theorem sX3_in {x y z : Int} (hp : P (if y ≤ x ∧ x ≤ z then 1 else 0) h) : kX3_in G l x y z h P := by
  refine eX3_in fun X C e B => ⟨fun q => ?_, fun q => ⟨fun q2 => ?_, fun q2 => ?_⟩⟩
  · rw [if_neg (by omega)] at hp; exact hp
  · rw [if_neg (by omega)] at hp; exact hp
  · rw [if_pos (by omega)] at hp; exact hp
theorem sX0_in {x y z : Int} (hp : P (if y ≤ x ∧ x ≤ z then 1 else 0) h) : kX0_in G l x y z h P := by
  refine eX0_in fun X C e B => ⟨fun q => ?_, fun q => ⟨fun q2 => ?_, fun q2 => ?_⟩⟩
  · rw [if_neg (by omega)] at hp; exact hp
  · rw [if_neg (by omega)] at hp; exact hp
  · rw [if_pos (by omega)] at hp; exact hp
theorem sX3_isStreet (M : MS h) (hp : P (if 0 < h 178 0 then 1 else 0) h) : kX3_isStreet G l h P := by
  refine eX3_isStreet fun X C e B => ⟨M, fun q => ?_, fun q => ?_⟩
  · rw [if_neg (by omega)] at hp; exact hp
  · rw [if_pos (by omega)] at hp; exact hp
/-- by numbers that stand: with a street or without -/
theorem sX3_isThing (M : MS h) {n : Int} (e1 : h 178 3 = n) (hn : 0 ≤ n ∧ n ≤ 16) {t : Int} (hp : P (if 0 ≤ t ∧ t < n then 1 else 0) h) : kX3_isThing G l t h P := by
  refine eX3_isThing fun X C e B => ?_
  rw [e1]
  refine ⟨M, ⟨by omega, by omega⟩, sX3_in fun _ => ?_⟩
  simpa [show (0 ≤ t ∧ t ≤ n - 1 ↔ 0 ≤ t ∧ t < n) by omega] using hp
theorem sX3_isCell (M : MS h) {n : Int} (e1 : h 178 4 = n) (hn : 0 ≤ n ∧ n ≤ 16) {t : Int} (hp : P (if 0 ≤ t ∧ t < n then 1 else 0) h) : kX3_isCell G l t h P := by
  refine eX3_isCell fun X C e B => ?_
  rw [e1]
  refine ⟨M, ⟨by omega, by omega⟩, sX3_in fun _ => ?_⟩
  simpa [show (0 ≤ t ∧ t ≤ n - 1 ↔ 0 ≤ t ∧ t < n) by omega] using hp
theorem sX3_isPainter (M : MS h) {n : Int} (e1 : h 178 5 = n) (hn : 0 ≤ n ∧ n ≤ 16) {t : Int} (hp : P (if 0 ≤ t ∧ t < n then 1 else 0) h) : kX3_isPainter G l t h P := by
  refine eX3_isPainter fun X C e B => ?_
  rw [e1]
  refine ⟨M, ⟨by omega, by omega⟩, sX3_in fun _ => ?_⟩
  simpa [show (0 ≤ t ∧ t ≤ n - 1 ↔ 0 ≤ t ∧ t < n) by omega] using hp
theorem sX3_has {s k : Int} (hp : P (if hs s k then 1 else 0) h) : kX3_has G l s k h P := by
  refine eX3_has fun X C e B => ⟨fun c => ?_, fun c => ?_⟩
  · rw [if_neg c] at hp; exact hp
  · rw [if_pos c] at hp; exact hp
theorem sX3_isBare (M : MS h) {t : Int} (hp : P (if hs (h 178 8) t then 1 else 0) h) : kX3_isBare G l t h P :=
  eX3_isBare fun X C e B => ⟨M, sX3_has fun _ => hp⟩
theorem l_thingOf3 (T : MR h E S) {c : Int} (c0 : 0 ≤ c) (c1 : c < E.cm) {X : MX} {h0 : Mem} (C : Cx G X cX3_thingOf 3 RX3 0 0 0 (some .int) "thingOf") (B : EX h0 h) :
    ∀ (m n : Nat), (n : Int) + m = E.thingOf c → P (E.thingOf c) h → V G X 3 0 0 (QF G X 0 0 0 (PI h0 P)) 2 [(0, rf 177), (1, iv c), (2, iv (n : Int))] [] h := by
  intro m
  have K := T.en.th c c0 c1
  have Kt := T.en.tm
  have Kc := T.en.cm
  induction m with
  | zero =>
    intro n hn hp
    refine wX3_thingOf_L2 C ⟨B, ⟨by omega, by omega⟩, ⟨by omega, by omega⟩⟩ ?_
    rw [T.te.2.1 (n + 1) (by omega) (by omega)]
    refine ⟨T.ms, by omega, by omega, fun _ => ?_, fun q => ?_⟩
    · rw [show (n : Int) = E.thingOf c by omega]; exact hp
    · rw [show (n : Int) = E.thingOf c by omega] at q; omega
  | succ m ih =>
    intro n hn hp
    refine wX3_thingOf_L2 C ⟨B, ⟨by omega, by omega⟩, ⟨by omega, by omega⟩⟩ ?_
    rw [T.te.2.1 (n + 1) (by omega) (by omega)]
    have := T.en.le (s := n + 1) (t := E.thingOf c) (by omega) (by omega) (by omega)
    refine ⟨T.ms, by omega, by omega, fun q => absurd q (by omega), fun q => ⟨⟨by omega, by omega⟩, fun _ => ?_⟩⟩
    have := ih (n + 1) (by omega) hp
    rwa [show ((n + 1 : Nat) : Int) = (n : Int) + 1 by omega] at this
theorem sX3_thingOf (T : MR h E S) {c : Int} (c0 : 0 ≤ c) (c1 : c < E.cm) (hp : P (E.thingOf c) h) : kX3_thingOf G l c h P := by
  refine eX3_thingOf fun X C e B B' => ?_
  have K := T.en.th c c0 c1
  exact l_thingOf3 T c0 c1 C B'.1 (E.thingOf c).toNat 0 (by omega) hp
theorem sX3_isWetAt (T : MR h E S) {k hour w : Int} (k0 : 0 ≤ k) (k1 : k < 80) (hw : h 187 k = w) (w0 : -1 ≤ w) (w1 : w ≤ S.now) (hp : P (if w = -1 ∨ w + E.dry ≤ hour then 0 else 1) h) : kX3_isWetAt G l k hour h P := by
  refine eX3_isWetAt fun X C e B => ?_
  have Kd := T.en.dry
  have Kn := T.st.now
  rw [hw, T.te.1.1]
  refine ⟨T.ms, k0, k1, fun q => ?_, fun q => ⟨⟨by omega, by omega⟩, fun q2 => ?_, fun q2 => ?_⟩⟩
  · rw [if_pos (Or.inl q)] at hp; exact hp
  · rw [if_pos (Or.inr (by omega))] at hp; exact hp
  · rw [if_neg (by omega)] at hp; exact hp
theorem sX3_topOf (T : MR h E S) {c : Int} (c0 : 0 ≤ c) (c1 : c < E.cm) (hp : P (topL (S.co c)) h) : kX3_topOf G l c h P := by
  refine eX3_topOf fun X C e B => ?_
  have K := T.en.cm
  have Z := T.st.co c c0 c1
  have q := T.co c0 c1
  rw [q.1]
  refine ⟨T.ms, c0, by omega, fun hn => ?_, fun hz => ?_⟩
  · cases hl : S.co c with
    | nil => rw [hl] at hn; exact absurd rfl hn
    | cons x r =>
      obtain ⟨b, w⟩ := x
      rw [hl] at q Z hp
      have zl := Z.1
      rw [List.length_cons] at zl
      rw [List.length_cons]
      refine ⟨by omega, by omega, ?_⟩
      rw [show 5 * c + ((r.length + 1 : Nat) : Int) - 1 = 5 * c + (r.length : Int) by omega, q.2.1]
      exact hp
  · have hl : S.co c = [] := List.length_eq_zero_iff.mp (by omega)
    rw [hl] at hp
    exact hp
theorem sX3_isTopWet (T : MR h E S) {c : Int} (c0 : 0 ≤ c) (c1 : c < E.cm) (hp : P (if wetL E S.now (S.co c) = true then 1 else 0) h) : kX3_isTopWet G l c h P := by
  refine eX3_isTopWet fun X C e B => ?_
  have K := T.en.cm
  have Z := T.st.co c c0 c1
  have q := T.co c0 c1
  rw [q.1, T.td.1.1]
  refine ⟨T.ms, c0, by omega, fun hz => ?_, fun hn => ?_⟩
  · have hl : S.co c = [] := List.length_eq_zero_iff.mp (by omega)
    rw [hl, if_neg (by simp [wetL])] at hp
    exact hp
  · cases hl : S.co c with
    | nil => rw [hl] at hn; exact absurd hn (by decide)
    | cons x r =>
      obtain ⟨b, w⟩ := x
      rw [hl] at q Z hp
      have zl := Z.1
      rw [List.length_cons] at zl
      have hw := Z.2.1 b w List.mem_cons_self
      rw [List.length_cons]
      rw [show 5 * c + ((r.length + 1 : Nat) : Int) - 1 = 5 * c + (r.length : Int) by omega]
      refine ⟨⟨by omega, by omega⟩, sX3_isWetAt T (w := w) (by omega) (by omega) q.2.2.1 hw.2.2.1 hw.2.2.2 fun _ => ⟨fun q2 => ?_, fun q2 => ?_⟩⟩
      · by_cases c9 : w = -1 ∨ w + E.dry ≤ S.now
        · rw [if_neg (by simp [wetL]; omega)] at hp; exact hp
        · rw [if_neg c9] at q2; exact absurd q2 (by decide)
      · by_cases c9 : w = -1 ∨ w + E.dry ≤ S.now
        · rw [if_pos c9] at q2; exact absurd rfl q2
        · rw [if_pos (by simp [wetL]; omega)] at hp; exact hp
theorem l_ownerBy (T : MR h E S) {X : MX} {h0 : Mem} (C : Cx G X cX3_ownerBy 5 RX3 1 0 0 (some .int) "ownerBy") {c hour : Int} (c0 : 0 ≤ c) (c1 : c < E.cm) (R2 : R32 hour) :
    ∀ (l : Co), EX h0 h → l.length ≤ 5 → (∀ b w : Int, (b, w) ∈ l → 0 ≤ b ∧ b < E.pm ∧ -1 ≤ w ∧ w ≤ S.now) → Col (h 186) (h 187) eM (5 * c) l → P (ownL E hour l) h →
    V G X 5 0 0 (QF G X 0 0 0 (PI h0 P)) 9 [(0, rf 177), (1, iv c), (3, iv hour), (4, iv (5 * c + (l.length : Int) - 1))] [] h
  | [], B, _, _, _, hp => by
    have K := T.en.cm
    refine wX3_ownerBy_L9 C ⟨B, ⟨by omega, by omega⟩, R2, ⟨by simp; omega, by simp; omega⟩⟩ ⟨T.ms, ⟨by omega, by omega⟩, fun _ => hp, fun q => ?_⟩
    have : (([] : Co).length : Int) = 0 := rfl
    omega
  | (b, w) :: r, B, hl, hr, ⟨g1, g2, g3⟩, hp => by
    have K := T.en.cm
    have hw := hr b w List.mem_cons_self
    rw [List.length_cons] at hl
    have el : 5 * c + (((b, w) :: r).length : Int) - 1 = 5 * c + (r.length : Int) := by rw [List.length_cons]; omega
    rw [el]
    rw [ownL] at hp
    refine wX3_ownerBy_L9 C ⟨B, ⟨by omega, by omega⟩, R2, ⟨by omega, by omega⟩⟩ ⟨T.ms, ⟨by omega, by omega⟩, fun q => absurd q (by omega), fun _ => ?_⟩
    refine sX3_isWetAt T (w := w) (by omega) (by omega) g2 hw.2.2.1 hw.2.2.2 fun e => ⟨fun q => ?_, fun q => ?_⟩
    · have c9 : ¬ (w = -1 ∨ w + E.dry ≤ hour) := fun z => by rw [if_pos z] at q; exact q rfl
      rw [if_neg c9] at hp
      rw [T.te.1.2.2.2.2.2.2.1]
      refine ⟨fun q2 => ⟨⟨by omega, by omega⟩, fun B' => ?_⟩, fun q2 => ?_⟩
      · rw [if_neg q2] at hp
        have := l_ownerBy T C c0 c1 R2 r B (by omega) (fun b w q => hr b w (List.mem_cons_of_mem _ q)) g3 hp
        rwa [show 5 * c + (r.length : Int) + (-1) = 5 * c + (r.length : Int) - 1 by omega]
      · rw [if_pos q2] at hp; exact hp
    · have c9 : w = -1 ∨ w + E.dry ≤ hour := Classical.byContradiction fun z => by rw [if_neg z] at q; cases q
      rw [if_pos c9] at hp
      rw [g1]
      exact ⟨by omega, by omega, hp⟩
theorem sX3_ownerBy (T : MR h E S) {c hour : Int} (c0 : 0 ≤ c) (c1 : c < E.cm) {l9 : Co} (hl : l9.length ≤ 5) (hr : ∀ b w : Int, (b, w) ∈ l9 → 0 ≤ b ∧ b < E.pm ∧ -1 ≤ w ∧ w ≤ S.now) (hc : Col (h 186) (h 187) eM (5 * c) l9) (hp : P (ownL E hour l9) h) : kX3_ownerBy G l c (l9.length : Int) hour h P := by
  refine eX3_ownerBy fun X C e B => ?_
  have K := T.en.cm
  refine ⟨⟨by omega, by omega⟩, fun y ey B' => ?_⟩
  rw [ey]
  exact l_ownerBy T C c0 c1 B.2.2.2 l9 B'.1 hl hr hc hp
theorem sX3_ownerOf (T : MR h E S) {c : Int} (c0 : 0 ≤ c) (c1 : c < E.cm) (hp : P (ownC E S S.now c) h) : kX3_ownerOf G l c h P := by
  refine eX3_ownerOf fun X C e B => ?_
  have K := T.en.cm
  have Z := T.st.co c c0 c1
  have q := T.co c0 c1
  rw [q.1, T.td.1.1]
  exact ⟨T.ms, c0, by omega, sX3_ownerBy T c0 c1 Z.1 Z.2.1 q.2 fun _ => hp⟩
theorem sX3_cellsIn (T : MR h E S) {t : Int} (t0 : 0 ≤ t) (t1 : t < E.tm) (hp : P (E.first (t + 1) - E.first t) h) : kX3_cellsIn G l t h P := by
  refine eX3_cellsIn fun X C e B => ?_
  have Kt := T.en.tm
  have Kf := T.en.fs t t0 t1
  rw [T.te.2.1 t t0 (by omega), T.te.2.1 (t + 1) (by omega) (by omega)]
  exact ⟨T.ms, by omega, by omega, by omega, by omega, ⟨by omega, by omega⟩, hp⟩
theorem l_ownerByCells (T : MR h E S) {n part : Int} (hn : 1 ≤ n ∧ n ≤ 6) (hpt : 1 ≤ part ∧ part ≤ 100) {w : Int → Int} (hw : ∀ p : Int, 0 ≤ p → p < E.pm → h 214 p = w p ∧ 0 ≤ w p ∧ w p ≤ 16) {X : MX} {h0 : Mem} (C : Cx G X cX3_ownerByCells 6 RX3 0 0 0 (some .int) "ownerByCells") (B : EX h0 h) :
    ∀ (m k : Nat), (k : Int) + m = E.pm → ((bst w k).1 = -1 ∨ 0 ≤ (bst w k).1 ∧ (bst w k).1 ≤ 4) → (0 ≤ (bst w k).2 ∧ (bst w k).2 ≤ 16) → P (holdF w E.pm (part * n)) h →
    V G X 6 0 0 (QF G X 0 0 0 (PI h0 P)) 8 [(0, rf 177), (1, iv n), (2, iv part), (3, iv (bst w k).1), (4, iv (bst w k).2), (5, iv (k : Int))] [] h := by
  intro m
  have K := T.en.pm
  have hneed : 0 ≤ part * n ∧ part * n ≤ 600 := by
    have a1 : 0 ≤ part * n := Int.mul_nonneg (by omega) (by omega)
    have a2 : part * n ≤ 100 * 6 := Int.mul_le_mul hpt.2 (by omega) (by omega) (by omega)
    omega
  induction m with
  | zero =>
    intro k hk b1 b2 hp
    refine wX3_ownerByCells_L8 C ⟨B, ⟨by omega, by omega⟩, ⟨by omega, by omega⟩, ⟨by omega, by omega⟩, ⟨by omega, by omega⟩, ⟨by omega, by omega⟩⟩ ?_
    rw [T.te.1.2.2.2.2.2.1]
    unfold holdF at hp
    rw [show E.pm.toNat = k by omega] at hp
    refine ⟨T.ms, fun _ => ⟨fun q => ?_, fun q => ⟨⟨by omega, by omega⟩, ⟨by omega, by omega⟩, fun q2 => ?_, fun q2 => ?_⟩⟩, fun q => absurd q (by omega)⟩
    · rw [if_neg (fun z => z.1 q)] at hp; exact hp
    · rw [if_neg (fun z => by have := z.2; omega)] at hp; exact hp
    · rw [if_pos ⟨q, by omega⟩] at hp; exact hp
  | succ m ih =>
    intro k hk b1 b2 hp
    have hk1 := hw k (by omega) (by omega)
    have hb : bst w (k + 1) = if w k > (bst w k).2 then ((k : Int), w k) else if w k = (bst w k).2 then (-1, (bst w k).2) else bst w k := rfl
    have nx := fun b1 b2 => ih (k + 1) (by omega) b1 b2 hp
    rw [hb, show ((k + 1 : Nat) : Int) = (k : Int) + 1 by omega] at nx
    refine wX3_ownerByCells_L8 C ⟨B, ⟨by omega, by omega⟩, ⟨by omega, by omega⟩, ⟨by omega, by omega⟩, ⟨by omega, by omega⟩, ⟨by omega, by omega⟩⟩ ?_
    rw [T.te.1.2.2.2.2.2.1, hk1.1]
    refine ⟨T.ms, fun q => absurd q (by omega), fun _ => ⟨by omega, by omega, fun q => ⟨⟨by omega, by omega⟩, fun _ => ?_⟩, fun q => ⟨fun q2 y ey => ⟨⟨by omega, by omega⟩, fun _ => ?_⟩, fun q2 y ey => ⟨⟨by omega, by omega⟩, fun _ => ?_⟩⟩⟩⟩
    · rw [if_neg (by omega), if_neg (by omega)] at nx
      exact nx b1 b2
    · rw [if_neg (by omega), if_pos (by omega)] at nx
      rw [ey, show w k = (bst w k).2 by omega]
      exact nx (Or.inl rfl) b2
    · rw [if_pos (by omega)] at nx
      rw [ey]
      exact nx (Or.inr ⟨by show (0 : Int) ≤ (k : Int); omega, by show (k : Int) ≤ 4; omega⟩) ⟨by show 0 ≤ w k; omega, by show w k ≤ 16; omega⟩
theorem sX3_ownerByCells (T : MR h E S) {n part : Int} (hn : 1 ≤ n ∧ n ≤ 6) (hpt : 1 ≤ part ∧ part ≤ 100) {w : Int → Int} (hw : ∀ p : Int, 0 ≤ p → p < E.pm → h 214 p = w p ∧ 0 ≤ w p ∧ w p ≤ 16) (hp : P (holdF w E.pm (part * n)) h) : kX3_ownerByCells G l n part h P := by
  refine eX3_ownerByCells fun X C e B B' => ?_
  have K := T.en.pm
  exact l_ownerByCells T hn hpt hw C B'.1 E.pm.toNat 0 (by omega) (Or.inl rfl) ⟨by show (0 : Int) ≤ 0; omega, by show (0 : Int) ≤ 16; omega⟩ hp
theorem l_rains (T : MR h E S) {X : MX} {h0 : Mem} (C : Cx G X cX3_rains 3 RX3 1 0 0 (some .boolean) "rains") (B : EX h0 h) {hour : Int} (R1 : R32 hour) :
    ∀ (n k : Nat), (k : Int) + n = E.rm → (rainN E hour k = false) → P (if rainF E hour = true then 1 else 0) h →
    V G X 3 0 0 (QF G X 0 0 0 (PZ h0 P)) 2 [(0, rf 177), (1, iv hour), (2, iv (k : Int))] [] h := by
  intro n
  induction n with
  | zero =>
    intro k hk hz hp
    have K := T.en.rm
    refine wX3_rains_L2 C ⟨B, R1, ⟨by omega, by omega⟩⟩ ?_
    rw [T.te.1.2.2.2.2.2.2.2]
    refine ⟨T.ms, fun _ => ?_, fun q => absurd q (by omega)⟩
    have e : E.rm.toNat = k := by omega
    rw [if_neg (by rw [rainF, e, hz]; decide)] at hp
    exact hp
  | succ n ih =>
    intro k hk hz hp
    have K := T.en.rm
    have r := T.te.2.2.2.2 k (by omega) (by omega)
    refine wX3_rains_L2 C ⟨B, R1, ⟨by omega, by omega⟩⟩ ?_
    rw [T.te.1.2.2.2.2.2.2.2, r.1, r.2]
    refine ⟨T.ms, fun q => absurd q (by omega), fun _ => ⟨by omega, by omega, sX3_in fun _ => ⟨fun q => ⟨⟨by omega, by omega⟩, fun _ => ?_⟩, fun q => ?_⟩⟩⟩
    · have hn : ¬ (E.rfr k ≤ hour ∧ hour ≤ E.rto k) := fun z => by rw [if_pos z] at q; cases q
      have := ih (k + 1) (by omega) (by rw [rainN, hz]; simp; omega) hp
      rwa [show ((k + 1 : Nat) : Int) = (k : Int) + 1 by omega] at this
    · have hy : E.rfr k ≤ hour ∧ hour ≤ E.rto k := Classical.byContradiction fun z => by rw [if_neg z] at q; exact q rfl
      have up1 : ∀ m : Nat, k + 1 ≤ m → rainN E hour m = true := by
        intro m hm
        induction m with
        | zero => omega
        | succ m ihm =>
          by_cases e : m = k
          · subst e; rw [rainN]; simp; right; omega
          · rw [rainN, ihm (by omega)]; rfl
      rw [if_pos (by rw [rainF]; exact up1 _ (by omega))] at hp
      exact hp
theorem sX3_rains (T : MR h E S) {hour : Int} (hp : P (if rainF E hour = true then 1 else 0) h) : kX3_rains G l hour h P := by
  refine eX3_rains fun X C e B B' => ?_
  have K := T.en.rm
  exact l_rains T C B'.1 B.2 E.rm.toNat 0 (by omega) rfl hp
/-- the coats that count -/
def seenL (ah : Int) (hour : Int) (l : Co) : Co := if ah = 0 then l else aheadL hour l
theorem aheadL_sub (hour : Int) : ∀ (l : Co) (x : Int × Int), x ∈ aheadL hour l → x ∈ l
  | [], _, h => h
  | (b, w) :: r, x, h => by
    rw [aheadL] at h
    split at h
    · exact List.mem_cons_of_mem _ (aheadL_sub hour r x h)
    · exact h
theorem l_counts {t hour ah : Int} (K : EnOk E) (t0 : 0 ≤ t) (t1 : t < E.tm) (R2 : R32 hour) (Ra : ah = 0 ∨ ah = 1) {X : MX} {h0 : Mem} (C : Cx G X cX3_countsCells 7 RX3 2 0 0 none "countsCells") :
    ∀ (m n : Nat) (h : Mem), EX h0 h → MR h E S → (n : Int) + m = E.first (t + 1) - E.first t → (∀ p : Int, 0 ≤ p → p < 4 → h 214 p = cnt (fun c => ownL E hour (seenL ah hour (S.co c))) p (E.first t) n) →
    (∀ h' : Mem, EX h h' → Fr sCn h h' → (∀ p : Int, 0 ≤ p → p < 4 → h' 214 p = cells E (fun c => ownL E hour (seenL ah hour (S.co c))) p t) → P 0 h') →
    V G X 7 0 0 (QF G X 3 0 0 (PR h0 P)) 31 [(0, rf 177), (1, iv t), (2, iv hour), (3, iv ah), (4, iv (E.first t + n))] [] h := by
  have Kf := K.fs t t0 t1
  have Kr := K.rng t0 t1
  have Kt := K.tm
  have Kc := K.cm
  have Kp := K.pm
  intro m
  induction m with
  | zero =>
    intro n h B T hn hc hp
    refine wX3_countsCells_L31 C ⟨B, ⟨by omega, by omega⟩, R2, ⟨by omega, by omega⟩, ⟨by omega, by omega⟩⟩ ?_
    rw [T.te.2.1 (t + 1) (by omega) (by omega)]
    refine ⟨T.ms, by omega, by omega, fun _ => hp h (EX.rf B.2) (Fr.rf _ _) fun p p0 p1 => ?_, fun q => absurd q (by omega)⟩
    rw [hc p p0 p1, cells, show (E.first (t + 1) - E.first t).toNat = n by omega]
  | succ m ih =>
    intro n h B T hn hc hp
    obtain ⟨c, ec⟩ : ∃ z : Int, z = E.first t + (n : Int) := ⟨_, rfl⟩
    have c0 : 0 ≤ c := by omega
    have c1 : c < E.cm := by omega
    have Z := T.st.co c c0 c1
    have r1 : R32 (c + 1) := ⟨by omega, by omega⟩
    have en : ∀ h' : Mem, EX h0 h' → MR h' E S → (∀ p : Int, 0 ≤ p → p < 4 → h' 214 p = cnt (fun c => ownL E hour (seenL ah hour (S.co c))) p (E.first t) (n + 1)) → (EX h h' ∧ Fr sCn h h') → V G X 7 0 0 (QF G X 3 0 0 (PR h0 P)) 31 [(0, rf 177), (1, iv t), (2, iv hour), (3, iv ah), (4, iv (c + 1))] [] h' := fun h' b2 t2 c2 f2 => by
      have := ih (n + 1) h' b2 t2 (by omega) c2 fun h'' e3 f3 => hp h'' (f2.1.tr e3) (f2.2.tr f3)
      rwa [show E.first t + ((n + 1 : Nat) : Int) = c + 1 by omega] at this
    have fin : ∀ l9 : Co, l9.length ≤ 5 → (∀ b w : Int, (b, w) ∈ l9 → 0 ≤ b ∧ b < E.pm ∧ -1 ≤ w ∧ w ≤ S.now) → Col (h 186) (h 187) eM (5 * c) l9 → l9 = seenL ah hour (S.co c) →
        kX3_ownerBy G X.2.1 c (l9.length : Int) hour h (fun r h3 => EX h h3 → ((r = (-1) → R32 (c + 1) ∧ (EX h0 h3 ∧ R32 t ∧ R32 hour ∧ R32 ah ∧ R32 (c + 1) → V G X 7 0 0 (QF G X 3 0 0 (PR h0 P)) 31 [(0, rf 177), (1, iv t), (2, iv hour), (3, iv ah), (4, iv (c + 1))] [] h3)) ∧ (r ≠ (-1) → 0 ≤ r ∧ r < 4 ∧ R32 (h3 214 r + 1) ∧ ∀ h13 : Mem, h13 = up h3 214 r (h3 214 r + 1) → R32 (c + 1) ∧ (EX h0 h13 ∧ R32 t ∧ R32 hour ∧ R32 ah ∧ R32 (c + 1) → V G X 7 0 0 (QF G X 3 0 0 (PR h0 P)) 31 [(0, rf 177), (1, iv t), (2, iv hour), (3, iv ah), (4, iv (c + 1))] [] h13)))) := by
      intro l9 hl hr hcol el
      refine sX3_ownerBy T c0 c1 hl hr hcol fun e => ?_
      rw [el]
      rw [el] at hr
      have eo : ownL E hour (seenL ah hour (S.co c)) = (fun c => ownL E hour (seenL ah hour (S.co c))) (E.first t + (n : Int)) := by rw [ec]
      refine ⟨fun q => ⟨r1, fun B' => en h B'.1 T (fun p p0 p1 => ?_) ⟨e, Fr.rf _ _⟩⟩, fun q => ?_⟩
      · rw [hc p p0 p1, cnt, if_neg (by rw [← ec, q]; omega)]; omega
      · have hob := (ownL_rng (E := E) (hour := hour) hr).resolve_left q
        obtain ⟨o, eo2⟩ : ∃ z : Int, z = ownL E hour (seenL ah hour (S.co c)) := ⟨_, rfl⟩
        rw [← eo2] at hob q ⊢
        have cr := cnt_rng (fun c => ownL E hour (seenL ah hour (S.co c))) o (E.first t) n
        have hcc := hc o hob.1 (by omega)
        have rr : R32 (h 214 o + 1) := by rw [hcc]; exact ⟨by omega, by omega⟩
        refine ⟨hob.1, by omega, rr, fun h2 e2 => ⟨r1, fun B' => ?_⟩⟩
        have f2 : Fr sCn h h2 := by rw [e2]; exact (Fr.rf _ _).up rfl
        have x2 : EX h h2 := by rw [e2]; exact EX_up e (T.ms.k214) (by decide) rfl hob.1 (okI_a (Or.inl rfl) rr)
        refine en h2 B'.1 (T.cn x2.1 f2) (fun p p0 p1 => ?_) ⟨x2, f2⟩
        rw [e2, cnt, ← ec, ← eo2]
        by_cases q9 : p = o
        · rw [q9, up_s, if_pos rfl, hcc]
        · rw [up_i q9, if_neg (fun z => q9 z.symm), hc p p0 p1]; omega
    have lay : ∀ l9 : Co, l9.length ≤ 5 → (∀ b w : Int, (b, w) ∈ l9 → 0 ≤ b ∧ b < E.pm ∧ -1 ≤ w ∧ w ≤ S.now) → Col (h 186) (h 187) eM (5 * c) l9 → seenL ah hour l9 = seenL ah hour (S.co c) →
        V G X 7 0 0 (QF G X 3 0 0 (PR h0 P)) 53 [(0, rf 177), (1, iv t), (2, iv hour), (3, iv ah), (4, iv c), (5, iv (l9.length : Int))] [] h := by
      intro l9
      induction l9 with
      | nil =>
        intro hl hr hcol el
        refine wX3_countsCells_L53 C ⟨B, ⟨by omega, by omega⟩, R2, ⟨by omega, by omega⟩, ⟨by omega, by omega⟩, ⟨by decide, by decide⟩⟩ ⟨T.ms, fun q => ?_, fun q => ⟨fun _ => ?_, fun q2 => absurd q2 (by simp)⟩⟩
        · exact fin [] hl hr hcol (by rw [← el, seenL, if_pos q])
        · exact fin [] hl hr hcol (by rw [← el, seenL, if_neg q]; rfl)
      | cons x r ihr =>
        intro hl hr hcol el
        obtain ⟨b, w⟩ := x
        have hl2 : (((b, w) :: r).length : Int) = (r.length : Int) + 1 := by rw [List.length_cons]; omega
        have hl3 : r.length + 1 ≤ 5 := hl
        refine wX3_countsCells_L53 C ⟨B, ⟨by omega, by omega⟩, R2, ⟨by omega, by omega⟩, ⟨by omega, by omega⟩, ⟨by omega, by omega⟩⟩ ?_
        refine ⟨T.ms, fun q => fin _ hl hr hcol (by rw [← el, seenL, if_pos q]), fun q => ⟨fun q2 => absurd q2 (by omega), fun _ => ?_⟩⟩
        rw [hl2, show 5 * c + ((r.length : Int) + 1) - 1 = 5 * c + (r.length : Int) by omega, hcol.2.1]
        refine ⟨by omega, by omega, fun q2 => ?_, fun q2 => ⟨⟨by omega, by omega⟩, fun _ => ?_⟩⟩
        · have := fin _ hl hr hcol (by rw [← el, seenL, if_neg q, aheadL, if_neg (by unfold eM at q2; omega)])
          rwa [hl2] at this
        · have := ihr (by omega) (fun b w q => hr b w (List.mem_cons_of_mem _ q)) hcol.2.2 (by
            rw [← el, seenL, if_neg q, seenL, if_neg q]
            show _ = aheadL hour ((b, w) :: r)
            rw [aheadL, if_pos (by unfold eM at q2; omega)])
          rwa [show (r.length : Int) + 1 + (-1) = (r.length : Int) by omega]
    refine wX3_countsCells_L31 C ⟨B, ⟨by omega, by omega⟩, R2, ⟨by omega, by omega⟩, ⟨by omega, by omega⟩⟩ ?_
    rw [T.te.2.1 (t + 1) (by omega) (by omega), ← ec]
    refine ⟨T.ms, by omega, by omega, fun q => absurd q (by omega), fun _ => ⟨c0, by omega, fun y ey B' => ?_⟩⟩
    rw [ey, (T.co c0 c1).1]
    exact lay _ Z.1 Z.2.1 (T.co c0 c1).2 rfl
theorem l_counts0 {t hour ah : Int} (t0 : 0 ≤ t) (t1 : t < E.tm) (R2 : R32 hour) (Ra : ah = 0 ∨ ah = 1) {X : MX} {h0 : Mem} (C : Cx G X cX3_countsCells 7 RX3 2 0 0 none "countsCells") :
    ∀ (m n : Nat) (h : Mem), EX h0 h → MR h E S → (n : Int) + m = 4 → (∀ p : Int, 0 ≤ p → p < n → h 214 p = 0) →
    (∀ h' : Mem, EX h h' → Fr sCn h h' → (∀ p : Int, 0 ≤ p → p < 4 → h' 214 p = cells E (fun c => ownL E hour (seenL ah hour (S.co c))) p t) → P 0 h') →
    V G X 7 0 0 (QF G X 3 0 0 (PR h0 P)) 3 [(0, rf 177), (1, iv t), (2, iv hour), (3, iv ah), (4, iv (n : Int))] [] h := by
  intro m
  induction m with
  | zero =>
    intro n h B T hn hc hp
    have Kt := T.en.tm
    have Kr := T.en.rng t0 t1
    refine wX3_countsCells_L3 C ⟨B, ⟨by omega, by omega⟩, R2, ⟨by omega, by omega⟩, ⟨by omega, by omega⟩⟩ ?_
    rw [T.te.2.1 t t0 (by omega)]
    refine ⟨T.ms, fun _ => ⟨t0, by omega, fun y ey B' => ?_⟩, fun q => absurd q (by omega)⟩
    rw [ey]
    have := l_counts T.en t0 t1 R2 Ra C (E.first (t + 1) - E.first t).toNat 0 h B T (by omega) (fun p p0 p1 => hc p p0 (by omega)) hp
    rwa [show E.first t + ((0 : Nat) : Int) = E.first t by omega] at this
  | succ m ih =>
    intro n h B T hn hc hp
    have Kt := T.en.tm
    refine wX3_countsCells_L3 C ⟨B, ⟨by omega, by omega⟩, R2, ⟨by omega, by omega⟩, ⟨by omega, by omega⟩⟩ ?_
    refine ⟨T.ms, fun q => absurd q (by omega), fun _ => ⟨by omega, by omega, fun h2 e2 => ⟨⟨by omega, by omega⟩, fun B' => ?_⟩⟩⟩
    have f2 : Fr sCn h h2 := by rw [e2]; exact (Fr.rf _ _).up rfl
    have x2 : EX h h2 := by rw [e2]; exact EX_up (EX.rf B.2) (T.ms.k214) (by decide) rfl (by omega) (okI_a (Or.inl rfl) ⟨by decide, by decide⟩)
    have := ih (n + 1) h2 B'.1 (T.cn x2.1 f2) (by omega) (fun p p0 p1 => ?_) fun h'' e3 f3 => hp h'' (x2.tr e3) (f2.tr f3)
    · rwa [show ((n + 1 : Nat) : Int) = (n : Int) + 1 by omega] at this
    · rw [e2]
      by_cases c : p = n
      · rw [c, up_s]
      · rw [up_i c]; exact hc p p0 (by omega)
theorem sX3_countsCells (T : MR h E S) {t hour ah : Int} (t0 : 0 ≤ t) (t1 : t < E.tm) (Ra : ah = 0 ∨ ah = 1)
    (hp : ∀ h' : Mem, EX h h' → Fr sCn h h' → (∀ p : Int, 0 ≤ p → p < 4 → h' 214 p = cells E (fun c => ownL E hour (seenL ah hour (S.co c))) p t) → P 0 h') : kX3_countsCells G l t hour ah h P := by
  refine eX3_countsCells fun X C e B B' => ?_
  exact l_counts0 t0 t1 B.2.2.1 Ra C 4 0 h B'.1 T (by omega) (fun p p0 p1 => absurd p1 (by omega)) hp
theorem cells_rng (K : EnOk E) (o : Int → Int) (p : Int) {t : Int} (t0 : 0 ≤ t) (t1 : t < E.tm) : 0 ≤ cells E o p t ∧ cells E o p t ≤ 6 := by
  have := cnt_rng o p (E.first t) (E.first (t + 1) - E.first t).toNat
  have := K.fs t t0 t1
  unfold cells
  omega
theorem sX3_thingOwner (T : MR h E S) {t : Int} (t0 : 0 ≤ t) (t1 : t < E.tm) (hp : ∀ h' : Mem, EX h h' → Fr sCn h h' → P (whoF E S t) h') : kX3_thingOwner G l t h P := by
  refine eX3_thingOwner fun X C e B => ⟨T.ms, sX3_isBare T.ms ?_⟩
  rw [T.td.1.2]
  have Kf := T.en.fs t t0 t1
  have Kp := T.en.pm
  unfold whoF thingF at hp
  refine fun ee => ⟨fun q => ?_, fun q => ?_⟩
  · have hn : ¬ hs S.bare t := fun z => by rw [if_pos z] at q; cases q
    rw [if_neg hn] at hp
    rw [T.td.1.1]
    refine sX3_countsCells T t0 t1 (Or.inl rfl) fun h2 e2 f2 c2 e3 => ?_
    have T2 := T.cn e2.1 f2
    refine sX3_cellsIn T2 t0 t1 fun e4 => ?_
    rw [T2.te.1.2.1]
    refine sX3_ownerByCells T2 (by omega) T.en.part (w := fun p => cells E (ownC E S S.now) p t) (fun p p0 p1 => ?_) fun _ => hp h2 e2 f2
    have := cells_rng T.en (ownC E S S.now) p t0 t1
    refine ⟨?_, by omega, by omega⟩
    rw [c2 p p0 (by omega)]
    rfl
  · have hy : hs S.bare t := Classical.byContradiction fun z => by rw [if_neg z] at q; exact q rfl
    have := hp h ee (Fr.rf _ _)
    rw [if_pos hy] at this
    exact this
end
