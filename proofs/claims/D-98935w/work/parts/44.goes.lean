/-! the model: painters' turns, hours by the law in force -/
set_option maxRecDepth 100000
def sMp : Int → Int → Prop := fun b j => sMs b j ∨ b = 212 ∨ b = 213
theorem Fr.mp {h h' : Mem} (f : Fr sMs h h') : Fr sMp h h' := f.mono fun _ _ q => Or.inl q
theorem Fr.m1p {h h' : Mem} (f : Fr sM1 h h') : Fr sMp h h' := f.mono fun _ _ q => Or.inl (Or.inl q)
def LawM (h : Mem) (o : Option Vf) : Prop := (h 178 12 = -1 ∧ o = none) ∨ (∃ cl : Cl, RuleM h (h 178 12) cl ∧ okL (sumF cl) ∧ (∀ w, R64 (sumF cl w)) ∧ o = some (sumF cl))
theorem LawM.keep {h h' : Mem} {o : Option Vf} (q : LawM h o) (f : Fr sMp h h') : LawM h' o := by
  have e : h' 178 12 = h 178 12 := f 178 12 (by unfold sMp sMs sM1; omega)
  rcases q with ⟨a, b⟩ | ⟨cl, a, b⟩
  · exact Or.inl ⟨e.trans a, b⟩
  · exact Or.inr ⟨cl, by rw [e]; exact a.keep fun b j z => f b j (by unfold sMp sMs sM1; unfold rIn at z; omega), b⟩
def passN (E : En) (o : Option Vf) (S : St) (g : Int → Int) : Nat → St × (Int → Int)
  | 0 => (S, g)
  | n + 1 => (passS E (passN E o S g n).1 o, passG E (passN E o S g n).1 o (passN E o S g n).2)
theorem passS_now {E : En} (K : EnOk E) {S : St} (h : StOk E S) (o : Option Vf) : (passS E S o).now = S.now + 1 := by
  rw [passS, closeS_now, paintF_now K h]
theorem StOk.paintF {E : En} {S : St} (K : EnOk E) (h : StOk E S) (o : Option Vf) : StOk E (paintF E S o).1 := by
  cases o with
  | none => exact h
  | some L => have := K.pm; exact (h.turn K L E.pm.toNat (by omega)).1
section
variable {G : GT} {P : Int → Mem → Prop} {l : Launch} {E : En}
theorem MR.ask {h h' : Mem} {S : St} (T : MR h E S) (e : Ext h h') (f : Fr (fun b _ => b = 212 ∨ b = 213 ∨ b = 214) h h') : MR h' E S :=
  T.keep e fun b j q => f b j (by unfold mIn at q; omega)
theorem l_cellBy3 {S : St} {p : Int} {cl : Cl} (p0 : 0 ≤ p) (p1 : p < E.pm) (K : EnOk E) (ok : okL (sumF cl)) (hb : ∀ w, R64 (sumF cl w)) {X : MX} {h0 : Mem} (C : Cx G X cX3_cellBy 8 RX3 5 0 0 (some .int) "cellBy") :
    ∀ (m n : Nat) (h : Mem), EX h0 h → MR h E S → RuleM h (h 178 12) cl → (n : Int) + m = E.cm → (∀ h' : Mem, EX h h' → Fr (fun b _ => b = 212 ∨ b = 213 ∨ b = 214) h h' → P (cellF E S (sumF cl) p) h') →
    V G X 8 0 0 (QF G X 0 0 0 (PI h0 P)) 7 [(0, rf 177), (1, iv p), (2, iv (wantN E S (sumF cl) p n).1), (3, jv (wantN E S (sumF cl) p n).2), (5, iv (n : Int))] [] h := by
  intro m
  have Kc := K.cm
  have Kp := K.pm
  have rw2 : ∀ n : Nat, R64 (wantN E S (sumF cl) p n).2 := fun n => by
    induction n with
    | zero => exact ⟨by show -9223372036854775808 ≤ (0 : Int); decide, by show (0 : Int) < 9223372036854775808; decide⟩
    | succ n ih =>
      rw [wantN]
      split
      · exact hb _
      · exact ih
  induction m with
  | zero =>
    intro n h B T R hn hp
    have wr := wantN_rng E S (sumF cl) p n
    refine wX3_cellBy_L7 C ⟨B, ⟨by omega, by omega⟩, ⟨by omega, by omega⟩, rw2 n, ⟨by omega, by omega⟩⟩ ⟨T.ms, ?_⟩
    rw [T.te.1.2.2.2.2.1]
    refine ⟨fun _ => ?_, fun q => absurd q (by omega)⟩
    have := hp h (EX.rf B.2) (Fr.rf _ _)
    rw [cellF, show E.cm.toNat = n by omega] at this
    exact this
  | succ m ih =>
    intro n h B T R hn hp
    have wr := wantN_rng E S (sumF cl) p n
    have r1 : R32 ((n : Int) + 1) := ⟨by omega, by omega⟩
    have en : wantN E S (sumF cl) p (n + 1) = if canF E S n p = true ∧ sumF cl (wordF E S p n) > (wantN E S (sumF cl) p n).2 then ((n : Int), sumF cl (wordF E S p n)) else wantN E S (sumF cl) p n := rfl
    refine wX3_cellBy_L7 C ⟨B, ⟨by omega, by omega⟩, ⟨by omega, by omega⟩, rw2 n, ⟨by omega, by omega⟩⟩ ⟨T.ms, ?_⟩
    rw [T.te.1.2.2.2.2.1]
    refine ⟨fun q => absurd q (by omega), fun _ => sX3_canPaint T (by omega) (by omega) p0 p1 fun _ => ⟨fun z => ⟨r1, fun B' => ?_⟩, fun z => ?_⟩⟩
    · have hc : ¬ canF E S n p = true := fun y => by rw [if_pos y] at z; cases z
      have nx := ih (n + 1) h B'.1 T R (by omega) hp
      rw [en, if_neg (fun y => hc y.1), show ((n + 1 : Nat) : Int) = (n : Int) + 1 by omega] at nx
      exact nx
    · have hc : canF E S n p = true := Classical.byContradiction fun y => by rw [if_neg y] at z; exact z rfl
      refine sX3_asks T (by omega) (by omega) p0 p1 fun h11 e11 f11 T11 w11 _ => ?_
      have R11 : RuleM h11 (h11 178 12) cl := by
        rw [f11 178 12 (by omega)]
        exact R.keep fun b j q => f11 b j (by unfold rIn at q; omega)
      refine sX3_wanted T11.ms R11 fun h17 e17 f17 _ => ?_
      have ew : sumF cl (h11 212) = sumF cl (wordF E S p n) := ok _ _ w11
      rw [ew]
      have f17' : Fr (fun b _ => b = 212 ∨ b = 213 ∨ b = 214) h h17 := (f11.mono fun b j q => by omega).tr (f17.mono fun b j q => by unfold sSt at q; omega)
      have x17 := e11.tr e17
      have T17 := T.ask x17.1 f17'
      have R17 : RuleM h17 (h17 178 12) cl := by
        rw [f17' 178 12 (by omega)]
        exact R.keep fun b j q => f17' b j (by unfold rIn at q; omega)
      have nx := fun B' => ih (n + 1) h17 B' T17 R17 (by omega) fun h' e3 f3 => hp h' (x17.tr e3) (f17'.tr f3)
      rw [en, show ((n + 1 : Nat) : Int) = (n : Int) + 1 by omega] at nx
      refine ⟨fun q => ⟨r1, fun B' => ?_⟩, fun q => ⟨r1, fun B' => ?_⟩⟩
      · rw [if_neg (fun y => by have := y.2; omega)] at nx; exact nx B'.1
      · rw [if_pos ⟨hc, q⟩] at nx; exact nx B'.1
theorem sX3_cellBy {h : Mem} {S : St} (T : MR h E S) {p : Int} {cl : Cl} (p0 : 0 ≤ p) (p1 : p < E.pm) (R : RuleM h (h 178 12) cl) (ok : okL (sumF cl)) (hb : ∀ w, R64 (sumF cl w))
    (hp : ∀ h' : Mem, EX h h' → Fr (fun b _ => b = 212 ∨ b = 213 ∨ b = 214) h h' → P (cellF E S (sumF cl) p) h') : kX3_cellBy G l p h P := by
  refine eX3_cellBy fun X C e B B' => ?_
  have K := T.en.cm
  exact l_cellBy3 p0 p1 T.en ok hb C E.cm.toNat 0 h B'.1 T R (by omega) hp
theorem l_paintsAll {S : St} {cl : Cl} (K : EnOk E) (h0S : StOk E S) (ok : okL (sumF cl)) (hb : ∀ w, R64 (sumF cl w)) {X : MX} {h0 : Mem} (C : Cx G X cX3_paintsAll 4 RX3 6 0 0 (some .int) "paintsAll") :
    ∀ (m n : Nat) (h : Mem), EX h0 h → MR h E (turnN E S (sumF cl) n).1 → RuleM h (h 178 12) cl → (n : Int) + m = E.pm → (∀ h' : Mem, EX h h' → Fr sMp h h' → (∀ j : Int, h' 215 j = h 215 j) → MR h' E (turnN E S (sumF cl) E.pm.toNat).1 → P (turnN E S (sumF cl) E.pm.toNat).2 h') →
    V G X 4 0 0 (QF G X 0 0 0 (PI h0 P)) 4 [(0, rf 177), (1, iv (turnN E S (sumF cl) n).2), (2, iv (n : Int))] [] h := by
  intro m
  have Kp := K.pm
  have Kc := K.cm
  induction m with
  | zero =>
    intro n h B T R hn hp
    have tn := h0S.turn K (sumF cl) n (by omega)
    refine wX3_paintsAll_L4 C ⟨B, ⟨by omega, by omega⟩, ⟨by omega, by omega⟩⟩ ⟨T.ms, ?_⟩
    rw [T.te.1.2.2.2.2.2.1]
    refine ⟨fun _ => ?_, fun q => absurd q (by omega)⟩
    rw [show E.pm.toNat = n by omega] at hp
    exact hp h (EX.rf B.2) (Fr.rf _ _) (fun _ => rfl) T
  | succ m ih =>
    intro n h B T R hn hp
    have tn := h0S.turn K (sumF cl) n (by omega)
    have tn1 := h0S.turn K (sumF cl) (n + 1) (by omega)
    have Rr := R.1
    refine wX3_paintsAll_L4 C ⟨B, ⟨by omega, by omega⟩, ⟨by omega, by omega⟩⟩ ⟨T.ms, ?_⟩
    rw [T.te.1.2.2.2.2.2.1]
    refine ⟨fun q => absurd q (by omega), fun _ => ⟨fun q => absurd q (by omega), fun _ => sX3_cellBy T (by omega) (by omega) R ok hb fun h4 e4 f4 _ => ?_⟩⟩
    have T4 := T.ask e4.1 f4
    have f4p : Fr sMp h h4 := f4.mono fun b j q => by unfold sMp sMs sM1; omega
    have R4 : RuleM h4 (h4 178 12) cl := by
      rw [f4 178 12 (by omega)]
      exact R.keep fun b j q => f4 b j (by unfold rIn at q; omega)
    have en : turnN E S (sumF cl) (n + 1) = if cellF E (turnN E S (sumF cl) n).1 (sumF cl) n = -1 then turnN E S (sumF cl) n else (putS (costS E (turnN E S (sumF cl) n).1 n) (cellF E (turnN E S (sumF cl) n).1 (sumF cl) n) n, (turnN E S (sumF cl) n).2 + 1) := rfl
    have r1 : R32 ((n : Int) + 1) := ⟨by omega, by omega⟩
    refine ⟨fun q => ⟨r1, fun B' => ?_⟩, fun q => ?_⟩
    · rw [if_pos q] at en
      have nx := ih (n + 1) h4 B'.1 (by rw [en]; exact T4) R4 (by omega) fun h' e3 f3 g3 => hp h' (e4.tr e3) (f4p.tr f3) fun j => (g3 j).trans (f4 215 j (by omega))
      rw [en, show ((n + 1 : Nat) : Int) = (n : Int) + 1 by omega] at nx
      exact nx
    · rw [if_neg q] at en
      have wr := (wantN_rng E (turnN E S (sumF cl) n).1 (sumF cl) n E.cm.toNat).resolve_left q
      have hc : E.cost ≤ (turnN E S (sumF cl) n).1.purse n := by
        have := wr.2.2
        simp [canF] at this
        exact this.2
      have hpu := T.st.purse n (by omega) (by omega)
      have Kco := K.cost
      refine sX3_paints T4 (by unfold cellF; omega) (by unfold cellF; omega) (by omega) (by omega) fun h12 e12 f12 T12 _ => ?_
      rw [T12.td.2.2 n (by omega) (by omega), T12.te.1.2.2.1]
      have ep : (putS (turnN E S (sumF cl) n).1 (cellF E (turnN E S (sumF cl) n).1 (sumF cl) n) n).purse n = (turnN E S (sumF cl) n).1.purse n := rfl
      rw [ep]
      refine ⟨by omega, by omega, ⟨by omega, by omega⟩, fun h20 e20 => ?_⟩
      have x20 : EX h12 h20 := by rw [e20]; exact EX_up (EX.rf e12.2) T12.ms.k182 (by decide) rfl (by omega) (okI_a (Or.inl rfl) ⟨by omega, by omega⟩)
      have f20 : Fr (fun b _ => b = 182 ∨ b = 215) h12 h20 := by rw [e20]; exact (Fr.rf _ _).up (Or.inl rfl)
      rw [en] at tn1
      have T20 : MR h20 E (putS (costS E (turnN E S (sumF cl) n).1 n) (cellF E (turnN E S (sumF cl) n).1 (sumF cl) n) n) := by
        refine (T12.purse (f := fu (turnN E S (sumF cl) n).1.purse n ((turnN E S (sumF cl) n).1.purse n - E.cost)) x20.1 f20 (fun p q0 q1 => ?_) tn1.1 : MR h20 E (purseS _ _))
        rw [e20]
        by_cases z : p = n
        · rw [z, up_s, fu_s]
        · rw [up_i z, fu_n z]; exact T12.td.2.2 p q0 q1
      have f12p : Fr sMp h4 h12 := f12.m1p
      have f20p : Fr sMp h12 h20 := f20.mono fun b j q => by unfold sMp sMs sM1; omega
      have g20 : ∀ j : Int, h20 215 j = h4 215 j := fun j => by
        rw [e20, up_a (by omega)]
        exact f12 215 j (by unfold sM1; omega)
      have R20 : RuleM h20 (h20 178 12) cl := by
        have ff : Fr sMp h4 h20 := f12p.tr f20p
        rw [ff 178 12 (by unfold sMp sMs sM1; omega)]
        exact R4.keep fun b j q => ff b j (by unfold sMp sMs sM1; unfold rIn at q; omega)
      have nx := fun B' => ih (n + 1) h20 B' (by rw [en]; exact T20) R20 (by omega) fun h' e3 f3 g3 => hp h' (((e4.tr e12).tr x20).tr e3) (((f4p.tr f12p).tr f20p).tr f3) fun j => (g3 j).trans ((g20 j).trans (f4 215 j (by omega)))
      rw [en, show ((n + 1 : Nat) : Int) = (n : Int) + 1 by omega] at nx
      exact ⟨⟨by omega, by omega⟩, r1, fun B' => nx B'.1⟩
theorem sX3_paintsAll {h : Mem} {S : St} {o : Option Vf} (T : MR h E S) (R : LawM h o)
    (hp : ∀ h' : Mem, EX h h' → Fr sMp h h' → (∀ j : Int, h' 215 j = h 215 j) → MR h' E (paintF E S o).1 → P (paintF E S o).2 h') : kX3_paintsAll G l h P := by
  refine eX3_paintsAll fun X C e B B' => ?_
  have Kp := T.en.pm
  rcases R with ⟨r0, o0⟩ | ⟨cl, R, ok, hb, o0⟩
  · subst o0
    have d0 : P 0 h := hp h (EX.rf B.2) (Fr.rf _ _) (fun _ => rfl) T
    exact wX3_paintsAll_L4 C ⟨B'.1, ⟨by decide, by decide⟩, ⟨by decide, by decide⟩⟩ ⟨T.ms, fun _ => d0, fun _ => ⟨fun _ => d0, fun q => absurd r0 q⟩⟩
  · subst o0
    exact l_paintsAll T.en T.st ok hb C E.pm.toNat 0 h B'.1 T R (by omega) hp
theorem l_goes {S : St} {o : Option Vf} {g : Int → Int} {n : Int} {X : MX} {h0 : Mem} (C : Cx G X cX3_goes 3 RX3 7 0 0 none "goes") (hn0 : 0 ≤ n) (hn : S.now + n < 1000000) (hS : 0 ≤ S.now) :
    ∀ (m k : Nat) (h : Mem), (k : Int) + m = n → EX h0 h → MR h E (passN E o S g k).1 → (passN E o S g k).1.now = S.now + k → MG h (passN E o S g k).2 → LawM h o → (∀ h' : Mem, EX h h' → Fr sMp h h' → MR h' E (passN E o S g n.toNat).1 → MG h' (passN E o S g n.toNat).2 → P 0 h') →
    V G X 3 0 0 (QF G X 3 0 0 (PR h0 P)) 2 [(0, rf 177), (1, iv n), (2, iv (k : Int))] [] h := by
  intro m
  induction m with
  | zero =>
    intro k h hk B T tn xg R hp
    have := T.st.now
    refine wX3_goes_L2 C ⟨B, ⟨by omega, by omega⟩, ⟨by omega, by omega⟩⟩ ⟨T.ms, fun _ => ?_, fun q => absurd q (by omega)⟩
    rw [show n.toNat = k by omega] at hp
    exact hp h (EX.rf B.2) (Fr.rf _ _) T xg
  | succ m ih =>
    intro k h hk B T tn xg R hp
    have kn := T.st.now
    refine wX3_goes_L2 C ⟨B, ⟨by omega, by omega⟩, ⟨by omega, by omega⟩⟩ ⟨T.ms, fun q => absurd q (by omega), fun _ => ?_⟩
    refine sX3_paintsAll T R fun h3 e3 f3 g3 T3 _ => ?_
    have xg3 : MG h3 (passN E o S g k).2 := xg.keep g3
    refine sX3_ends T3 xg3 (by rw [paintF_now T.en T.st]; omega) fun h9 e9 f9 T9 x9 _ => ⟨⟨by omega, by omega⟩, fun B' => ?_⟩
    have f9p := f3.tr f9.mp
    have := ih (k + 1) h9 (by omega) B'.1 T9 (by
      show (passS E (passN E o S g k).1 o).now = _
      rw [passS_now T.en T.st, tn]; omega) x9 (R.keep f9p) fun h' e4 f4 => hp h' ((e3.tr e9).tr e4) (f9p.tr f4)
    rwa [show ((k + 1 : Nat) : Int) = (k : Int) + 1 by omega] at this
theorem sX3_goes {h : Mem} {S : St} {o : Option Vf} {g : Int → Int} {n : Int} (T : MR h E S) (xg : MG h g) (R : LawM h o) (hn0 : 0 ≤ n) (hn : S.now + n < 1000000) (hp : ∀ h' : Mem, EX h h' → Fr sMp h h' → MR h' E (passN E o S g n.toNat).1 → MG h' (passN E o S g n.toNat).2 → P 0 h') : kX3_goes G l n h P := by
  refine eX3_goes fun X C e B B' => ?_
  exact l_goes C hn0 hn T.st.now.1 n.toNat 0 h (by omega) B'.1 T (by show S.now = S.now + ((0 : Nat) : Int); omega) xg R hp
end
