/-! rents, worth, one -/
set_option maxRecDepth 100000
section
variable {G : GT} {h : Mem} {Z : Zt} {T : Tn} {P : Int → Mem → Prop} {l : Launch} {E : En} {S : St}
def gotF (E : En) (o : Option Vf) (S : St) (n p : Int) : Int := (passN E o S (fun _ => 0) n.toNat).2 p
theorem gotF_rng {E : En} (K : EnOk E) (o : Option Vf) (S : St) {n : Int} (h0 : 0 ≤ n) (h1 : n ≤ 100) (p : Int) : 0 ≤ gotF E o S n p ∧ gotF E o S n p ≤ 8000 := by
  have z := passN_r K o S (g := fun _ => 0) (p := p) (Int.le_refl 0) n.toNat (by show (0 : Int) + 80 * _ < _; omega)
  unfold gotF
  have z1 : (0 : Int) ≤ _ := z.1
  have z2 : _ ≤ (0 : Int) + 80 * _ := z.2
  omega
def aRents (Z : Zt) (p n : Int) : Int := match Z.s with
  | none => -1
  | some T => if (0 ≤ p ∧ p < T.en.pm) ∧ (1 ≤ n ∧ n ≤ 100) then gotF T.en (lawZ Z) T.st n p else -1
/-- X's spare town goes on from a street, and what one got -/
theorem xGot (A : XS h) (T : TR h 20 E S) (K : EnOk E) {o : Option Vf} {r p n : Int} (R : LawX h r o) (p0 : 0 ≤ p) (p1 : p < E.pm) (n0 : 0 ≤ n) (n1 : n ≤ 100) (hn : S.now ≤ 10000) (hp : ∀ h' : Mem, EX h h' → Fr sQx h h' → LawX h' r o → P (gotF E o S n p) h') : kX0_gotIn G l 20 p n r h P := by
  have Kp := K.pm
  refine sX0_gotIn (g := fun q => h 165 q) (Or.inl (by decide)) A T (A.got fun _ _ _ => rfl) R p0 (by omega) n0 (by omega) fun h' e f T' xg => ?_
  have e9 : (passN E o S (fu (fun q => h 165 q) p 0) n.toNat).2 p = gotF E o S n p := passN_2 E o S (g' := fun _ => 0) (fu_s (fun q => h 165 q) p (0 : Int)) _
  rw [e9]
  refine hp h' e f.tgq (R.keep ?_ e.1)
  exact KF.tg T A.k165 f
theorem oX_rents (I : IX h Z) {p n : Int} (hp : ∀ h' : Mem, EX h h' → Fr sQx h h' → P (aRents Z p n) h') : kX0_rents G l p n h P := by
  have hp0 := hp h (EX.rf I.oz) (Fr.rf _ _)
  refine eX0_rents fun X C e9 B => ⟨I.xs, I.isPainter fun _ => ?_⟩
  by_cases hq : 0 ≤ p ∧ p < pmO Z.s
  · obtain ⟨T, es, p0, p1⟩ := pmO_s hq
    rw [if_pos hq]
    obtain ⟨t2, tx⟩ := I.tn es
    unfold aRents at hp hp0
    rw [es] at hp hp0
    dsimp only at hp hp0
    refine ⟨fun z => (by cases z), fun _ => sX0_in fun _ => ?_⟩
    by_cases hn : 1 ≤ n ∧ n ≤ 100
    · rw [if_pos hn]
      refine ⟨fun _ => ⟨t2, sX1_copyTR I.xs.t20 tx.tr (Or.inr (by decide)) fun h1 e1 f1 T1 _ => ⟨rfl, ?_⟩⟩, fun z => by cases z⟩
      have I1 := I.q e1 f1.cpq
      have nn := tx.ok.now
      refine sX0_law I1.xs I1.law fun r R _ => xGot I1.xs T1 T1.en R p0 p1 (by omega) hn.2 (by omega) fun h' e' f' _ _ => ?_
      have := hp h' (e1.tr e') (f1.cpq.tr f')
      rw [if_pos ⟨⟨p0, p1⟩, hn⟩] at this
      exact this
    · rw [if_neg hn]
      refine ⟨fun z => absurd rfl z, fun _ => ?_⟩
      rw [if_neg fun z => hn z.2] at hp0; exact hp0
  · rw [if_neg hq]
    refine ⟨fun _ => ?_, fun z => absurd rfl z⟩
    have e : aRents Z p n = -1 := by
      unfold aRents
      cases es : Z.s with
      | none => rfl
      | some T => rw [es] at hq; exact if_neg fun z => hq z.1
    rw [e] at hp0; exact hp0
theorem oM_rents (I : IM h Z) {p n : Int} (hp : ∀ h' : Mem, EX h h' → QM h h' → P (aRents Z p n) h') : kX3_rents G l p n h P := by
  have hp0 := hp h (EX.rf I.oz) (QM.rf _)
  refine eX3_rents fun X C e9 B => ⟨I.ms, I.isPainter fun _ => ?_⟩
  by_cases hq : 0 ≤ p ∧ p < pmO Z.s
  · obtain ⟨T, es, p0, p1⟩ := pmO_s hq
    rw [if_pos hq]
    have tx := I.tn es
    have Kp := tx.mr.en.pm
    unfold aRents at hp hp0
    rw [es] at hp hp0
    dsimp only at hp hp0
    refine ⟨fun z => (by cases z), fun _ => sX3_in fun _ => ?_⟩
    by_cases hn : 1 ≤ n ∧ n ≤ 100
    · rw [if_pos hn]
      have nn := tx.ok.now
      refine ⟨fun _ => I.keeps es fun h1 e1 w1 T1 g1 L1 _ => sX3_goes T1 g1 L1 (by omega) (by omega) fun h2 e2 f2 T2 g2 _ => (w1.mp f2).back T2.ms fun h3 e3 f3 b3 _ => ⟨p0, by omega, ?_⟩, fun z => by cases z⟩
      have := hp h3 ((e1.tr e2).tr e3) f3
      rw [if_pos ⟨⟨p0, p1⟩, hn⟩] at this
      rw [b3 215 p (by unfold sBk; omega), g2 p p0 (by omega)]
      exact this
    · rw [if_neg hn]
      refine ⟨fun z => absurd rfl z, fun _ => ?_⟩
      rw [if_neg fun z => hn z.2] at hp0; exact hp0
  · rw [if_neg hq]
    refine ⟨fun _ => ?_, fun z => absurd rfl z⟩
    have e : aRents Z p n = -1 := by
      unfold aRents
      cases es : Z.s with
      | none => rfl
      | some T => rw [es] at hq; exact if_neg fun z => hq z.1
    rw [e] at hp0; exact hp0
/-! worth -/
abbrev worthOk (T : Tn) (c p n : Int) : Prop := (0 ≤ c ∧ c < T.en.cm) ∧ (0 ≤ p ∧ p < T.en.pm) ∧ (¬ hs T.st.bare (T.en.thingOf c)) ∧ (1 ≤ n ∧ n ≤ 100)
def aWorth (Z : Zt) (c p n : Int) : Int := match Z.s with
  | none => -100000
  | some T => if worthOk T c p n then gotF T.en (lawZ Z) (putS T.st c p) n p - gotF T.en (lawZ Z) T.st n p else -100000
theorem oX_worth (I : IX h Z) {c p n : Int} (hp : ∀ h' : Mem, EX h h' → Fr sQx h h' → P (aWorth Z c p n) h') : kX0_worth G l c p n h P := by
  have bad : (∀ T : Tn, Z.s = some T → ¬ worthOk T c p n) → P (-100000) h := fun w => by
    have hp0 := hp h (EX.rf I.oz) (Fr.rf _ _)
    have e : aWorth Z c p n = -100000 := by
      unfold aWorth
      cases es : Z.s with
      | none => rfl
      | some T => exact if_neg (w T es)
    rw [e] at hp0; exact hp0
  refine eX0_worth fun X C e9 B => ⟨I.xs, I.isCell fun _ => ?_⟩
  by_cases hc : 0 ≤ c ∧ c < cmO Z.s
  · obtain ⟨T, es, c0, c1⟩ := cmO_s hc
    rw [if_pos hc]
    obtain ⟨t2, tx⟩ := I.tn es
    refine ⟨fun z => (by cases z), fun _ => I.isPainter fun _ => ?_⟩
    by_cases hq : 0 ≤ p ∧ p < pmO Z.s
    · rw [if_pos hq]
      rw [es] at hq
      have p0 : 0 ≤ p := hq.1
      have p1 : p < T.en.pm := hq.2
      refine ⟨fun z => (by cases z), fun _ => ⟨t2, sX1_isBareCell tx.tr c0 c1 fun _ => ?_⟩⟩
      by_cases hb : hs T.st.bare (T.en.thingOf c)
      · rw [if_pos hb]
        exact ⟨fun _ => bad fun T' es' o => by rw [es] at es'; cases es'; exact o.2.2.1 hb, fun z => by cases z⟩
      · rw [if_neg hb]
        refine ⟨fun z => absurd rfl z, fun _ => sX0_in fun _ => ?_⟩
        by_cases hn : 1 ≤ n ∧ n ≤ 100
        · rw [if_pos hn]
          have nn := tx.ok.now
          refine ⟨fun _ => ⟨t2, sX1_copyTR I.xs.t20 tx.tr (Or.inr (by decide)) fun h1 e1 f1 T1 _ => ⟨rfl, ?_⟩⟩, fun z => by cases z⟩
          have I1 := I.q e1 f1.cpq
          refine sX0_law I1.xs I1.law fun r R _ => xGot I1.xs T1 T1.en R p0 p1 (by omega) hn.2 (by omega) fun h2 e2 f2 _ _ => ?_
          have I2 := I1.q e2 f2
          obtain ⟨t22, tx2⟩ := I2.tn es
          refine ⟨t22, sX1_copyTR I2.xs.t20 tx2.tr (Or.inr (by decide)) fun h3 e3 f3 T3 _ => ⟨rfl, ?_⟩⟩
          have I3 := I2.q e3 f3.cpq
          rw [show h3 20 11 = T.st.now from T3.td.1.1]
          refine sX1_putsCoat T3 c0 c1 p0 p1 fun h4 e4 f4 T4 _ => ?_
          have I4 := I3.q e4 f4.gt.tgq
          refine sX0_law I4.xs I4.law fun r4 R4 _ => xGot I4.xs T4 T4.en R4 p0 p1 (by omega) hn.2 (by show T.st.now ≤ 10000; omega) fun h5 e5 f5 _ _ => ?_
          have g1 := gotF_rng T1.en (lawZ Z) T.st (n := n) (by omega) hn.2 p
          have g2 := gotF_rng T1.en (lawZ Z) (putS T.st c p) (n := n) (by omega) hn.2 p
          refine ⟨⟨by omega, by omega⟩, ?_⟩
          have := hp h5 ((((e1.tr e2).tr e3).tr e4).tr e5) ((((f1.cpq.tr f2).tr f3.cpq).tr f4.gt.tgq).tr f5)
          rw [show aWorth Z c p n = gotF T.en (lawZ Z) (putS T.st c p) n p - gotF T.en (lawZ Z) T.st n p by unfold aWorth; rw [es]; exact if_pos ⟨⟨c0, c1⟩, ⟨p0, p1⟩, hb, hn⟩] at this
          exact this
        · rw [if_neg hn]
          exact ⟨fun z => absurd rfl z, fun _ => bad fun T' es' o => hn o.2.2.2⟩
    · rw [if_neg hq]
      rw [es] at hq
      exact ⟨fun _ => bad fun T' es' o => by rw [es] at es'; cases es'; exact hq o.2.1, fun z => absurd rfl z⟩
  · rw [if_neg hc]
    exact ⟨fun _ => bad fun T' es' o => by rw [es'] at hc; exact hc o.1, fun z => absurd rfl z⟩
theorem oM_worth (I : IM h Z) {c p n : Int} (hp : ∀ h' : Mem, EX h h' → QM h h' → P (aWorth Z c p n) h') : kX3_worth G l c p n h P := by
  have bad : (∀ T : Tn, Z.s = some T → ¬ worthOk T c p n) → P (-100000) h := fun w => by
    have hp0 := hp h (EX.rf I.oz) (QM.rf _)
    have e : aWorth Z c p n = -100000 := by
      unfold aWorth
      cases es : Z.s with
      | none => rfl
      | some T => exact if_neg (w T es)
    rw [e] at hp0; exact hp0
  refine eX3_worth fun X C e9 B => ⟨I.ms, I.isCell fun _ => ?_⟩
  by_cases hc : 0 ≤ c ∧ c < cmO Z.s
  · obtain ⟨T, es, c0, c1⟩ := cmO_s hc
    rw [if_pos hc]
    have tx := I.tn es
    refine ⟨fun z => (by cases z), fun _ => sX3_thingOf tx.mr c0 c1 fun _ => sX3_isBare I.ms fun _ => ?_⟩
    rw [tx.mr.td.1.2]
    by_cases hb : hs T.st.bare (T.en.thingOf c)
    · rw [if_pos hb]
      exact ⟨fun _ => bad fun T' es' o => by rw [es] at es'; cases es'; exact o.2.2.1 hb, fun z => by cases z⟩
    · rw [if_neg hb]
      refine ⟨fun z => absurd rfl z, fun _ => I.isPainter fun _ => ?_⟩
      by_cases hq : 0 ≤ p ∧ p < pmO Z.s
      · rw [if_pos hq]
        rw [es] at hq
        have p0 : 0 ≤ p := hq.1
        have p1 : p < T.en.pm := hq.2
        have Kp := tx.mr.en.pm
        refine ⟨fun z => (by cases z), fun _ => sX3_in fun _ => ?_⟩
        by_cases hn : 1 ≤ n ∧ n ≤ 100
        · rw [if_pos hn]
          have nn := tx.ok.now
          refine ⟨fun _ => I.keeps es fun h1 e1 w1 T1 g1 L1 _ => sX3_paints T1 c0 c1 p0 p1 fun h2 e2 f2 T2 _ => ?_, fun z => by cases z⟩
          have L2 : LawM h2 (lawZ Z) := L1.keep f2.m1p
          have g2 : MG h2 (fun _ => 0) := g1.keep fun j => f2 215 j (by unfold sM1; omega)
          refine sX3_goes T2 g2 L2 (by omega) (by show T.st.now + n < 1000000; omega) fun h3 e3 f3 T3 g3 _ => ((w1.m1 f2).mp f3).back T3.ms fun h4 e4 f4 b4 _ => ⟨p0, by omega, fun y ey => ?_⟩
          have I4 := I.q (((e1.tr e2).tr e3).tr e4) f4
          have y4 : y = gotF T.en (lawZ Z) (putS T.st c p) n p := by rw [ey, b4 215 p (by unfold sBk; omega), g3 p p0 (by omega)]; rfl
          refine I4.keeps es fun h5 e5 w5 T5 g5 L5 _ => sX3_goes T5 g5 L5 (by omega) (by omega) fun h6 e6 f6 T6 g6 _ => (w5.mp f6).back T6.ms fun h7 e7 f7 b7 _ => ?_
          have y7 : h7 215 p = gotF T.en (lawZ Z) T.st n p := by rw [b7 215 p (by unfold sBk; omega), g6 p p0 (by omega)]; rfl
          have q1 := gotF_rng T1.en (lawZ Z) T.st (n := n) (by omega) hn.2 p
          have q2 := gotF_rng T1.en (lawZ Z) (putS T.st c p) (n := n) (by omega) hn.2 p
          rw [y4, y7]
          refine ⟨⟨by omega, by omega⟩, ?_⟩
          have := hp h7 ((((((e1.tr e2).tr e3).tr e4).tr e5).tr e6).tr e7) (f4.tr f7)
          rw [show aWorth Z c p n = gotF T.en (lawZ Z) (putS T.st c p) n p - gotF T.en (lawZ Z) T.st n p by unfold aWorth; rw [es]; exact if_pos ⟨⟨c0, c1⟩, ⟨p0, p1⟩, hb, hn⟩] at this
          exact this
        · rw [if_neg hn]
          exact ⟨fun z => absurd rfl z, fun _ => bad fun T' es' o => hn o.2.2.2⟩
      · rw [if_neg hq]
        rw [es] at hq
        exact ⟨fun _ => bad fun T' es' o => by rw [es] at es'; cases es'; exact hq o.2.1, fun z => absurd rfl z⟩
  · rw [if_neg hc]
    exact ⟨fun _ => bad fun T' es' o => by rw [es'] at hc; exact hc o.1, fun z => absurd rfl z⟩
/-! one -/
def oneG (E : En) (o : Option Vf) (S : St) : Nat → Nat → Int
  | 0, _ => -2
  | m + 1, k => if oneF E (passN E o S (fun _ => 0) k).1 = true then (passN E o S (fun _ => 0) k).1.now else oneG E o S m (k + 1)
def aOne (Z : Zt) : Int := match Z.s with
  | none => -1
  | some T => oneG T.en (lawZ Z) T.st 100 0
theorem l_one {o : Option Vf} {g : Int → Int} (hS : 0 ≤ S.now ∧ S.now ≤ 999) {X : MX} {h0 : Mem} (C : Cx G X cX0_one 3 RX0 405 0 0 (some .int) "one") :
    ∀ (m i : Nat) (h : Mem), i + m = 100 → EX h0 h → XS h → XLaw h o → TR h 20 E (passN E o S g i).1 → (passN E o S g i).1.now = S.now + i → XG h (passN E o S g i).2 → (∀ h' : Mem, EX h h' → Fr sQx h h' → P (oneG E o S m i) h') →
    V G X 3 0 0 (QF G X 0 0 0 (PI h0 P)) 23 [(0, rf 1), (1, rf 20), (2, iv (i : Int))] [] h := by
  intro m
  induction m with
  | zero =>
    intro i h hk B A L T tn xg hp
    exact wX0_one_L23 C ⟨B, ⟨by omega, by omega⟩⟩ ⟨A, fun _ => hp h (EX.rf B.2) (Fr.rf _ _), fun q => absurd q (by omega)⟩
  | succ m ih =>
    intro i h hk B A L T tn xg hp
    rw [oneG, passN_1 E o S (fun _ => 0) g i] at hp
    refine wX0_one_L23 C ⟨B, ⟨by omega, by omega⟩⟩ ⟨A, fun q => absurd q (by omega), fun _ => sX1_isOneColour T fun _ => ⟨fun z => ?_, fun z => ?_⟩⟩
    · have no : ¬ oneF E (passN E o S g i).1 = true := fun y => by rw [if_pos y] at z; cases z
      rw [if_neg no] at hp
      refine sX0_law A L fun r R _ => sX1_passes (Or.inl (by decide)) T xg R (by omega) fun h5 e5 f5 T5 x5 R5 _ => ⟨⟨by omega, by omega⟩, fun B' => ?_⟩
      have k5 : KF h h5 := KF.tg T xg.1 f5
      have := ih (i + 1) h5 (by omega) B'.1 (A.ext e5.1) (L.keep k5 e5.1 (f5 1 8 (by unfold sTg sTw; omega)) fun j => f5 171 j (by unfold sTg sTw; omega)) T5 (by
        show (passS E (passN E o S g i).1 o).now = _
        rw [passS_now T.en T.st, tn]; omega) x5 fun h' e4 f4 => hp h' (e5.tr e4) (f5.tgq.tr f4)
      rwa [show ((i + 1 : Nat) : Int) = (i : Int) + 1 by omega] at this
    · have yes : oneF E (passN E o S g i).1 = true := Classical.byContradiction fun y => by rw [if_neg y] at z; exact z rfl
      rw [if_pos yes] at hp
      have := hp h (EX.rf B.2) (Fr.rf _ _)
      rw [← T.td.1.1] at this
      exact this
theorem oX_one (I : IX h Z) (hp : ∀ h' : Mem, EX h h' → Fr sQx h h' → P (aOne Z) h') : kX0_one G l h P := by
  refine eX0_one fun X C e9 B => ⟨I.xs, fun q => ?_, fun q => ?_⟩
  · cases es : Z.s with
    | none => exact absurd (I.no es) q
    | some T =>
      obtain ⟨t2, tx⟩ := I.tn es
      unfold aOne at hp
      rw [es] at hp
      dsimp only at hp
      refine ⟨t2, sX1_copyTR I.xs.t20 tx.tr (Or.inr (by decide)) fun h1 e1 f1 T1 _ => ⟨rfl, fun B' => ?_⟩⟩
      have I1 := I.q e1 f1.cpq
      exact l_one (S := T.st) (E := T.en) (o := lawZ Z) (g := fun p => h1 165 p) ⟨tx.tr.st.now.1, tx.ok.now⟩ C 100 0 h1 rfl B'.1 I1.xs I1.law T1 (by show T.st.now = T.st.now + ((0 : Nat) : Int); omega) (I1.xs.got fun _ _ _ => rfl) fun h' e' f' => hp h' (e1.tr e') (f1.cpq.tr f')
  · cases es : Z.s with
    | none =>
      have := hp h (EX.rf I.oz) (Fr.rf _ _)
      unfold aOne at this
      rw [es] at this
      exact this
    | some T => have := (I.tn es).1; omega
theorem l_one3 {o : Option Vf} {g : Int → Int} {hb : Mem} (hS : 0 ≤ S.now ∧ S.now ≤ 999) {X : MX} {h0 : Mem} (C : Cx G X cX3_one 3 RX3 8 0 0 (some .int) "one") :
    ∀ (m i : Nat) (h : Mem), i + m = 100 → EX h0 h → Wf hb h → LawM h o → MR h E (passN E o S g i).1 → (passN E o S g i).1.now = S.now + i → MG h (passN E o S g i).2 → (∀ h' : Mem, EX h h' → QM hb h' → P (oneG E o S m i) h') →
    V G X 3 0 0 (QF G X 0 0 0 (PI h0 P)) 18 [(0, rf 177), (1, iv (-2)), (2, iv (i : Int))] [] h := by
  intro m
  induction m with
  | zero =>
    intro i h hk B w L T tn xg hp
    exact wX3_one_L18 C ⟨B, ⟨by decide, by decide⟩, ⟨by omega, by omega⟩⟩ ⟨T.ms, fun _ => w.back T.ms fun h' e' f' _ _ => hp h' e' f', fun q => absurd q (by omega)⟩
  | succ m ih =>
    intro i h hk B w L T tn xg hp
    rw [oneG, passN_1 E o S (fun _ => 0) g i] at hp
    refine wX3_one_L18 C ⟨B, ⟨by decide, by decide⟩, ⟨by omega, by omega⟩⟩ ⟨T.ms, fun q => absurd q (by omega), fun _ => ⟨fun q => absurd rfl q, fun _ => sX3_isOneColour T fun _ => ⟨fun z => ?_, fun z => ?_⟩⟩⟩
    · have no : ¬ oneF E (passN E o S g i).1 = true := fun y => by rw [if_pos y] at z; cases z
      rw [if_neg no] at hp
      refine sX3_goes T xg L (by decide) (by omega) fun h5 e5 f5 T5 x5 _ => ⟨⟨by omega, by omega⟩, fun B' => ?_⟩
      have := ih (i + 1) h5 (by omega) B'.1 (w.mp f5) (L.keep f5) T5 (by
        show (passS E (passN E o S g i).1 o).now = _
        rw [passS_now T.en T.st, tn]; omega) x5 fun h' e4 f4 => hp h' (e5.tr e4) f4
      rwa [show ((i + 1 : Nat) : Int) = (i : Int) + 1 by omega] at this
    · have yes : oneF E (passN E o S g i).1 = true := Classical.byContradiction fun y => by rw [if_neg y] at z; exact z rfl
      rw [if_pos yes] at hp
      intro y ey
      have ny : y = (passN E o S g i).1.now := ey.trans T.td.1.1
      have nw := T.st.now
      refine sX3_goes T xg L (by decide) (by omega) fun h5 e5 f5 T5 x5 _ => ⟨⟨by omega, by omega⟩, fun B' => ?_⟩
      refine wX3_one_L18 C ⟨B'.1, B'.2.1, B'.2.2⟩ ⟨T5.ms, fun _ => ?_, fun _ => ⟨fun _ => ?_, fun q => absurd q (by omega)⟩⟩
      · exact (w.mp f5).back T5.ms fun h' e' f' _ _ => by rw [ny]; exact hp h' (e5.tr e') f'
      · exact (w.mp f5).back T5.ms fun h' e' f' _ _ => by rw [ny]; exact hp h' (e5.tr e') f'
theorem oM_one (I : IM h Z) (hp : ∀ h' : Mem, EX h h' → QM h h' → P (aOne Z) h') : kX3_one G l h P := by
  refine eX3_one fun X C e9 B => ⟨I.ms, I.isStreet fun _ => ⟨fun z => ?_, fun z => ?_⟩⟩
  · cases es : Z.s with
    | none => rw [es, if_pos rfl] at z; exact absurd rfl z
    | some T =>
      have tx := I.tn es
      unfold aOne at hp
      rw [es] at hp
      dsimp only at hp
      refine I.keeps es fun h1 e1 w1 T1 g1 L1 _ B' => ?_
      exact l_one3 (S := T.st) (E := T.en) (o := lawZ Z) (g := fun _ => 0) ⟨tx.mr.st.now.1, tx.ok.now⟩ C 100 0 h1 rfl B'.1 w1 L1 T1 (by show T.st.now = T.st.now + ((0 : Nat) : Int); omega) g1 fun h' e' f' => hp h' (e1.tr e') f'
  · cases es : Z.s with
    | none =>
      have := hp h (EX.rf I.oz) (QM.rf _)
      unfold aOne at this
      rw [es] at this
      exact this
    | some T => rw [es, if_neg (by intro y; cases y)] at z; cases z
end
