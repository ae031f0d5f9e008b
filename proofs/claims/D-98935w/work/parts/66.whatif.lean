/-! what would be: ahead, rents, worth, one -/
set_option maxRecDepth 100000
theorem payN_r {E : En} {S : St} {f g : Int → Int} {p : Int} (K : EnOk E) (h0 : 0 ≤ g p) : ∀ n : Nat, (n : Int) ≤ E.tm → g p + 20 * n < 2147483648 → g p ≤ (payN E S (f, g) n).2 p ∧ (payN E S (f, g) n).2 p ≤ g p + 20 * n
  | 0, _, _ => by show g p ≤ g p ∧ g p ≤ g p + 20 * ((0 : Nat) : Int); omega
  | n + 1, hn, hb => by
    have ih := payN_r (S := S) (f := f) K h0 n (by omega) (by omega)
    have r := K.rent n (by omega) (by omega)
    rw [payN]
    split
    · omega
    · show g p ≤ fu _ _ _ p ∧ fu _ _ _ p ≤ _
      by_cases q : p = whoF E S n
      · rw [← q, fu_s, w32_id ⟨by omega, by omega⟩]; omega
      · rw [fu_n q]; omega
theorem payN_2 (E : En) (S : St) {f g g' : Int → Int} {p : Int} (h : g p = g' p) : ∀ n : Nat, (payN E S (f, g) n).2 p = (payN E S (f, g') n).2 p
  | 0 => h
  | n + 1 => by
    have ih := payN_2 E S (f := f) h n
    rw [payN, payN]
    split
    · exact ih
    · show fu _ _ _ p = fu _ _ _ p
      by_cases q : p = whoF E S n
      · rw [← q, fu_s, fu_s, ih]
      · rw [fu_n q, fu_n q]; exact ih
theorem passN_1 (E : En) (o : Option Vf) (S : St) (g g' : Int → Int) : ∀ n : Nat, (passN E o S g n).1 = (passN E o S g' n).1
  | 0 => rfl
  | n + 1 => by rw [passN, passN, passN_1 E o S g g' n]
theorem passN_2 (E : En) (o : Option Vf) (S : St) {g g' : Int → Int} {p : Int} (h : g p = g' p) : ∀ n : Nat, (passN E o S g n).2 p = (passN E o S g' n).2 p
  | 0 => h
  | n + 1 => by
    rw [passN, passN]
    show passG E (passN E o S g n).1 o (passN E o S g n).2 p = passG E (passN E o S g' n).1 o (passN E o S g' n).2 p
    rw [passN_1 E o S g g' n]
    unfold passG closeG
    split
    · exact payN_2 E _ (passN_2 E o S h n) _
    · exact passN_2 E o S h n
theorem passN_r {E : En} (K : EnOk E) (o : Option Vf) (S : St) {g : Int → Int} {p : Int} (h0 : 0 ≤ g p) : ∀ n : Nat, g p + 80 * n < 2147483648 → g p ≤ (passN E o S g n).2 p ∧ (passN E o S g n).2 p ≤ g p + 80 * n
  | 0, _ => by show g p ≤ g p ∧ g p ≤ g p + 80 * ((0 : Nat) : Int); omega
  | n + 1, hb => by
    have ih := passN_r K o S h0 n (by omega)
    have Kt := K.tm
    rw [passN]
    show g p ≤ passG E (passN E o S g n).1 o (passN E o S g n).2 p ∧ passG E (passN E o S g n).1 o (passN E o S g n).2 p ≤ _
    unfold passG closeG
    split
    · have z := payN_r (E := E) (S := dueS E (paintF E (passN E o S g n).1 o).1) (f := (dueS E (paintF E (passN E o S g n).1 o).1).purse) (g := (passN E o S g n).2) (p := p) K (by omega) E.tm.toNat (by omega) (by omega)
      omega
    · omega
theorem passN_ok {E : En} (K : EnOk E) (o : Option Vf) {S : St} (h : StOk E S) (g : Int → Int) (hs : ∀ S' : St, StOk E S' → S'.now < 1000000 → StOk E (passS E S' o)) : ∀ n : Nat, S.now + n < 1000000 → StOk E (passN E o S g n).1 ∧ (passN E o S g n).1.now = S.now + n
  | 0, _ => ⟨h, by show S.now = S.now + ((0 : Nat) : Int); omega⟩
  | n + 1, hn => by
    have ih := passN_ok K o h g hs n (by omega)
    refine ⟨hs _ ih.1 (by omega), ?_⟩
    show (passS E (passN E o S g n).1 o).now = _
    rw [passS_now K ih.1, ih.2]; omega
section
variable {G : GT} {h : Mem} {Z : Zt} {T : Tn} {P : Int → Mem → Prop} {l : Launch} {a b : Int} {E : En} {S : St}
/-- a town stands as X's own one -/
theorem sX1_copyTR {o : Int} (A : TownS h a) (q : TR h o E S) (d : apart a o) (hp : ∀ h' : Mem, EX h h' → Fr (sCp a) h h' → TR h' a E S → P a h') : kX1_copies G l a o h P :=
  sX1_copies A q.tw d fun h' e f fl lk => hp h' e f (q.like A e.1 fl lk)
theorem sX1_standTR {o : Int} {S0 : St} (A : TR h a E S0) (q : TR h o E S) (d : apart a o) (hp : ∀ h' : Mem, EX h h' → Fr (sSd a) h h' → TR h' a E S → P a h') : kX1_standsAs G l a o h P :=
  sX1_standsAs A.tw q.tw d fun h' e f fl lk => hp h' e f (q.stands A e.1 f fl lk)
theorem Fr.cpq {h h' : Mem} (f : Fr (sCp 20) h h') : Fr sQx h h' := f.mono fun b j z => by unfold sCp at z; unfold sQx; omega
theorem Fr.tgq {h h' : Mem} (f : Fr (sTg 20) h h') : Fr sQx h h' := f.mono fun b j z => by unfold sTg sTw at z; unfold sQx; omega
theorem Fr.owq {h h' : Mem} (f : Fr (sOw 20) h h') : Fr sQx h h' := f.mono fun b j z => by unfold sOw at z; unfold sQx; omega
theorem IX.lawq {h' : Mem} (I : IX h Z) (e : EX h h') (f : Fr sQx h h') : XLaw h' (lawZ Z) := (I.q e f).law
/-- the model goes on, and keeps what was -/
def Wf (h h1 : Mem) : Prop := Fr sQm h h1 ∧ Kept h1 h
theorem Wf.tr {h h1 h2 : Mem} (w : Wf h h1) {s : Int → Int → Prop} (f : Fr s h1 h2) (q : ∀ b j : Int, s b j → sQm b j ∧ b ≠ 224) : Wf h h2 :=
  ⟨w.1.tr (f.mono fun b j z => (q b j z).1), w.2.keep fun j => f 224 j fun z => (q 224 j z).2 rfl⟩
theorem Wf.mp {h h1 h2 : Mem} (w : Wf h h1) (f : Fr sMp h1 h2) : Wf h h2 := w.tr f fun b j z => by unfold sMp sMs sM1 at z; unfold sQm; omega
theorem Wf.cn {h h1 h2 : Mem} (w : Wf h h1) (f : Fr sCn h1 h2) : Wf h h2 := w.tr f fun b j z => by unfold sCn at z; unfold sQm; omega
theorem Wf.m1 {h h1 h2 : Mem} (w : Wf h h1) (f : Fr sM1 h1 h2) : Wf h h2 := w.tr f fun b j z => by unfold sM1 at z; unfold sQm; omega
theorem Wf.ms {h h1 h2 : Mem} (w : Wf h h1) (f : Fr sMs h1 h2) : Wf h h2 := w.tr f fun b j z => by unfold sMs sM1 at z; unfold sQm; omega
theorem IM.keeps (I : IM h Z) {T : Tn} (es : Z.s = some T) (hp : ∀ h1 : Mem, EX h h1 → Wf h h1 → MR h1 T.en T.st → MG h1 (fun _ => 0) → LawM h1 (lawZ Z) → P 0 h1) : kX3_keepsAll G l h P := by
  refine sX3_keepsAll I.ms fun h1 e f k g => ?_
  have fq : Fr sQm h h1 := f.mono fun b j z => by unfold sIm at z; unfold sQm; omega
  refine hp h1 e ⟨fq, k⟩ ((I.tn es).mr.keep e.1 fun b j z => f b j (by unfold mIn at z; unfold sIm; omega)) g (IM.law (I.back e (fun b j _ _ n => fq b j n) (Back9.of fun b j z => f b j (by unfold sIm; omega))))
theorem Wf.back {h1 : Mem} (w : Wf h h1) (M : MS h1) (hp : ∀ h2 : Mem, EX h1 h2 → QM h h2 → Fr sBk h1 h2 → P 0 h2) : kX3_laysBack G l h1 P :=
  sX3_laysBack M w.2 fun h2 e f k => hp h2 e ⟨w.1.tr (f.mono fun b j z => by unfold sBk at z; unfold sQm; omega), k⟩ f
/-! ahead -/
def aheadF (Z : Zt) (T : Tn) (k n w : Int) : Int :=
  if w = 0 then (if 0 ≤ k ∧ k < T.en.tm then whoF T.en (passN T.en (lawZ Z) T.st (fun _ => 0) n.toNat).1 k else -2)
  else if w = 1 then (if 0 ≤ k ∧ k < T.en.pm then (passN T.en (lawZ Z) T.st (fun _ => 0) n.toNat).1.purse k else -2)
  else (if 0 ≤ k ∧ k < T.en.cm then ownC T.en (passN T.en (lawZ Z) T.st (fun _ => 0) n.toNat).1 (passN T.en (lawZ Z) T.st (fun _ => 0) n.toNat).1.now k else -2)
def aAhead (Z : Zt) (k n w : Int) : Int := if (0 ≤ n ∧ n ≤ 100) ∧ (0 ≤ w ∧ w ≤ 2) then (match Z.s with
  | none => -2
  | some T => aheadF Z T k n w) else -2
def isNum (Z : Zt) (k w : Int) : Prop := if w = 0 then 0 ≤ k ∧ k < tmO Z.s else if w = 1 then 0 ≤ k ∧ k < pmO Z.s else 0 ≤ k ∧ k < cmO Z.s
theorem isNum_some {Z : Zt} {k w : Int} (q : isNum Z k w) : ∃ T : Tn, Z.s = some T := by
  unfold isNum at q
  split at q
  · obtain ⟨T, e, _⟩ := tmO_s q; exact ⟨T, e⟩
  · split at q
    · obtain ⟨T, e, _⟩ := pmO_s q; exact ⟨T, e⟩
    · obtain ⟨T, e, _⟩ := cmO_s q; exact ⟨T, e⟩
theorem isNum_not {Z : Zt} {k n w : Int} (q : ¬ isNum Z k w) : aAhead Z k n w = -2 := by
  unfold aAhead
  split
  · cases es : Z.s with
    | none => rfl
    | some T =>
      unfold isNum at q
      rw [es] at q
      show aheadF Z T k n w = -2
      unfold aheadF
      by_cases w0 : w = 0
      · rw [if_pos w0] at q ⊢; exact if_neg q
      · rw [if_neg w0] at q ⊢
        by_cases w1 : w = 1
        · rw [if_pos w1] at q ⊢; exact if_neg q
        · rw [if_neg w1] at q ⊢; exact if_neg q
  · rfl
theorem l_ahead {o : Option Vf} {g : Int → Int} {k n w v : Int} (hn : 0 ≤ n ∧ n ≤ 100) (hS : 0 ≤ S.now ∧ S.now ≤ 999) (Rk : R32 k) (Rw : R32 w) {X : MX} {h0 : Mem} (C : Cx G X cX0_ahead 6 RX0 405 0 0 (some .int) "ahead")
    (hv : (w = 0 → (0 ≤ k ∧ k < E.tm) ∧ v = whoF E (passN E o S g n.toNat).1 k) ∧ (w = 1 → (0 ≤ k ∧ k < E.pm) ∧ v = (passN E o S g n.toNat).1.purse k) ∧ (w ≠ 0 → w ≠ 1 → (0 ≤ k ∧ k < E.cm) ∧ v = ownC E (passN E o S g n.toNat).1 (passN E o S g n.toNat).1.now k)) :
    ∀ (m i : Nat) (h : Mem), (i : Int) + m = n → EX h0 h → XS h → XLaw h o → TR h 20 E (passN E o S g i).1 → (passN E o S g i).1.now = S.now + i → XG h (passN E o S g i).2 → (∀ h' : Mem, EX h h' → Fr sQx h h' → P v h') →
    V G X 6 0 0 (QF G X 0 0 0 (PI h0 P)) 85 [(0, rf 1), (1, iv k), (2, iv n), (3, iv w), (4, rf 20), (5, iv (i : Int))] [] h := by
  intro m
  induction m with
  | zero =>
    intro i h hk B A L T tn xg hp
    refine wX0_ahead_L85 C ⟨B, Rk, ⟨by omega, by omega⟩, Rw, ⟨by omega, by omega⟩⟩ ⟨A, fun _ => ⟨fun w0 => ⟨fun w1 => ?_, fun w1 => ?_⟩, fun w0 => ?_⟩, fun q => absurd q (by omega)⟩
    · obtain ⟨⟨k0, k1⟩, ev⟩ := hv.2.2 w0 w1
      rw [show n.toNat = i by omega] at ev
      exact sX1_ownerOf T k0 k1 fun _ => by rw [← ev]; exact hp h (EX.rf B.2) (Fr.rf _ _)
    · obtain ⟨⟨k0, k1⟩, ev⟩ := hv.2.1 w1
      rw [show n.toNat = i by omega] at ev
      have Kp := T.en.pm
      refine ⟨k0, by omega, ?_⟩
      rw [show (34 : Int) = 20 + 14 from rfl, T.td.2.2 k k0 k1, ← ev]
      exact hp h (EX.rf B.2) (Fr.rf _ _)
    · obtain ⟨⟨k0, k1⟩, ev⟩ := hv.1 w0
      rw [show n.toNat = i by omega] at ev
      exact sX1_whose T k0 k1 fun h' e' f' _ => by rw [← ev]; exact hp h' e' f'.owq
  | succ m ih =>
    intro i h hk B A L T tn xg hp
    refine wX0_ahead_L85 C ⟨B, Rk, ⟨by omega, by omega⟩, Rw, ⟨by omega, by omega⟩⟩ ⟨A, fun q => absurd q (by omega), fun _ => ?_⟩
    refine sX0_law A L fun r R _ => sX1_passes (Or.inl (by decide)) T xg R (by omega) fun h5 e5 f5 T5 x5 R5 _ => ⟨⟨by omega, by omega⟩, fun B' => ?_⟩
    have k5 : KF h h5 := KF.tg T xg.1 f5
    have := ih (i + 1) h5 (by omega) B'.1 (A.ext e5.1) (L.keep k5 e5.1 (f5 1 8 (by unfold sTg sTw; omega)) fun j => f5 171 j (by unfold sTg sTw; omega)) T5 (by
      show (passS E (passN E o S g i).1 o).now = _
      rw [passS_now T.en T.st, tn]; omega) x5 fun h' e4 f4 => hp h' (e5.tr e4) (f5.tgq.tr f4)
    rwa [show ((i + 1 : Nat) : Int) = (i : Int) + 1 by omega] at this
theorem oX_ahead (I : IX h Z) {k n w : Int} (hp : ∀ h' : Mem, EX h h' → Fr sQx h h' → P (aAhead Z k n w) h') : kX0_ahead G l k n w h P := by
  have hp0 := hp h (EX.rf I.oz) (Fr.rf _ _)
  refine eX0_ahead fun X C e9 B => ⟨I.xs, sX0_in fun _ => ?_⟩
  by_cases hn : 0 ≤ n ∧ n ≤ 100
  · rw [if_pos hn]
    refine ⟨fun z => (by cases z), fun _ => sX0_in fun _ => ?_⟩
    by_cases hw : 0 ≤ w ∧ w ≤ 2
    · rw [if_pos hw]
      have go : isNum Z k w → h 1 0 = 2 ∧ kX1_copies G X.2.1 20 2 h (fun r h1 => EX h h1 → r = 20 ∧ (EX h h1 ∧ R32 k ∧ R32 n ∧ R32 w ∧ R32 0 → V G X 6 0 0 (QF G X 0 0 0 (PI h P)) 85 [(0, rf 1), (1, iv k), (2, iv n), (3, iv w), (4, rf 20), (5, iv 0)] [] h1)) := fun q => by
        obtain ⟨T, es⟩ := isNum_some q
        obtain ⟨t2, tx⟩ := I.tn es
        refine ⟨t2, sX1_copyTR I.xs.t20 tx.tr (Or.inr (by decide)) fun h1 e1 f1 T1 _ => ⟨rfl, fun B' => ?_⟩⟩
        have I1 := I.q e1 f1.cpq
        have nn := tx.ok.now
        have n0 := tx.tr.st.now.1
        unfold isNum at q
        rw [es] at q
        have ea : aAhead Z k n w = aheadF Z T k n w := by unfold aAhead; rw [if_pos ⟨hn, hw⟩, es]
        have eg : (passN T.en (lawZ Z) T.st (fun p => h1 165 p) n.toNat).1 = (passN T.en (lawZ Z) T.st (fun _ => 0) n.toNat).1 := passN_1 _ _ _ _ _ _
        refine l_ahead (S := T.st) (E := T.en) (o := lawZ Z) (g := fun p => h1 165 p) (v := aheadF Z T k n w) hn ⟨n0, nn⟩ B'.2.1 B'.2.2.2.1 C ⟨fun w0 => ?_, fun w1 => ?_, fun w0 w1 => ?_⟩ n.toNat 0 h1 (by omega) B'.1 I1.xs I1.law T1 (by show T.st.now = T.st.now + ((0 : Nat) : Int); omega) (I1.xs.got fun _ _ _ => rfl) fun h' e' f' => by rw [← ea]; exact hp h' (e1.tr e') (f1.cpq.tr f')
        · rw [if_pos w0] at q; have q : 0 ≤ k ∧ k < T.en.tm := q; rw [eg]; unfold aheadF; rw [if_pos w0, if_pos q]; exact ⟨q, rfl⟩
        · rw [if_neg (by omega), if_pos w1] at q; have q : 0 ≤ k ∧ k < T.en.pm := q; rw [eg]; unfold aheadF; rw [if_neg (by omega), if_pos w1, if_pos q]; exact ⟨q, rfl⟩
        · rw [if_neg w0, if_neg w1] at q; have q : 0 ≤ k ∧ k < T.en.cm := q; rw [eg]; unfold aheadF; rw [if_neg w0, if_neg w1, if_pos q]; exact ⟨q, rfl⟩
      have bad : ¬ isNum Z k w → P (-2) h := fun q => by rw [isNum_not q] at hp0; exact hp0
      refine ⟨fun _ => ⟨fun w0 => ⟨fun w1 => I.isCell fun _ => ⟨fun z => go ?_, fun z => bad ?_⟩, fun w1 => I.isPainter fun _ => ⟨fun z => go ?_, fun z => bad ?_⟩⟩, fun w0 => I.isThing fun _ => ⟨fun z => go ?_, fun z => bad ?_⟩⟩, fun z => by cases z⟩
      · unfold isNum; rw [if_neg w0, if_neg w1]
        exact Classical.byContradiction fun y => by rw [if_neg y] at z; exact z rfl
      · unfold isNum; rw [if_neg w0, if_neg w1]
        intro y; rw [if_pos y] at z; cases z
      · unfold isNum; rw [if_neg w0, if_pos w1]
        exact Classical.byContradiction fun y => by rw [if_neg y] at z; exact z rfl
      · unfold isNum; rw [if_neg w0, if_pos w1]
        intro y; rw [if_pos y] at z; cases z
      · unfold isNum; rw [if_pos w0]
        exact Classical.byContradiction fun y => by rw [if_neg y] at z; exact z rfl
      · unfold isNum; rw [if_pos w0]
        intro y; rw [if_pos y] at z; cases z
    · rw [if_neg hw]
      refine ⟨fun z => absurd rfl z, fun _ => ?_⟩
      unfold aAhead at hp0; rw [if_neg fun z => hw z.2] at hp0; exact hp0
  · rw [if_neg hn]
    refine ⟨fun _ => ?_, fun z => absurd rfl z⟩
    unfold aAhead at hp0; rw [if_neg fun z => hn z.1] at hp0; exact hp0
theorem oM_isNumber (I : IM h Z) {k w : Int} (hp : (isNum Z k w → P 1 h) ∧ (¬ isNum Z k w → P 0 h)) : kX3_isNumber G l k w h P := by
  unfold isNum at hp
  refine eX3_isNumber fun X C e B => ⟨I.ms, fun w0 => ⟨fun w1 => I.isCell fun _ => ?_, fun w1 => I.isPainter fun _ => ?_⟩, fun w0 => I.isThing fun _ => ?_⟩
  · rw [if_neg w0, if_neg w1] at hp
    by_cases q : 0 ≤ k ∧ k < cmO Z.s
    · rw [if_pos q]; exact hp.1 q
    · rw [if_neg q]; exact hp.2 q
  · rw [if_neg (by omega), if_pos w1] at hp
    by_cases q : 0 ≤ k ∧ k < pmO Z.s
    · rw [if_pos q]; exact hp.1 q
    · rw [if_neg q]; exact hp.2 q
  · rw [if_pos w0] at hp
    by_cases q : 0 ≤ k ∧ k < tmO Z.s
    · rw [if_pos q]; exact hp.1 q
    · rw [if_neg q]; exact hp.2 q
theorem oM_ahead (I : IM h Z) {k n w : Int} (hp : ∀ h' : Mem, EX h h' → QM h h' → P (aAhead Z k n w) h') : kX3_ahead G l k n w h P := by
  have hp0 := hp h (EX.rf I.oz) (QM.rf _)
  refine eX3_ahead fun X C e9 B => ⟨I.ms, sX3_in fun _ => ?_⟩
  by_cases hw : 0 ≤ w ∧ w ≤ 2
  · rw [if_pos hw]
    refine ⟨fun z => (by cases z), fun _ => oM_isNumber I ⟨fun q _ => ⟨fun z => (by cases z), fun _ => sX3_in fun _ => ?_⟩, fun q _ => ⟨fun _ => ?_, fun z => absurd rfl z⟩⟩⟩
    · by_cases hn : 0 ≤ n ∧ n ≤ 100
      · rw [if_pos hn]
        refine ⟨fun _ => ?_, fun z => by cases z⟩
        obtain ⟨T, es⟩ := isNum_some q
        have tx := I.tn es
        have nn := tx.ok.now
        have n0 := tx.mr.st.now.1
        unfold isNum at q
        rw [es] at q
        have ea : aAhead Z k n w = aheadF Z T k n w := by unfold aAhead; rw [if_pos ⟨hn, hw⟩, es]
        rw [ea] at hp
        refine I.keeps es fun h1 e1 w1 T1 g1 L1 _ => sX3_goes T1 g1 L1 hn.1 (by omega) fun h2 e2 f2 T2 g2 _ => ?_
        have w2 := w1.mp f2
        have Kp := T2.en.pm
        refine ⟨fun v0 => ⟨fun v1 => ?_, fun v1 => ?_⟩, fun v0 => ?_⟩
        · rw [if_neg v0, if_neg v1] at q; have q : 0 ≤ k ∧ k < T.en.cm := q
          refine sX3_ownerOf T2 q.1 q.2 fun _ => w2.back T2.ms fun h3 e3 f3 _ _ => ?_
          have := hp h3 ((e1.tr e2).tr e3) f3
          unfold aheadF at this
          rw [if_neg v0, if_neg v1, if_pos q] at this; exact this
        · rw [if_neg (by omega), if_pos v1] at q; have q : 0 ≤ k ∧ k < T.en.pm := q
          have q2 : k < T.en.pm := q.2
          refine ⟨q.1, by omega, fun y ey => w2.back T2.ms fun h3 e3 f3 _ _ => ?_⟩
          have := hp h3 ((e1.tr e2).tr e3) f3
          unfold aheadF at this
          rw [if_neg (by omega), if_pos v1, if_pos q] at this
          rw [ey, T2.td.2.2 k q.1 q.2]; exact this
        · rw [if_pos v0] at q; have q : 0 ≤ k ∧ k < T.en.tm := q
          refine sX3_thingOwner T2 q.1 q.2 fun h3 e3 f3 _ => (w2.cn f3).back (T2.ms.ext e3.1) fun h4 e4 f4 _ _ => ?_
          have := hp h4 (((e1.tr e2).tr e3).tr e4) f4
          unfold aheadF at this
          rw [if_pos v0, if_pos q] at this; exact this
      · rw [if_neg hn]
        refine ⟨fun z => absurd rfl z, fun _ => ?_⟩
        unfold aAhead at hp0; rw [if_neg fun z => hn z.1] at hp0; exact hp0
    · rw [isNum_not q] at hp0; exact hp0
  · rw [if_neg hw]
    refine ⟨fun _ => ?_, fun z => absurd rfl z⟩
    unfold aAhead at hp0; rw [if_neg fun z => hw z.2] at hp0; exact hp0
end
