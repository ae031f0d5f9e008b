/-! a town: the hour's end, bare things, one colour -/
set_option maxRecDepth 100000
def lenN (S : St) (a : Int) : Nat → Int
  | 0 => 0
  | n + 1 => lenN S a n + ((S.co (a + n)).length : Int)
def stripS (E : En) (S : St) (t : Int) : St := (S.now, S.bare, (fun c => if E.first t ≤ c ∧ c < E.first (t + 1) then [] else S.co c), S.purse)
def bareS (S : St) (b : Int) : St := (S.now, b, S.co, S.purse)
def lenF (E : En) (S : St) (t : Int) : Int := lenN S (E.first t) (E.first (t + 1) - E.first t).toNat
def oneN (E : En) (S : St) : Nat → Option Int
  | 0 => some (-1)
  | n + 1 => match oneN E S n with
    | none => none
    | some one => if hs S.bare (E.thingOf n) then some one else match S.co n with
      | [] => none
      | (b, _) :: _ => if one ≠ -1 ∧ E.colour b ≠ one then none else some (E.colour b)
def oneF (E : En) (S : St) : Bool := (oneN E S E.cm.toNat).isSome
theorem lenN_rng {E : En} {S : St} (h : StOk E S) {a : Int} (a0 : 0 ≤ a) : ∀ n : Nat, a + n ≤ E.cm → 0 ≤ lenN S a n ∧ lenN S a n ≤ 5 * n
  | 0, _ => by simp [lenN]
  | n + 1, hn => by
    have ih := lenN_rng h a0 n (by omega)
    have := (h.co (a + n) (by omega) (by omega)).1
    rw [lenN]
    omega
theorem oneN_none {E : En} {S : St} {n : Nat} (h : oneN E S n = none) : ∀ m : Nat, n ≤ m → oneN E S m = none
  | 0, hm => by rw [show n = 0 by omega] at h; exact h
  | m + 1, hm => by
    by_cases e : n = m + 1
    · rw [← e]; exact h
    · rw [oneN, oneN_none h m (by omega)]
section
variable {G : GT} {h : Mem} {a : Int} {E : En} {S : St} {P : Int → Mem → Prop} {l : Launch}
theorem sX1_paysRents (ha : aOk a) {g : Int → Int} (T : TR h a E S) (xg : XG h g) (hp : ∀ h' : Mem, EX h h' → Fr (sTg a) h h' → TR h' a E (purseS S (payN E S (S.purse, g) E.tm.toNat).1) → XG h' (payN E S (S.purse, g) E.tm.toNat).2 → P 0 h') : kX1_paysRents G l a 165 h P := by
  refine eX1_paysRents fun X C e B B' => ?_
  have K := T.en.tm
  exact l_paysRents (f := g) ha C T.en E.tm.toNat 0 h B'.1 (T.congr rfl rfl (fun _ _ _ => rfl) fun _ _ _ => rfl) xg (by omega) hp
theorem TR.hour {h' : Mem} (T : TR h a E S) {n : Int} (e : Ext h h') (f : Fr (fun b j => b = a ∧ j = 11) h h') (hn : h' a 11 = n) (h1 : S.now ≤ n) (h2 : n ≤ 1000000) : TR h' a E (hourS S n) := by
  refine ⟨T.tw.ext e, T.en, T.st.hour h1 h2, T.te.keep fun b j q => f b j (by omega), ⟨hn, (f a 12 (by omega)).trans T.td.1.2⟩, fun c c0 c1 => ?_, fun p p0 p1 => (f _ _ (by omega)).trans (T.td.2.2 p p0 p1)⟩
  rw [f (a + 11) c (by omega)]
  exact ⟨(T.co c0 c1).1, (T.co c0 c1).2.mono fun i _ _ => ⟨f (a + 12) i (by omega), f (a + 13) i (by omega)⟩⟩
theorem sX1_closes (ha : aOk a) {g : Int → Int} (T : TR h a E S) (xg : XG h g) (hn : S.now < 1000000) (hp : ∀ h' : Mem, EX h h' → Fr (sTg a) h h' → TR h' a E (closeS E S) → XG h' (closeG E S g) → P 0 h') : kX1_closes G l a 165 h P := by
  refine eX1_closes fun X C e B => ⟨T.tw, ?_⟩
  have Kn := T.st.now
  rw [T.td.1.1]
  have fin : ∀ (h2 h9 : Mem) (S2 : St), EX h h2 → Fr (sTg a) h h2 → TR h2 a E S2 → XG h2 g → S2.now = S.now → S2 = (if rainF E S.now = true then washS E S else S) → h9 = up h2 a 11 (h2 a 11 + 1) →
      ((h2 a 11 + 1).tmod 24 ≠ 12 → P 0 h9) ∧ ((h2 a 11 + 1).tmod 24 = 12 → kX1_paysRents G X.2.1 a 165 h9 (fun _ h14 => EX h9 h14 → P 0 h14)) := fun h2 h9 S2 e2 f2 T2 x2 en eS e9 => by
    have x9 : EX h2 h9 := by rw [e9]; exact EX_up (EX.rf e2.2) T2.tw.k (by decide) rfl (by decide) (okI_i rfl (by rw [T2.td.1.1, en]; exact ⟨by omega, by omega⟩))
    have f9 : Fr (fun b j => b = a ∧ j = 11) h2 h9 := by rw [e9]; exact (Fr.rf _ _).up ⟨rfl, rfl⟩
    have T9 : TR h9 a E (hourS S2 (S.now + 1)) := T2.hour x9.1 f9 (by rw [e9, up_s, T2.td.1.1, en]) (by rw [en]; omega) (by omega)
    have xg9 : XG h9 g := x2.keep e2.2 x9.1 fun j => f9 165 j (by unfold aOk at ha; omega)
    have fr9 : Fr (sTg a) h h9 := f2.tr (f9.mono fun b j q => by unfold sTg sTw; omega)
    have ed : hourS S2 (S.now + 1) = dueS E S := by rw [eS]; rfl
    rw [ed] at T9
    rw [T2.td.1.1, en]
    refine ⟨fun q => hp h9 (e2.tr x9) fr9 ?_ ?_, fun q => ?_⟩
    · rw [closeS, if_neg q]; exact T9
    · rw [closeG, if_neg q]; exact xg9
    · refine sX1_paysRents ha T9 xg9 fun h' e3 f3 T3 x3 _ => hp h' ((e2.tr x9).tr e3) (fr9.tr f3) ?_ ?_
      · rw [closeS, if_pos q, payN_1 E (dueS E S) (dueS E S).purse (dueS E S).purse g]; exact T3
      · rw [closeG, if_pos q]; exact x3
  refine sX1_isRain T fun e2 => ⟨fun q => ?_, fun q => ?_⟩
  · have hr : ¬ rainF E S.now = true := fun z => by rw [if_pos z] at q; cases q
    rw [T.td.1.1]
    refine ⟨⟨by omega, by omega⟩, fun h9 e9 => ?_⟩
    have := fin h h9 S e2 (Fr.rf _ _) T xg rfl (by rw [if_neg hr]) (by rw [T.td.1.1]; exact e9)
    rwa [T.td.1.1] at this
  · have hr : rainF E S.now = true := Classical.byContradiction fun z => by rw [if_neg z] at q; exact q rfl
    refine sX1_washes T fun h20 e20 f20 T20 e21 => ?_
    have xg20 : XG h20 g := xg.keep B.2 e20.1 fun j => f20 165 j (by unfold sTw; unfold aOk at ha; omega)
    refine ⟨?_, fun h26 e26 => fin h20 h26 (washS E S) e20 f20.gt T20 xg20 rfl (by rw [if_pos hr]) e26⟩
    rw [T20.td.1.1]
    show R32 (S.now + 1)
    exact ⟨by omega, by omega⟩
theorem l_bares {t : Int} (K : EnOk E) (t0 : 0 ≤ t) (t1 : t < E.tm) {X : MX} {h0 : Mem} (C : Cx G X cX1_bares 4 RX1 0 0 0 (some .int) "bares") :
    ∀ (m n : Nat) (h : Mem) (S1 : St), EX h0 h → TR h a E S1 → S1.now = S.now ∧ S1.bare = S.bare ∧ S1.purse = S.purse ∧ (∀ c : Int, 0 ≤ c → c < E.cm → S1.co c = if E.first t ≤ c ∧ c < E.first t + n then [] else S.co c) → StOk E S → (n : Int) + m = E.first (t + 1) - E.first t →
    (∀ h' : Mem, EX h h' → Fr (sTw a) h h' → TR h' a E (bareS (stripS E S t) (bOr S.bare (bShl 1 t))) → P (lenF E S t) h') →
    V G X 4 0 0 (QF G X 0 0 0 (PI h0 P)) 9 [(0, rf a), (1, iv t), (2, iv (lenN S (E.first t) n)), (3, iv (E.first t + n))] [] h := by
  intro m
  have Kt := K.tm
  have Kc := K.cm
  have Kr := K.rng t0 t1
  have Kf := K.fs t t0 t1
  induction m with
  | zero =>
    intro n h S1 B T w hS hn hp
    have hl := lenN_rng hS (a := E.first t) (by omega) n (by omega)
    refine wX1_bares_L9 C ⟨B, ⟨by omega, by omega⟩, ⟨by omega, by omega⟩, ⟨by omega, by omega⟩⟩ ?_
    rw [(T.te.2.1 t t0 t1).1, (T.te.2.1 t t0 t1).2.1, T.td.1.2, w.2.1]
    refine ⟨T.tw, t0, by omega, ⟨by omega, by omega⟩, fun _ h5 e5 => ?_, fun q => absurd q (by omega)⟩
    have x5 : EX h h5 := by rw [e5]; exact EX_up (EX.rf B.2) T.tw.k (by decide) rfl (by decide) (okI_i rfl (R32_toInt _))
    have f5 : Fr (fun b j => b = a ∧ j = 12) h h5 := by rw [e5]; exact (Fr.rf _ _).up ⟨rfl, rfl⟩
    have := hp h5 x5 (f5.mono fun b j q => by unfold sTw; omega) ?_
    · rw [lenF, show (E.first (t + 1) - E.first t).toNat = n by omega] at this; exact this
    · refine ⟨T.tw.ext x5.1, K, ?_, T.te.keep fun b j q => f5 b j (by omega), ⟨(f5 a 11 (by omega)).trans (T.td.1.1.trans w.1), by rw [e5, up_s]; rfl⟩, fun c c0 c1 => ?_, fun p p0 p1 => (f5 _ _ (by omega)).trans ((T.td.2.2 p p0 p1).trans (by rw [w.2.2.1]; rfl))⟩
      · refine StOk.mk hS.now (R32_toInt _) (fun c c0 c1 => ?_) hS.purse
        show CoOk E S.now (if E.first t ≤ c ∧ c < E.first (t + 1) then [] else S.co c)
        split
        · exact ⟨by decide, fun b w q => (List.not_mem_nil q).elim, List.Pairwise.nil⟩
        · exact hS.co c c0 c1
      · have z := T.co c0 c1
        rw [f5 (a + 11) c (by omega)]
        have ec : (bareS (stripS E S t) (bOr S.bare (bShl 1 t))).co c = S1.co c := by
          rw [w.2.2.2 c c0 c1]
          show (if E.first t ≤ c ∧ c < E.first (t + 1) then [] else S.co c) = _
          rw [show E.first t + (n : Int) = E.first (t + 1) by omega]
        rw [ec]
        exact ⟨z.1, z.2.mono fun i _ _ => ⟨f5 (a + 12) i (by omega), f5 (a + 13) i (by omega)⟩⟩
  | succ m ih =>
    intro n h S1 B T w hS hn hp
    have hl := lenN_rng hS (a := E.first t) (by omega) n (by omega)
    have hl2 := lenN_rng hS (a := E.first t) (by omega) (n + 1) (by omega)
    have c0 : 0 ≤ E.first t + (n : Int) := by omega
    have c1 : E.first t + (n : Int) < E.cm := by omega
    have z := T.co c0 c1
    have wc := w.2.2.2 _ c0 c1
    rw [if_neg (by omega)] at wc
    refine wX1_bares_L9 C ⟨B, ⟨by omega, by omega⟩, ⟨by omega, by omega⟩, ⟨by omega, by omega⟩⟩ ?_
    rw [(T.te.2.1 t t0 t1).1, (T.te.2.1 t t0 t1).2.1, z.1, wc]
    rw [lenN] at hl2
    refine ⟨T.tw, t0, by omega, ⟨by omega, by omega⟩, fun q => absurd q (by omega), fun _ => ⟨c0, by omega, ⟨by omega, by omega⟩, fun y ey h12 e12 => ⟨⟨by omega, by omega⟩, fun B' => ?_⟩⟩⟩
    have x12 : EX h h12 := by rw [e12]; exact EX_up (EX.rf B.2) T.tw.k23 (by decide) rfl c0 (okI_a (Or.inl rfl) ⟨by decide, by decide⟩)
    have f12 : Fr (fun b j => b = a + 11 ∧ j = E.first t + (n : Int)) h h12 := by rw [e12]; exact (Fr.rf _ _).up ⟨rfl, rfl⟩
    have T12 : TR h12 a E (dropS S1 (E.first t + (n : Int)) []) := T.cell c0 c1 x12.1 (T.st.drop (List.nil_suffix)) (fun b j _ n1 _ => f12 b j n1) (by rw [e12, up_s]; rfl) trivial
    have := ih (n + 1) h12 _ B'.1 T12 ⟨w.1, w.2.1, w.2.2.1, fun c d0 d1 => ?_⟩ hS (by omega) fun h' e3 f3 => hp h' (x12.tr e3) ((f12.mono fun b j q => by unfold sTw; omega).tr f3)
    · rw [lenN, show E.first t + ((n + 1 : Nat) : Int) = E.first t + (n : Int) + 1 by omega] at this
      rw [ey]
      exact this
    · show fu S1.co (E.first t + (n : Int)) [] c = _
      by_cases q : c = E.first t + (n : Int)
      · rw [q, fu_s, if_pos (by omega)]
      · rw [fu_n q, w.2.2.2 c d0 d1]
        by_cases q2 : E.first t ≤ c ∧ c < E.first t + (n : Int)
        · rw [if_pos q2, if_pos (by omega)]
        · rw [if_neg q2, if_neg (by omega)]
theorem sX1_bares (T : TR h a E S) {t : Int} (t0 : 0 ≤ t) (t1 : t < E.tm) (hp : ∀ h' : Mem, EX h h' → Fr (sTw a) h h' → TR h' a E (bareS (stripS E S t) (bOr S.bare (bShl 1 t))) → P (lenF E S t) h') : kX1_bares G l a t h P := by
  refine eX1_bares fun X C e B => ⟨T.tw, t0, by have := T.en.tm; omega, fun y ey B' => ?_⟩
  have Kr := T.en.rng t0 t1
  rw [ey, (T.te.2.1 t t0 t1).1]
  have := l_bares (S := S) T.en t0 t1 C (E.first (t + 1) - E.first t).toNat 0 h S B'.1 T ⟨rfl, rfl, rfl, fun c c0 c1 => by rw [if_neg (by omega)]⟩ T.st (by omega) hp
  rwa [show E.first t + ((0 : Nat) : Int) = E.first t by omega] at this
theorem l_oneColour (T : TR h a E S) {X : MX} {h0 : Mem} (C : Cx G X cX1_isOneColour 3 RX1 2 0 0 (some .boolean) "isOneColour") (B : EX h0 h) :
    ∀ (m n : Nat) (one : Int), (n : Int) + m = E.cm → oneN E S n = some one → (one = -1 ∨ 0 ≤ one ∧ one ≤ 8) → P (if oneF E S = true then 1 else 0) h →
    V G X 3 0 0 (QF G X 0 0 0 (PZ h0 P)) 4 [(0, rf a), (1, iv one), (2, iv (n : Int))] [] h := by
  intro m
  have K := T.en.cm
  have Kp := T.en.pm
  induction m with
  | zero =>
    intro n one hn ho hr hp
    refine wX1_isOneColour_L4 C ⟨B, ⟨by omega, by omega⟩, ⟨by omega, by omega⟩⟩ ?_
    rw [T.te.1.2.2.2.2.1]
    refine ⟨T.tw, fun _ => ?_, fun q => absurd q (by omega)⟩
    rw [if_pos (by rw [oneF, show E.cm.toNat = n by omega, ho]; rfl)] at hp
    exact hp
  | succ m ih =>
    intro n one hn ho hr hp
    have c0 : 0 ≤ (n : Int) := by omega
    have c1 : (n : Int) < E.cm := by omega
    have Z := T.st.co n c0 c1
    have q := T.co c0 c1
    have r1 : R32 ((n : Int) + 1) := ⟨by omega, by omega⟩
    have en : oneN E S (n + 1) = if hs S.bare (E.thingOf n) then some one else match S.co n with
      | [] => none
      | (b, _) :: _ => if one ≠ -1 ∧ E.colour b ≠ one then none else some (E.colour b) := by rw [oneN, ho]
    have nx : ∀ one' : Int, oneN E S (n + 1) = some one' → (one' = -1 ∨ 0 ≤ one' ∧ one' ≤ 8) → V G X 3 0 0 (QF G X 0 0 0 (PZ h0 P)) 4 [(0, rf a), (1, iv one'), (2, iv ((n : Int) + 1))] [] h := fun o h1 h2 => by
      have := ih (n + 1) o (by omega) h1 h2 hp
      rwa [show ((n + 1 : Nat) : Int) = (n : Int) + 1 by omega] at this
    have bad : oneN E S (n + 1) = none → P 0 h := fun z => by
      rw [if_neg (by rw [oneF, oneN_none z _ (by omega)]; decide)] at hp
      exact hp
    refine wX1_isOneColour_L4 C ⟨B, ⟨by omega, by omega⟩, ⟨by omega, by omega⟩⟩ ?_
    rw [T.te.1.2.2.2.2.1]
    refine ⟨T.tw, fun z => absurd z (by omega), fun _ => sX1_isBareCell T c0 c1 fun _ => ⟨fun z => ?_, fun z => ⟨r1, fun _ => nx one ?_ hr⟩⟩⟩
    · have hb : ¬ hs S.bare (E.thingOf n) := fun y => by rw [if_pos y] at z; cases z
      rw [if_neg hb] at en
      rw [q.1]
      cases hl : S.co n with
      | nil =>
        rw [hl] at en
        exact ⟨c0, by omega, fun _ => bad en, fun y => absurd rfl y⟩
      | cons x r =>
        obtain ⟨b, w⟩ := x
        rw [hl] at en Z
        have hb2 := Z.2.1 b w List.mem_cons_self
        have hcol := T.en.colour b hb2.1 hb2.2.1
        have htop : topL (S.co n) = b := by rw [hl]; rfl
        refine ⟨c0, by omega, fun y => absurd y (by rw [List.length_cons]; omega), fun _ => ⟨fun y => ?_, fun y => ?_⟩⟩
        · refine sX1_top T c0 c1 fun _ => ?_
          rw [htop, T.te.2.2.2.1 b hb2.1 hb2.2.1]
          refine ⟨hb2.1, by omega, fun y2 ey => ⟨r1, fun _ => ?_⟩⟩
          rw [ey]
          exact nx _ (by rw [en]; exact if_neg (fun z => z.1 y)) (Or.inr hcol)
        · refine sX1_top T c0 c1 fun _ => ?_
          rw [htop, T.te.2.2.2.1 b hb2.1 hb2.2.1]
          refine ⟨hb2.1, by omega, fun y2 => sX1_top T c0 c1 fun _ => ?_, fun y2 => bad (by rw [en]; exact if_pos ⟨y, y2⟩)⟩
          rw [htop, T.te.2.2.2.1 b hb2.1 hb2.2.1]
          refine ⟨hb2.1, by omega, fun y3 ey => ⟨r1, fun _ => ?_⟩⟩
          rw [ey]
          exact nx _ (by rw [en]; exact if_neg (fun z => z.2 y2)) (Or.inr hcol)
    · have hb : hs S.bare (E.thingOf n) := Classical.byContradiction fun y => by rw [if_neg y] at z; exact z rfl
      rw [en, if_pos hb]
theorem sX1_isOneColour (T : TR h a E S) (hp : P (if oneF E S = true then 1 else 0) h) : kX1_isOneColour G l a h P := by
  refine eX1_isOneColour fun X C e B B' => ?_
  have K := T.en.cm
  exact l_oneColour T C B'.1 E.cm.toNat 0 (-1) (by omega) rfl (Or.inl rfl) hp
end
