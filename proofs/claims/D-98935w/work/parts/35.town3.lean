/-! a town: paint, rain, rent, the hour's end, bare things -/
set_option maxRecDepth 100000
theorem StOk.congr {E : En} {S S' : St} (h : StOk E S) (e1 : S'.now = S.now) (e2 : S'.bare = S.bare) (e3 : ∀ c : Int, 0 ≤ c → c < E.cm → S'.co c = S.co c) (e4 : ∀ p : Int, 0 ≤ p → p < E.pm → S'.purse p = S.purse p) : StOk E S' :=
  StOk.mk (by rw [e1]; exact h.now) (by rw [e2]; exact h.bare) (fun c c0 c1 => by rw [e1, e3 c c0 c1]; exact h.co c c0 c1) fun p p0 p1 => by rw [e4 p p0 p1]; exact h.purse p p0 p1
theorem TR.congr {h : Mem} {a : Int} {E : En} {S S' : St} (T : TR h a E S) (e1 : S'.now = S.now) (e2 : S'.bare = S.bare) (e3 : ∀ c : Int, 0 ≤ c → c < E.cm → S'.co c = S.co c) (e4 : ∀ p : Int, 0 ≤ p → p < E.pm → S'.purse p = S.purse p) : TR h a E S' :=
  ⟨T.tw, T.en, T.st.congr e1 e2 e3 e4, T.te, ⟨by rw [e1]; exact T.td.1.1, by rw [e2]; exact T.td.1.2⟩, fun c c0 c1 => by rw [e3 c c0 c1]; exact T.co c0 c1, fun p p0 p1 => by rw [e4 p p0 p1]; exact T.td.2.2 p p0 p1⟩
section
variable {G : GT} {h : Mem} {a : Int} {E : En} {S : St} {P : Int → Mem → Prop} {l : Launch}
def canF (E : En) (S : St) (c p : Int) : Bool := decide (¬ hs S.bare (E.thingOf c)) && decide (E.cost ≤ S.purse p)
theorem sX1_canPaint (T : TR h a E S) {c p : Int} (c0 : 0 ≤ c) (c1 : c < E.cm) (p0 : 0 ≤ p) (p1 : p < E.pm) (hp : P (if canF E S c p = true then 1 else 0) h) : kX1_canPaint G l a c p h P := by
  refine eX1_canPaint fun X C e B => ⟨T.tw, sX1_isBareCell T c0 c1 fun _ => ⟨fun q => ?_, fun q => ⟨p0, by have := T.en.pm; omega, ?_⟩⟩⟩
  · have hy : hs S.bare (E.thingOf c) := Classical.byContradiction fun z => by rw [if_neg z] at q; exact q rfl
    rw [if_neg (by simp [canF, hy])] at hp
    exact hp
  · have hn : ¬ hs S.bare (E.thingOf c) := fun z => by rw [if_pos z] at q; cases q
    rw [T.td.2.2 p p0 p1, T.te.1.2.2.1]
    refine ⟨fun q2 => ?_, fun q2 => ?_⟩
    · rw [if_neg (by simp [canF]; omega)] at hp; exact hp
    · rw [if_pos (by simp [canF, hn]; omega)] at hp; exact hp
/-- a purse changes -/
theorem TR.purse {h' : Mem} (T : TR h a E S) {f : Int → Int} (e : Ext h h') (fr : Fr (fun b _ => b = a + 14) h h') (hf : ∀ p : Int, 0 ≤ p → p < E.pm → h' (a + 14) p = f p) (hS : StOk E (purseS S f)) : TR h' a E (purseS S f) := by
  have fx : ∀ j : Int, h' a j = h a j := fun j => fr a j (by omega)
  refine ⟨T.tw.ext e, T.en, hS, T.te.keep fun b j q => fr b j (by omega), ⟨(fx 11).trans T.td.1.1, (fx 12).trans T.td.1.2⟩, fun c c0 c1 => ?_, hf⟩
  rw [fr (a + 11) c (by omega)]
  exact ⟨(T.co c0 c1).1, (T.co c0 c1).2.mono fun i _ _ => ⟨fr (a + 12) i (by omega), fr (a + 13) i (by omega)⟩⟩
theorem sX1_paints (T : TR h a E S) {c p : Int} (c0 : 0 ≤ c) (c1 : c < E.cm) (p0 : 0 ≤ p) (p1 : p < E.pm) (hc : E.cost ≤ S.purse p)
    (hp : ∀ h' : Mem, EX h h' → Fr (sTw a) h h' → TR h' a E (putS (costS E S p) c p) → P 0 h') : kX1_paints G l a c p h P := by
  refine eX1_paints fun X C e B => ?_
  have Kp := T.en.pm
  have Kc := T.en.cost
  have hpp := T.st.purse p p0 p1
  rw [T.td.2.2 p p0 p1, T.te.1.2.2.1, T.td.1.1]
  refine ⟨T.tw, p0, by omega, ⟨by omega, by omega⟩, fun h4 e4 => ?_⟩
  have x4 : EX h h4 := by rw [e4]; exact EX_up (EX.rf B.1.2) T.tw.k26 (by decide) rfl p0 (okI_a (Or.inl rfl) ⟨by omega, by omega⟩)
  have f4 : Fr (fun b _ => b = a + 14) h h4 := by rw [e4]; exact (Fr.rf _ _).up rfl
  have T4 : TR h4 a E (costS E S p) := T.purse (f := fu S.purse p (S.purse p - E.cost)) x4.1 f4 (fun q q0 q1 => by
    rw [e4]
    by_cases z : q = p
    · rw [z, up_s, fu_s]
    · rw [up_i z, fu_n z]; exact T.td.2.2 q q0 q1) (T.st.cost T.en hc)
  exact sX1_putsCoat T4 c0 c1 p0 p1 fun h5 e5 f5 T5 _ => hp h5 (x4.tr e5) ((f4.mono fun b j q => by unfold sTw; omega).tr f5) T5
def WI (E : En) (S S1 : St) (n : Int) : Prop := S1.now = S.now ∧ S1.bare = S.bare ∧ S1.purse = S.purse ∧ ∀ c : Int, 0 ≤ c → c < E.cm → S1.co c = if c < n then washL E S.now (S.co c) else S.co c
theorem l_washes {X : MX} {h0 : Mem} (C : Cx G X cX1_washes 2 RX1 1 0 0 none "washes") :
    ∀ (m n : Nat) (h : Mem) (S1 : St), EX h0 h → TR h a E S1 → WI E S S1 n → (n : Int) + m = E.cm → (∀ h' : Mem, EX h h' → Fr (sTw a) h h' → TR h' a E (washS E S) → P 0 h') →
    V G X 2 0 0 (QF G X 3 0 0 (PR h0 P)) 2 [(0, rf a), (1, iv (n : Int))] [] h := by
  intro m
  induction m with
  | zero =>
    intro n h S1 B T w hn hp
    have K := T.en.cm
    refine wX1_washes_L2 C ⟨B, ⟨by omega, by omega⟩⟩ ?_
    rw [T.te.1.2.2.2.2.1]
    refine ⟨T.tw, fun _ => hp h (EX.rf B.2) (Fr.rf _ _) (T.congr w.1.symm w.2.1.symm (fun c c0 c1 => ?_) fun p _ _ => ?_), fun q => absurd q (by omega)⟩
    · show (if 0 ≤ c ∧ c < E.cm then washL E S.now (S.co c) else S.co c) = _
      rw [if_pos ⟨c0, c1⟩, w.2.2.2 c c0 c1, if_pos (by omega)]
    · show S.purse p = _
      rw [w.2.2.1]
  | succ m ih =>
    intro n h S1 B T w hn hp
    have K := T.en.cm
    have inner : ∀ (l9 : Co) (h : Mem) (S1 : St), EX h0 h → TR h a E S1 → S1.now = S.now ∧ S1.bare = S.bare ∧ S1.purse = S.purse ∧ (∀ c : Int, 0 ≤ c → c < E.cm → c ≠ n → S1.co c = if c < n then washL E S.now (S.co c) else S.co c) → S1.co n = l9 → washL E S.now l9 = washL E S.now (S.co n) →
        (∀ h' : Mem, EX h h' → Fr (sTw a) h h' → TR h' a E (washS E S) → P 0 h') → V G X 2 0 0 (QF G X 3 0 0 (PR h0 P)) 10 [(0, rf a), (1, iv (n : Int))] [] h := by
      intro l9
      induction l9 with
      | nil =>
        intro h S1 B T w el ew hp
        refine wX1_washes_L10 C ⟨B, ⟨by omega, by omega⟩⟩ ⟨T.tw, sX1_isWet T (by omega) (by omega) fun e => ⟨fun q => ⟨⟨by omega, by omega⟩, fun B' => ?_⟩, fun q => absurd q (by rw [el]; simp [wetL])⟩⟩
        have := ih (n + 1) h S1 B T ⟨w.1, w.2.1, w.2.2.1, fun c c0 c1 => ?_⟩ (by omega) hp
        · rwa [show ((n + 1 : Nat) : Int) = (n : Int) + 1 by omega] at this
        · by_cases z : c = n
          · rw [z, if_pos (by omega), ← ew, el]; rfl
          · rw [w.2.2.2 c c0 c1 z]
            by_cases z2 : c < n
            · rw [if_pos z2, if_pos (by omega)]
            · rw [if_neg z2, if_neg (by omega)]
      | cons x r ihr =>
        intro h S1 B T w el ew hp
        obtain ⟨b, wn⟩ := x
        refine wX1_washes_L10 C ⟨B, ⟨by omega, by omega⟩⟩ ⟨T.tw, sX1_isWet T (by omega) (by omega) fun e => ⟨fun q => ⟨⟨by omega, by omega⟩, fun B' => ?_⟩, fun q => ?_⟩⟩
        · have hd : wn = -1 ∨ wn + E.dry ≤ S.now := by
            rw [el] at q
            by_cases z : wn = -1 ∨ wn + E.dry ≤ S1.now
            · rw [w.1] at z; exact z
            · rw [if_pos (by simp [wetL]; omega)] at q; cases q
          have := ih (n + 1) h S1 B T ⟨w.1, w.2.1, w.2.2.1, fun c c0 c1 => ?_⟩ (by omega) hp
          · rwa [show ((n + 1 : Nat) : Int) = (n : Int) + 1 by omega] at this
          · by_cases z : c = n
            · rw [z, if_pos (by omega), ← ew, el, washL, if_pos hd]
            · rw [w.2.2.2 c c0 c1 z]
              by_cases z2 : c < n
              · rw [if_pos z2, if_pos (by omega)]
              · rw [if_neg z2, if_neg (by omega)]
        · have hd : ¬ (wn = -1 ∨ wn + E.dry ≤ S.now) := fun z => by
            rw [el, if_neg (by simp [wetL, w.1]; omega)] at q; exact q rfl
          have tc := T.co (c := (n : Int)) (by omega) (by omega)
          rw [el] at tc
          have hl := (T.st.co n (by omega) (by omega)).1
          rw [el, List.length_cons] at hl
          have el2 : (((b, wn) :: r).length : Int) - 1 = (r.length : Int) := by rw [List.length_cons]; omega
          rw [tc.1, el2]
          refine ⟨by omega, by omega, ⟨by omega, by omega⟩, fun h12 e12 B' => ?_⟩
          have x12 : EX h h12 := by rw [e12]; exact EX_up e T.tw.k23 (by decide) rfl (by omega) (okI_a (Or.inl rfl) ⟨by omega, by omega⟩)
          have f12 : Fr (fun b j => b = a + 11 ∧ j = (n : Int)) h h12 := by rw [e12]; exact (Fr.rf _ _).up ⟨rfl, rfl⟩
          have T12 : TR h12 a E (dropS S1 n r) := T.cell (by omega) (by omega) x12.1 (T.st.drop (by rw [el]; exact List.suffix_cons _ _)) (fun b j _ n1 _ => f12 b j n1) (by rw [e12, up_s]) (tc.2.2.2.mono fun i i0 i1 => ⟨f12 (a + 12) i (by omega), f12 (a + 13) i (by omega)⟩)
          refine ihr h12 (dropS S1 n r) B'.1 T12 ⟨w.1, w.2.1, w.2.2.1, fun c c0 c1 z => ?_⟩ ?_ ?_ fun h' e3 f3 => hp h' (x12.tr e3) ((f12.mono fun b j q => by unfold sTw; omega).tr f3)
          · show fu S1.co n r c = _
            rw [fu_n z]; exact w.2.2.2 c c0 c1 z
          · show fu S1.co n r n = r
            rw [fu_s]
          · rw [← ew, washL, if_neg hd]
    refine wX1_washes_L2 C ⟨B, ⟨by omega, by omega⟩⟩ ?_
    rw [T.te.1.2.2.2.2.1]
    refine ⟨T.tw, fun q => absurd q (by omega), fun _ B' => ?_⟩
    have wn := w.2.2.2 n (by omega) (by omega)
    rw [if_neg (by omega)] at wn
    exact inner (S1.co n) h S1 B T ⟨w.1, w.2.1, w.2.2.1, fun c c0 c1 _ => w.2.2.2 c c0 c1⟩ rfl (by rw [wn]) hp
theorem sX1_washes (T : TR h a E S) (hp : ∀ h' : Mem, EX h h' → Fr (sTw a) h h' → TR h' a E (washS E S) → P 0 h') : kX1_washes G l a h P := by
  refine eX1_washes fun X C e B B' => ?_
  have K := T.en.cm
  exact l_washes C E.cm.toNat 0 h S B'.1 T ⟨rfl, rfl, rfl, fun c c0 c1 => by rw [if_neg (by omega)]⟩ (by omega) hp
/-- what each got: X's row -/
def XG (h : Mem) (g : Int → Int) : Prop := h 165 (-1) = 101 ∧ h 165 (-2) = 4 ∧ ∀ p : Int, 0 ≤ p → p < 4 → h 165 p = g p
theorem XG.keep {h h' : Mem} {g : Int → Int} (x : XG h g) (O : OkZ h) (e : Ext h h') (f : ∀ j : Int, h' 165 j = h 165 j) : XG h' g := by
  refine ⟨(f _).trans x.1, (f _).trans x.2.1, fun p p0 p1 => (f p).trans (x.2.2 p p0 p1)⟩
def aOk (a : Int) : Prop := a + 17 < 165 ∨ 165 < a
theorem payN_ok {E : En} (K : EnOk E) {S : St} {f g : Int → Int} (h : ∀ p : Int, 0 ≤ p → p < E.pm → 0 ≤ f p ∧ f p ≤ 999) : ∀ n : Nat, (n : Int) ≤ E.tm → ∀ p : Int, 0 ≤ p → p < E.pm → 0 ≤ (payN E S (f, g) n).1 p ∧ (payN E S (f, g) n).1 p ≤ 999
  | 0, _ => h
  | n + 1, hn => fun p p0 p1 => by
    have ih := payN_ok K (S := S) (g := g) h n (by omega)
    rw [payN]
    split
    · exact ih p p0 p1
    · next q =>
      have r := (whoF_rng K S (t := n) (by omega) (by omega)).resolve_left q
      show 0 ≤ fu _ _ _ p ∧ fu _ _ _ p ≤ 999
      by_cases z : p = whoF E S n
      · rw [z, fu_s]
        have := ih _ r.1 r.2
        have := K.rent n (by omega) (by omega)
        omega
      · rw [fu_n z]; exact ih p p0 p1
theorem l_paysRents (ha : aOk a) {g f : Int → Int} {X : MX} {h0 : Mem} (C : Cx G X cX1_paysRents 4 RX1 3 0 0 none "paysRents") (K : EnOk E) :
    ∀ (m n : Nat) (h : Mem), EX h0 h → TR h a E (purseS S (payN E S (S.purse, g) n).1) → XG h (payN E S (S.purse, g) n).2 → (n : Int) + m = E.tm → (∀ h' : Mem, EX h h' → Fr (sTg a) h h' → TR h' a E (purseS S (payN E S (S.purse, g) E.tm.toNat).1) → XG h' (payN E S (S.purse, g) E.tm.toNat).2 → P 0 h') →
    V G X 4 0 0 (QF G X 3 0 0 (PR h0 P)) 2 [(0, rf a), (1, rf 165), (2, iv (n : Int))] [] h := by
  intro m
  have Kt := K.tm
  have Kp := K.pm
  induction m with
  | zero =>
    intro n h B T xg hn hp
    refine wX1_paysRents_L2 C ⟨B, ⟨by omega, by omega⟩⟩ ?_
    rw [T.te.1.2.2.2.1]
    refine ⟨T.tw, fun _ => hp h (EX.rf B.2) (Fr.rf _ _) ?_ ?_, fun q => absurd q (by omega)⟩
    · rw [show E.tm.toNat = n by omega]; exact T
    · rw [show E.tm.toNat = n by omega]; exact xg
  | succ m ih =>
    intro n h B T xg hn hp
    have r1 : R32 ((n : Int) + 1) := ⟨by omega, by omega⟩
    have Kr := K.rent n (by omega) (by omega)
    refine wX1_paysRents_L2 C ⟨B, ⟨by omega, by omega⟩⟩ ?_
    rw [T.te.1.2.2.2.1]
    refine ⟨T.tw, fun q => absurd q (by omega), fun _ => sX1_whose T (by omega) (by omega) fun h3 e3 f3 _ => ?_⟩
    have T3 := T.ow e3.1 f3
    have xg3 : XG h3 (payN E S (S.purse, g) n).2 := xg.keep B.2 e3.1 fun j => f3 165 j (by unfold sOw; unfold aOk at ha; omega)
    have ew : whoF E (purseS S (payN E S (S.purse, g) n).1) n = whoF E S n := rfl
    rw [ew]
    have nx : payN E S (S.purse, g) (n + 1) = if whoF E S n = -1 then payN E S (S.purse, g) n else (fu (payN E S (S.purse, g) n).1 (whoF E S n) (min 999 ((payN E S (S.purse, g) n).1 (whoF E S n) + E.rent n)), fu (payN E S (S.purse, g) n).2 (whoF E S n) (w32 ((payN E S (S.purse, g) n).2 (whoF E S n) + E.rent n))) := rfl
    refine ⟨fun q => ?_, fun q => ⟨r1, fun B' => ?_⟩⟩
    · have r := (whoF_rng K S (t := n) (by omega) (by omega)).resolve_left q
      obtain ⟨o, eo⟩ : ∃ z : Int, z = whoF E S n := ⟨_, rfl⟩
      rw [if_neg q] at nx
      rw [← eo] at q r nx ⊢
      have hpu := T3.st.purse o r.1 r.2
      have tp := T3.td.2.2 o r.1 r.2
      have tpe : (purseS S (payN E S (S.purse, g) n).1).purse o = (payN E S (S.purse, g) n).1 o := rfl
      rw [tpe] at hpu tp
      rw [tp, (T3.te.2.1 n (by omega) (by omega)).2.2]
      refine ⟨r.1, by omega, by omega, by omega, ⟨by omega, by omega⟩, fun h14 e14 => ?_⟩
      have x14 : EX h3 h14 := by rw [e14]; exact EX_up (EX.rf e3.2) T3.tw.k26 (by decide) rfl r.1 (okI_a (Or.inl rfl) ⟨by omega, by omega⟩)
      have f14 : Fr (fun b _ => b = a + 14) h3 h14 := by rw [e14]; exact (Fr.rf _ _).up rfl
      have xg14 : XG h14 (payN E S (S.purse, g) n).2 := xg3.keep e3.2 x14.1 fun j => f14 165 j (by unfold aOk at ha; omega)
      refine ⟨xg14.1, by rw [xg14.2.1]; omega, fun h19 e19 => ⟨r1, fun B' => ?_⟩⟩
      rw [xg14.2.2 o r.1 (by omega)] at e19
      have x19 : EX h14 h19 := by rw [e19]; exact EX_up (EX.rf x14.2) xg14.1 (by decide) rfl r.1 (okI_a (Or.inl rfl) (w32_R _))
      have f19 : Fr (fun b _ => b = 165) h14 h19 := by rw [e19]; exact (Fr.rf _ _).up rfl
      have hSn : StOk E (purseS S (payN E S (S.purse, g) (n + 1)).1) := by
        refine StOk.mk T.st.now T.st.bare T.st.co fun p p0 p1 => ?_
        show 0 ≤ (payN E S (S.purse, g) (n + 1)).1 p ∧ (payN E S (S.purse, g) (n + 1)).1 p ≤ 999
        rw [nx]
        show 0 ≤ fu _ _ _ p ∧ fu _ _ _ p ≤ 999
        by_cases z : p = o
        · rw [z, fu_s]; omega
        · rw [fu_n z]; exact T.st.purse p p0 p1
      have T14 : TR h14 a E (purseS S (payN E S (S.purse, g) (n + 1)).1) := by
        refine (T3.purse (f := (payN E S (S.purse, g) (n + 1)).1) x14.1 f14 (fun p p0 p1 => ?_) hSn : TR h14 a E (purseS (purseS S (payN E S (S.purse, g) n).1) (payN E S (S.purse, g) (n + 1)).1))
        rw [e14, nx]
        show _ = fu _ _ _ p
        by_cases z : p = o
        · rw [z, up_s, fu_s]
        · rw [up_i z, fu_n z]; exact T3.td.2.2 p p0 p1
      have T19 : TR h19 a E (purseS S (payN E S (S.purse, g) (n + 1)).1) := T14.keep x19.1 fun b j q => f19 b j (by unfold tIn at q; unfold aOk at ha; omega)
      have XG19 : XG h19 (payN E S (S.purse, g) (n + 1)).2 := by
        refine ⟨by rw [e19, up_i (by omega)]; exact xg14.1, by rw [e19, up_i (by omega)]; exact xg14.2.1, fun p p0 p1 => ?_⟩
        rw [e19, nx]
        show _ = fu _ _ _ p
        by_cases z : p = o
        · rw [z, up_s, fu_s]
        · rw [up_i z, fu_n z]; exact xg14.2.2 p p0 p1
      have := ih (n + 1) h19 B'.1 T19 XG19 (by omega) fun h' e4 f4 => hp h' (((e3.tr x14).tr x19).tr e4) (((f3.owt.gt.tr (f14.mono fun b j q => by unfold sTg sTw; omega)).tr (f19.mono fun b j q => by unfold sTg; omega)).tr f4)
      rwa [show ((n + 1 : Nat) : Int) = (n : Int) + 1 by omega] at this
    · rw [if_pos q] at nx
      have := ih (n + 1) h3 B'.1 (by rw [nx]; exact T3) (by rw [nx]; exact xg3) (by omega) fun h' e4 f4 => hp h' (e3.tr e4) (f3.owt.gt.tr f4)
      rwa [show ((n + 1 : Nat) : Int) = (n : Int) + 1 by omega] at this
end
