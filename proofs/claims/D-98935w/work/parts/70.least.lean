/-! least -/
set_option maxRecDepth 100000
def putsN (E : En) (S : St) (p t s : Int) : Nat → St
  | 0 => S
  | n + 1 => if hs s n then putS (putsN E S p t s n) (E.first t + n) p else putsN E S p t s n
def sizeT (E : En) (t : Int) : Int := E.first (t + 1) - E.first t
def theirsF (E : En) (S : St) (p t n s : Int) : Bool := decide (whoF E (closesN E (putsN E S p t s (sizeT E t).toNat) (fun _ => 0) n.toNat).1 t = p)
theorem closesN_1 (E : En) (S : St) (g g' : Int → Int) : ∀ n : Nat, (closesN E S g n).1 = (closesN E S g' n).1
  | 0 => rfl
  | n + 1 => by rw [closesN, closesN, closesN_1 E S g g' n]
theorem putsN_now (E : En) (S : St) (p t s : Int) : ∀ n : Nat, (putsN E S p t s n).now = S.now
  | 0 => rfl
  | n + 1 => by
    rw [putsN]
    split
    · exact putsN_now E S p t s n
    · exact putsN_now E S p t s n
/-- the best of the first k sets: -2 for none -/
def leastN (q : Int → Bool) : Nat → Int
  | 0 => -2
  | k + 1 => if (leastN q k = -2 ∨ bitsF k < bitsF (leastN q k)) ∧ q k = true then (k : Int) else leastN q k
theorem leastN_yes {q : Int → Bool} {k : Nat} (h : (leastN q k = -2 ∨ bitsF k < bitsF (leastN q k)) ∧ q k = true) : leastN q (k + 1) = k := if_pos h
theorem leastN_no {q : Int → Bool} {k : Nat} (h : ¬ ((leastN q k = -2 ∨ bitsF k < bitsF (leastN q k)) ∧ q k = true)) : leastN q (k + 1) = leastN q k := if_neg h
theorem leastN_rng (q : Int → Bool) : ∀ k : Nat, leastN q k = -2 ∨ 0 ≤ leastN q k ∧ leastN q k < k
  | 0 => Or.inl rfl
  | k + 1 => by
    have ih := leastN_rng q k
    rw [leastN]
    split
    · exact Or.inr ⟨by omega, by omega⟩
    · omega
abbrev leastOk (T : Tn) (p t n w : Int) : Prop := (0 ≤ p ∧ p < T.en.pm) ∧ (0 ≤ t ∧ t < T.en.tm) ∧ (¬ hs T.st.bare t) ∧ (0 ≤ n ∧ n ≤ 60) ∧ (0 ≤ w ∧ w ≤ 1)
def leastR (b w : Int) : Int := if b = -2 then -2 else if w = 0 then bitsF b else b
def aLeast (Z : Zt) (p t n w : Int) : Int := match Z.s with
  | none => -1
  | some T => if leastOk T p t n w then leastR (leastN (theirsF T.en T.st p t n) (2 ^ (sizeT T.en t).toNat)) w else -1
theorem aLeast_no {Z : Zt} {p t n w : Int} (q : ∀ T : Tn, Z.s = some T → ¬ leastOk T p t n w) : aLeast Z p t n w = -1 := by
  unfold aLeast
  cases es : Z.s with
  | none => rfl
  | some T => exact if_neg (q T es)
theorem shl_ok : ∀ k : Nat, k < 7 → bShl 1 (k : Int) = ((2 ^ k : Nat) : Int) := by decide +kernel
theorem pow_le : ∀ k : Nat, k < 7 → 2 ^ k ≤ 64 := by decide
section
variable {G : GT} {h : Mem} {Z : Zt} {T : Tn} {P : Int → Mem → Prop} {l : Launch} {E : En} {S S0 : St}
theorem sX0_isTheirsBy (A : XS h) (t2 : h 1 0 = 2) (q : TR h 2 E S) (q20 : TR h 20 E S0) (n9 : S.now ≤ 999) {p t n s : Int} (p0 : 0 ≤ p) (p1 : p < E.pm) (t0 : 0 ≤ t) (t1 : t < E.tm) (hn : 0 ≤ n ∧ n ≤ 60)
    (hp : ∀ h' : Mem, EX h h' → Fr sQx h h' → (∃ S1 : St, TR h' 20 E S1) → P (if theirsF E S p t n s = true then 1 else 0) h') : kX0_isTheirsBy G l p t n s h P := by
  refine eX0_isTheirsBy fun X C e9 B => ⟨A, t2, sX1_standTR q20 q (Or.inr (by decide)) fun h1 e1 f1 T1 _ => ⟨rfl, fun B' => ?_⟩⟩
  have K := q.en
  have sz := K.fs t t0 t1
  have rg := K.rng t0 t1
  have Kt := K.tm
  have Kc := K.cm
  have n0 := q.st.now.1
  obtain ⟨B1, Rp, Rt, Rn, Rs, _⟩ := B'
  have f1q : Fr sQx h h1 := f1.mono fun b j z => by unfold sSd at z; unfold sQx; omega
  -- the hours
  have hours : ∀ (m k : Nat) (h2 : Mem) (g : Int → Int) (S2 : St), (k : Int) + m = n → EX h h2 → Fr sQx h h2 → XS h2 → S2 = putsN E S p t s (sizeT E t).toNat → TR h2 20 E (closesN E S2 g k).1 → XG h2 (closesN E S2 g k).2 → V G X 7 0 0 (QF G X 0 0 0 (PZ h P)) 68 [(0, rf 1), (1, iv p), (2, iv t), (3, iv n), (5, rf 20), (6, iv (k : Int))] [] h2 := by
    intro m
    induction m with
    | zero =>
      intro k h2 g S2 hk e2 f2 A2 es T2 xg
      refine wX0_isTheirsBy_L68 C ⟨e2, Rp, Rt, Rn, ⟨by omega, by omega⟩⟩ ⟨A2, fun _ => sX1_whose T2 t0 t1 fun h3 e3 f3 _ => ?_, fun z => absurd z (by omega)⟩
      have := hp h3 (e2.tr e3) (f2.tr f3.owq) ⟨_, T2.ow e3.1 f3⟩
      unfold theirsF at this
      rw [← es, closesN_1 E S2 (fun _ => 0) g, show n.toNat = k by omega] at this
      refine ⟨fun z => ?_, fun z => ?_⟩
      · rw [if_neg (by simpa using z)] at this; exact this
      · rw [if_pos (by simpa using z)] at this; exact this
    | succ m ih =>
      intro k h2 g S2 hk e2 f2 A2 es T2 xg
      have nw := closesN_now E S2 g k
      have n2 : S2.now = S.now := by rw [es]; exact putsN_now E S p t s _
      refine wX0_isTheirsBy_L68 C ⟨e2, Rp, Rt, Rn, ⟨by omega, by omega⟩⟩ ⟨A2, fun z => absurd z (by omega), fun _ => sX1_closes (Or.inl (by decide)) T2 xg (by omega) fun h3 e3 f3 T3 x3 _ => ⟨⟨by omega, by omega⟩, fun _ => ?_⟩⟩
      have := ih (k + 1) h3 g S2 (by omega) (e2.tr e3) (f2.tr f3.tgq) (A2.ext e3.1) es T3 x3
      rwa [show ((k + 1 : Nat) : Int) = (k : Int) + 1 by omega] at this
  have puts : ∀ (m k : Nat) (h2 : Mem), (k : Int) + m = sizeT E t → EX h h2 → Fr sQx h h2 → XS h2 → TR h2 20 E (putsN E S p t s k) → V G X 7 0 0 (QF G X 0 0 0 (PZ h P)) 16 [(0, rf 1), (1, iv p), (2, iv t), (3, iv n), (4, iv s), (5, rf 20), (6, iv (k : Int))] [] h2 := by
    have sd : sizeT E t = E.first (t + 1) - E.first t := rfl
    intro m
    induction m with
    | zero =>
      intro k h2 hk e2 f2 A2 T2
      refine wX0_isTheirsBy_L16 C ⟨e2, Rp, Rt, Rn, Rs, ⟨by omega, by omega⟩⟩ ⟨A2, t0, by omega, ?_⟩
      rw [show h2 22 t = sizeT E t from (T2.te.2.1 t t0 t1).2.1]
      refine ⟨fun _ _ => ?_, fun z => absurd z (by omega)⟩
      exact hours n.toNat 0 h2 (fun q => h2 165 q) (putsN E S p t s (sizeT E t).toNat) (by omega) e2 f2 A2 rfl (by rw [show (sizeT E t).toNat = k by omega]; exact T2) (A2.got fun _ _ _ => rfl)
    | succ m ih =>
      intro k h2 hk e2 f2 A2 T2
      refine wX0_isTheirsBy_L16 C ⟨e2, Rp, Rt, Rn, Rs, ⟨by omega, by omega⟩⟩ ⟨A2, t0, by omega, ?_⟩
      rw [show h2 22 t = sizeT E t from (T2.te.2.1 t t0 t1).2.1]
      refine ⟨fun z => absurd z (by omega), fun _ => sX0_has fun _ => ?_⟩
      rw [show h2 21 t = E.first t from (T2.te.2.1 t t0 t1).1, show h2 20 11 = (putsN E S p t s k).now from T2.td.1.1]
      refine ⟨fun z => ⟨⟨by omega, by omega⟩, fun _ => ?_⟩, fun z => ⟨⟨by omega, by omega⟩, ?_⟩⟩
      · have no : ¬ hs s k := fun y => by rw [if_pos y] at z; cases z
        have := ih (k + 1) h2 (by omega) e2 f2 A2 (by rw [putsN, if_neg no]; exact T2)
        rwa [show ((k + 1 : Nat) : Int) = (k : Int) + 1 by omega] at this
      · have yes : hs s k := Classical.byContradiction fun y => by rw [if_neg y] at z; exact z rfl
        refine sX1_putsCoat T2 (by omega) (by omega) p0 p1 fun h3 e3 f3 T3 _ => ⟨⟨by omega, by omega⟩, fun _ => ?_⟩
        have := ih (k + 1) h3 (by omega) (e2.tr e3) (f2.tr f3.gt.tgq) (A2.ext e3.1) (by rw [putsN, if_pos yes]; exact T3)
        rwa [show ((k + 1 : Nat) : Int) = (k : Int) + 1 by omega] at this
  exact puts (sizeT E t).toNat 0 h1 (by unfold sizeT; omega) B1 f1q (A.ext e1.1) T1
theorem l_least (n9 : S.now ≤ 999) {p t n w : Int} (K : EnOk E) (p0 : 0 ≤ p) (p1 : p < E.pm) (t0 : 0 ≤ t) (t1 : t < E.tm) (hn : 0 ≤ n ∧ n ≤ 60) (hw : 0 ≤ w ∧ w ≤ 1) {X : MX} {h0 : Mem} (C : Cx G X cX0_least 7 RX0 6 0 0 (some .int) "least") :
    ∀ (m k : Nat) (h : Mem) (S0 : St), k + m = 2 ^ (sizeT E t).toNat → EX h0 h → XS h → h 1 0 = 2 → TR h 2 E S → TR h 20 E S0 → (∀ h' : Mem, EX h h' → Fr sQx h h' → P (leastR (leastN (theirsF E S p t n) (2 ^ (sizeT E t).toNat)) w) h') →
    V G X 7 0 0 (QF G X 0 0 0 (PI h0 P)) 73 [(0, rf 1), (1, iv p), (2, iv t), (3, iv n), (4, iv w), (5, iv (if leastN (theirsF E S p t n) k = -2 then -1 else leastN (theirsF E S p t n) k)), (6, iv (k : Int))] [] h := by
  have sz := K.fs t t0 t1
  have Kt := K.tm
  have Kp := K.pm
  have sd : sizeT E t = E.first (t + 1) - E.first t := rfl
  have p64 := pow_le (sizeT E t).toNat (by omega)
  have sh := shl_ok (sizeT E t).toNat (by omega)
  rw [show (((sizeT E t).toNat : Nat) : Int) = sizeT E t by omega] at sh
  have bx : ∀ k : Nat, leastN (theirsF E S p t n) k = -2 ∧ (if leastN (theirsF E S p t n) k = -2 then -1 else leastN (theirsF E S p t n) k) = -1 ∨ (0 ≤ leastN (theirsF E S p t n) k ∧ leastN (theirsF E S p t n) k < k) ∧ (if leastN (theirsF E S p t n) k = -2 then -1 else leastN (theirsF E S p t n) k) = leastN (theirsF E S p t n) k := fun k => by
    rcases leastN_rng (theirsF E S p t n) k with z | z
    · exact Or.inl ⟨z, if_pos z⟩
    · exact Or.inr ⟨z, if_neg (by omega)⟩
  intro m
  induction m with
  | zero =>
    intro k h S0 hk B A t2 q q20 hp
    have b := bx k
    refine wX0_least_L73 C ⟨B, ⟨by omega, by omega⟩, ⟨by omega, by omega⟩, ⟨by omega, by omega⟩, ⟨by omega, by omega⟩, ⟨by omega, by omega⟩, ⟨by omega, by omega⟩⟩ ⟨A, t2, t0, by omega, ?_⟩
    rw [show h 4 t = sizeT E t from (q.te.2.1 t t0 t1).2.1, sh]
    have hp0 := hp h (EX.rf B.2) (Fr.rf _ _)
    rw [show 2 ^ (sizeT E t).toNat = k by omega] at hp0
    unfold leastR at hp0
    refine ⟨fun _ => ⟨fun n1 => ⟨fun w0 => ?_, fun w0 => ?_⟩, fun n1 => ?_⟩, fun z => absurd z (by omega)⟩
    · rcases b with ⟨b1, b2⟩ | ⟨b1, b2⟩
      · exact absurd b2 n1
      · rw [b2]; rw [if_neg (by omega), if_neg w0] at hp0; exact hp0
    · rcases b with ⟨b1, b2⟩ | ⟨b1, b2⟩
      · exact absurd b2 n1
      · rw [b2]; rw [if_neg (by omega), if_pos w0] at hp0; exact sX_bitCount b1.1 (by omega) fun _ => hp0
    · rcases b with ⟨b1, b2⟩ | ⟨b1, b2⟩
      · rw [if_pos b1] at hp0; exact hp0
      · omega
  | succ m ih =>
    intro k h S0 hk B A t2 q q20 hp
    have b := bx k
    refine wX0_least_L73 C ⟨B, ⟨by omega, by omega⟩, ⟨by omega, by omega⟩, ⟨by omega, by omega⟩, ⟨by omega, by omega⟩, ⟨by omega, by omega⟩, ⟨by omega, by omega⟩⟩ ⟨A, t2, t0, by omega, ?_⟩
    rw [show h 4 t = sizeT E t from (q.te.2.1 t t0 t1).2.1, sh]
    have go : ∀ (h3 : Mem) (S3 : St) (v : Int), EX h h3 → Fr sQx h h3 → TR h3 20 E S3 → EX h0 h3 → v = (if leastN (theirsF E S p t n) (k + 1) = -2 then -1 else leastN (theirsF E S p t n) (k + 1)) → V G X 7 0 0 (QF G X 0 0 0 (PI h0 P)) 73 [(0, rf 1), (1, iv p), (2, iv t), (3, iv n), (4, iv w), (5, iv v), (6, iv ((k : Int) + 1))] [] h3 := fun h3 S3 v e3 f3 q3 b3 ev => by
      have := ih (k + 1) h3 S3 (by omega) b3 (A.ext e3.1) ((f3 1 0 (by unfold sQx; omega)).trans t2) (q.keep e3.1 fun b j z => f3 b j (by unfold tIn at z; unfold sQx; omega)) q3 fun h' e' f' => hp h' (e3.tr e') (f3.tr f')
      rw [ev]
      rwa [show ((k + 1 : Nat) : Int) = (k : Int) + 1 by omega] at this
    have both : (leastN (theirsF E S p t n) k = -2 ∨ bitsF k < bitsF (leastN (theirsF E S p t n) k)) → kX0_isTheirsBy G X.2.1 p t n k h (fun r14 h15 => EX h h15 → ((r14 = 0 → R32 ((k : Int) + 1) ∧ (EX h0 h15 ∧ R32 p ∧ R32 t ∧ R32 n ∧ R32 w ∧ R32 (if leastN (theirsF E S p t n) k = -2 then -1 else leastN (theirsF E S p t n) k) ∧ R32 ((k : Int) + 1) → V G X 7 0 0 (QF G X 0 0 0 (PI h0 P)) 73 [(0, rf 1), (1, iv p), (2, iv t), (3, iv n), (4, iv w), (5, iv (if leastN (theirsF E S p t n) k = -2 then -1 else leastN (theirsF E S p t n) k)), (6, iv ((k : Int) + 1))] [] h15)) ∧ (r14 ≠ 0 → R32 ((k : Int) + 1) ∧ (EX h0 h15 ∧ R32 p ∧ R32 t ∧ R32 n ∧ R32 w ∧ R32 (k : Int) ∧ R32 ((k : Int) + 1) → V G X 7 0 0 (QF G X 0 0 0 (PI h0 P)) 73 [(0, rf 1), (1, iv p), (2, iv t), (3, iv n), (4, iv w), (5, iv (k : Int)), (6, iv ((k : Int) + 1))] [] h15)))) := fun c => by
      refine sX0_isTheirsBy A t2 q q20 n9 p0 p1 t0 t1 hn fun h3 e3 f3 q3 _ => ?_
      obtain ⟨S3, q3⟩ := q3
      refine ⟨fun z => ⟨⟨by omega, by omega⟩, fun B' => go h3 S3 _ e3 f3 q3 B'.1 ?_⟩, fun z => ⟨⟨by omega, by omega⟩, fun B' => go h3 S3 _ e3 f3 q3 B'.1 ?_⟩⟩
      · have no : ¬ theirsF E S p t n k = true := fun y => by rw [if_pos y] at z; cases z
        rw [leastN_no fun y => no y.2]
      · have yes : theirsF E S p t n k = true := Classical.byContradiction fun y => by rw [if_neg y] at z; exact z rfl
        rw [leastN_yes ⟨c, yes⟩, if_neg (by omega)]
    refine ⟨fun z => absurd z (by omega), fun _ => ⟨fun n1 => both ?_, fun n1 => ?_⟩⟩
    · rcases b with ⟨b1, b2⟩ | ⟨b1, b2⟩
      · exact Or.inl b1
      · omega
    · rcases b with ⟨b1, b2⟩ | ⟨b1, b2⟩
      · exact absurd b2 n1
      · refine sX_bitCount (by omega) (by omega) fun _ => ?_
        rw [b2]
        refine sX_bitCount b1.1 (by omega) fun _ => ⟨fun c => ?_, fun c => ⟨⟨by omega, by omega⟩, fun B' => ?_⟩⟩
        · have := both (Or.inr c)
          rw [b2] at this
          exact this
        · refine go h S0 _ (EX.rf B.2) (Fr.rf _ _) q20 B'.1 ?_
          rw [leastN_no fun y => by rcases y.1 with y1 | y1 <;> omega]
          exact b2.symm
theorem oX_least (I : IX h Z) {p t n w : Int} (hp : ∀ h' : Mem, EX h h' → Fr sQx h h' → P (aLeast Z p t n w) h') : kX0_least G l p t n w h P := by
  have bad : (∀ T : Tn, Z.s = some T → ¬ leastOk T p t n w) → P (-1) h := fun q => by
    have hp0 := hp h (EX.rf I.oz) (Fr.rf _ _)
    rw [aLeast_no q] at hp0; exact hp0
  refine eX0_least fun X C e9 B => ⟨I.xs, I.isPainter fun _ => ?_⟩
  by_cases hq : 0 ≤ p ∧ p < pmO Z.s
  · rw [if_pos hq]
    refine ⟨fun z => (by cases z), fun _ => I.isThing fun _ => ?_⟩
    by_cases ht : 0 ≤ t ∧ t < tmO Z.s
    · obtain ⟨T, es, t0, t1⟩ := tmO_s ht
      rw [if_pos ht]
      rw [es] at hq
      have hq : 0 ≤ p ∧ p < T.en.pm := hq
      obtain ⟨t2, tx⟩ := I.tn es
      rw [show h 2 12 = T.st.bare from tx.tr.td.1.2]
      refine ⟨fun z => (by cases z), fun _ => ⟨t2, sX0_has fun _ => ?_⟩⟩
      by_cases hb : hs T.st.bare t
      · rw [if_pos hb]
        exact ⟨fun _ => bad fun T' es' o => by rw [es] at es'; cases es'; exact o.2.2.1 hb, fun z => (by cases z)⟩
      · rw [if_neg hb]
        refine ⟨fun z => absurd rfl z, fun _ => sX0_in fun _ => ?_⟩
        by_cases hn : 0 ≤ n ∧ n ≤ 60
        · rw [if_pos hn]
          refine ⟨fun z => (by cases z), fun _ => sX0_in fun _ => ?_⟩
          by_cases hw : 0 ≤ w ∧ w ≤ 1
          · rw [if_pos hw]
            refine ⟨fun _ => ⟨t2, sX1_copyTR I.xs.t20 tx.tr (Or.inr (by decide)) fun h1 e1 f1 T1 _ => ⟨rfl, fun B' => ?_⟩⟩, fun z => (by cases z)⟩
            have I1 := I.q e1 f1.cpq
            obtain ⟨t21, tx1⟩ := I1.tn es
            have ea : aLeast Z p t n w = leastR (leastN (theirsF T.en T.st p t n) (2 ^ (sizeT T.en t).toNat)) w := by unfold aLeast; rw [es]; exact if_pos ⟨hq, ⟨t0, t1⟩, hb, hn, hw⟩
            rw [ea] at hp
            exact l_least tx.ok.now tx.tr.en hq.1 hq.2 t0 t1 hn hw C (2 ^ (sizeT T.en t).toNat) 0 h1 T.st (by omega) B'.1 I1.xs t21 tx1.tr T1 fun h' e' f' => hp h' (e1.tr e') (f1.cpq.tr f')
          · rw [if_neg hw]
            exact ⟨fun z => absurd rfl z, fun _ => bad fun T' es' o => hw o.2.2.2.2⟩
        · rw [if_neg hn]
          exact ⟨fun _ => bad fun T' es' o => hn o.2.2.2.1, fun z => absurd rfl z⟩
    · rw [if_neg ht]
      exact ⟨fun _ => bad fun T' es' o => by rw [es'] at ht; exact ht o.2.1, fun z => absurd rfl z⟩
  · rw [if_neg hq]
    exact ⟨fun _ => bad fun T' es' o => by rw [es'] at hq; exact hq o.1, fun z => absurd rfl z⟩
/-! the model's side -/
theorem QM.mr {hb h' : Mem} (f : QM hb h') (T : MR hb E S) (e : Ext hb h') : MR h' E S := T.back e f.2 fun b j z => f.1 b j (by unfold sQm; omega)
theorem Wf.mr {hb h1 h' : Mem} (w : Wf hb h1) (f : QM hb h') (b : Fr sBk h1 h') : Wf hb h' := ⟨f.1, w.2.keep fun j => b 224 j (by unfold sBk; omega)⟩
theorem sX3_isTheirsBehind {hb : Mem} (eb : EX hb h) (wb : Wf hb h) (Tb : MR hb E S) (q : MR h E S) (n9 : S.now ≤ 999) {p t n s : Int} (p0 : 0 ≤ p) (p1 : p < E.pm) (t0 : 0 ≤ t) (t1 : t < E.tm) (hn : 0 ≤ n ∧ n ≤ 60)
    (hp : ∀ h' : Mem, EX h h' → QM hb h' → Wf hb h' → MR h' E S → P (if theirsF E S p t n s = true then 1 else 0) h') : kX3_isTheirsBehind G l p t s n h P := by
  refine eX3_isTheirsBehind fun X C e9 B B' => ?_
  have K := q.en
  have sz := K.fs t t0 t1
  have rg := K.rng t0 t1
  have Kt := K.tm
  have Kc := K.cm
  have n0 := q.st.now.1
  obtain ⟨B1, Rp, Rt, Rs, Rn, _⟩ := B'
  have sd : sizeT E t = E.first (t + 1) - E.first t := rfl
  have puts : ∀ (m k : Nat) (h2 : Mem), (k : Int) + m = sizeT E t → EX h h2 → Wf hb h2 → MR h2 E (putsN E S p t s k) → V G X 6 0 0 (QF G X 0 0 0 (PZ h P)) 3 [(0, rf 177), (1, iv p), (2, iv t), (3, iv s), (4, iv n), (5, iv (k : Int))] [] h2 := by
    intro m
    induction m with
    | zero =>
      intro k h2 hk e2 w2 T2
      have pn := putsN_now E S p t s k
      refine wX3_isTheirsBehind_L3 C ⟨e2, Rp, Rt, Rs, Rn, ⟨by omega, by omega⟩⟩ ⟨T2.ms, sX3_cellsIn T2 t0 t1 fun _ => ⟨fun _ => ?_, fun z => absurd z (by omega)⟩⟩
      refine sX3_idles (g := fun i => h2 215 i) T2 (fun _ _ _ => rfl) hn.1 (by omega) fun h3 e3 f3 T3 _ _ => sX3_thingOwner T3 t0 t1 fun h4 e4 f4 _ => ?_
      have w4 := (w2.ms f3).cn f4
      have T4 := T3.cn e4.1 f4
      have fin : ∀ v : Int, v = (if theirsF E S p t n s = true then 1 else 0) → kX3_laysBack G X.2.1 h4 (fun _ h5 => EX h4 h5 → P v h5) := fun v ev => by
        refine w4.back T4.ms fun h5 e5 f5 b5 _ => ?_
        have e05 := ((e2.tr e3).tr e4).tr e5
        rw [ev]
        exact hp h5 e05 f5 (w4.mr f5 b5) (f5.mr Tb (eb.1.tr e05.1))
      have ev : theirsF E S p t n s = decide (whoF E (closesN E (putsN E S p t s k) (fun i => h2 215 i) n.toNat).1 t = p) := by
        unfold theirsF
        rw [show (sizeT E t).toNat = k by omega, closesN_1 E _ (fun _ => 0) (fun i => h2 215 i)]
      refine ⟨fun z => fin 0 ?_, fun z => fin 1 ?_⟩
      · rw [ev, if_neg (by simpa using z)]
      · rw [ev, if_pos (by simpa using z)]
    | succ m ih =>
      intro k h2 hk e2 w2 T2
      refine wX3_isTheirsBehind_L3 C ⟨e2, Rp, Rt, Rs, Rn, ⟨by omega, by omega⟩⟩ ⟨T2.ms, sX3_cellsIn T2 t0 t1 fun _ => ⟨fun z => absurd z (by omega), fun _ => sX3_has fun _ => ?_⟩⟩
      rw [T2.te.2.1 t t0 (by omega)]
      refine ⟨fun z => ⟨⟨by omega, by omega⟩, fun _ => ?_⟩, fun z => ⟨t0, by omega, ⟨by omega, by omega⟩, ?_⟩⟩
      · have no : ¬ hs s k := fun y => by rw [if_pos y] at z; cases z
        have := ih (k + 1) h2 (by omega) e2 w2 (by rw [putsN, if_neg no]; exact T2)
        rwa [show ((k + 1 : Nat) : Int) = (k : Int) + 1 by omega] at this
      · have yes : hs s k := Classical.byContradiction fun y => by rw [if_neg y] at z; exact z rfl
        refine sX3_paints T2 (by omega) (by omega) p0 p1 fun h3 e3 f3 T3 _ => ⟨⟨by omega, by omega⟩, fun _ => ?_⟩
        have := ih (k + 1) h3 (by omega) (e2.tr e3) (w2.m1 f3) (by rw [putsN, if_pos yes]; exact T3)
        rwa [show ((k + 1 : Nat) : Int) = (k : Int) + 1 by omega] at this
  exact puts (sizeT E t).toNat 0 h (by omega) B1 wb q
theorem l_least3 {hb : Mem} (n9 : S.now ≤ 999) {p t n w : Int} (K : EnOk E) (p0 : 0 ≤ p) (p1 : p < E.pm) (t0 : 0 ≤ t) (t1 : t < E.tm) (hn : 0 ≤ n ∧ n ≤ 60) (hw : 0 ≤ w ∧ w ≤ 1) (Tb : MR hb E S) {X : MX} {h0 : Mem} (C : Cx G X cX3_least 7 RX3 7 0 0 (some .int) "least") :
    ∀ (m k : Nat) (h : Mem), k + m = 2 ^ (sizeT E t).toNat → EX h0 h → EX hb h → Wf hb h → MR h E S → QM hb h → (∀ h' : Mem, EX hb h' → QM hb h' → P (leastR (leastN (theirsF E S p t n) (2 ^ (sizeT E t).toNat)) w) h') →
    V G X 7 0 0 (QF G X 0 0 0 (PI h0 P)) 60 [(0, rf 177), (1, iv p), (2, iv t), (3, iv n), (4, iv w), (5, iv (leastN (theirsF E S p t n) k)), (6, iv (k : Int))] [] h := by
  have sz := K.fs t t0 t1
  have Kt := K.tm
  have Kp := K.pm
  have sd : sizeT E t = E.first (t + 1) - E.first t := rfl
  have p64 := pow_le (sizeT E t).toNat (by omega)
  have sh := shl_ok (sizeT E t).toNat (by omega)
  rw [show (((sizeT E t).toNat : Nat) : Int) = sizeT E t by omega] at sh
  intro m
  induction m with
  | zero =>
    intro k h hk B eb wb q qm hp
    have b := leastN_rng (theirsF E S p t n) k
    refine wX3_least_L60 C ⟨B, ⟨by omega, by omega⟩, ⟨by omega, by omega⟩, ⟨by omega, by omega⟩, ⟨by omega, by omega⟩, ⟨by omega, by omega⟩, ⟨by omega, by omega⟩⟩ ⟨q.ms, sX3_cellsIn q t0 t1 fun _ => ?_⟩
    rw [← sd, sh]
    have hp0 := hp h eb qm
    rw [show 2 ^ (sizeT E t).toNat = k by omega] at hp0
    unfold leastR at hp0
    refine ⟨fun _ => ⟨fun n1 => ?_, fun n1 => ⟨fun w0 => ?_, fun w0 => ?_⟩⟩, fun z => absurd z (by omega)⟩
    · rw [n1]; rw [if_pos n1] at hp0; exact hp0
    · rw [if_neg n1, if_pos (by omega)] at hp0
      exact sX3_bits fun _ => hp0
    · rw [if_neg n1, if_neg (by omega)] at hp0; exact hp0
  | succ m ih =>
    intro k h hk B eb wb q qm hp
    have b := leastN_rng (theirsF E S p t n) k
    refine wX3_least_L60 C ⟨B, ⟨by omega, by omega⟩, ⟨by omega, by omega⟩, ⟨by omega, by omega⟩, ⟨by omega, by omega⟩, ⟨by omega, by omega⟩, ⟨by omega, by omega⟩⟩ ⟨q.ms, sX3_cellsIn q t0 t1 fun _ => ?_⟩
    rw [← sd, sh]
    have go : ∀ (h3 : Mem) (v : Int), EX h h3 → EX h0 h3 → Wf hb h3 → MR h3 E S → QM hb h3 → v = leastN (theirsF E S p t n) (k + 1) → V G X 7 0 0 (QF G X 0 0 0 (PI h0 P)) 60 [(0, rf 177), (1, iv p), (2, iv t), (3, iv n), (4, iv w), (5, iv v), (6, iv ((k : Int) + 1))] [] h3 := fun h3 v e3 b3 w3 q3 qm3 ev => by
      have := ih (k + 1) h3 (by omega) b3 (eb.tr e3) w3 q3 qm3 hp
      rw [ev]
      rwa [show ((k + 1 : Nat) : Int) = (k : Int) + 1 by omega] at this
    have both : (leastN (theirsF E S p t n) k = -2 ∨ bitsF k < bitsF (leastN (theirsF E S p t n) k)) → kX3_isTheirsBehind G X.2.1 p t k n h (fun r14 h15 => EX h h15 → ((r14 = 0 → R32 ((k : Int) + 1) ∧ (EX h0 h15 ∧ R32 p ∧ R32 t ∧ R32 n ∧ R32 w ∧ R32 (leastN (theirsF E S p t n) k) ∧ R32 ((k : Int) + 1) → V G X 7 0 0 (QF G X 0 0 0 (PI h0 P)) 60 [(0, rf 177), (1, iv p), (2, iv t), (3, iv n), (4, iv w), (5, iv (leastN (theirsF E S p t n) k)), (6, iv ((k : Int) + 1))] [] h15)) ∧ (r14 ≠ 0 → R32 ((k : Int) + 1) ∧ (EX h0 h15 ∧ R32 p ∧ R32 t ∧ R32 n ∧ R32 w ∧ R32 (k : Int) ∧ R32 ((k : Int) + 1) → V G X 7 0 0 (QF G X 0 0 0 (PI h0 P)) 60 [(0, rf 177), (1, iv p), (2, iv t), (3, iv n), (4, iv w), (5, iv (k : Int)), (6, iv ((k : Int) + 1))] [] h15)))) := fun c => by
      refine sX3_isTheirsBehind eb wb Tb q n9 p0 p1 t0 t1 hn fun h3 e3 f3 w3 q3 _ => ?_
      refine ⟨fun z => ⟨⟨by omega, by omega⟩, fun B' => go h3 _ e3 B'.1 w3 q3 f3 ?_⟩, fun z => ⟨⟨by omega, by omega⟩, fun B' => go h3 _ e3 B'.1 w3 q3 f3 ?_⟩⟩
      · have no : ¬ theirsF E S p t n k = true := fun y => by rw [if_pos y] at z; cases z
        rw [leastN_no fun y => no y.2]
      · have yes : theirsF E S p t n k = true := Classical.byContradiction fun y => by rw [if_neg y] at z; exact z rfl
        rw [leastN_yes ⟨c, yes⟩]
    refine ⟨fun z => absurd z (by omega), fun _ => ⟨fun n1 => ?_, fun n1 => ?_⟩⟩
    · exact both (Or.inl n1)
    · refine sX3_bits fun _ => sX3_bits fun _ => ⟨fun c => ⟨⟨by omega, by omega⟩, fun B' => ?_⟩, fun c => both (Or.inr c)⟩
      refine go h _ (EX.rf B.2) B'.1 wb q qm ?_
      rw [leastN_no fun y => by rcases y.1 with y1 | y1 <;> omega]
theorem IM.keepsQ (I : IM h Z) {T : Tn} (es : Z.s = some T) (hp : ∀ h1 : Mem, EX h h1 → Wf h h1 → QM h h1 → MR h1 T.en T.st → MG h1 (fun _ => 0) → LawM h1 (lawZ Z) → P 0 h1) : kX3_keepsAll G l h P := by
  refine sX3_keepsAll I.ms fun h1 e f k g => ?_
  have fq : Fr sQm h h1 := f.mono fun b j z => by unfold sIm at z; unfold sQm; omega
  have b9 : Back9 h1 h := Back9.of fun b j z => f b j (by unfold sIm; omega)
  exact hp h1 e ⟨fq, k⟩ ⟨fq, b9⟩ ((I.tn es).mr.keep e.1 fun b j z => f b j (by unfold mIn at z; unfold sIm; omega)) g (IM.law (I.back e (fun b j _ _ n => fq b j n) b9))
theorem oM_least (I : IM h Z) {p t n w : Int} (hp : ∀ h' : Mem, EX h h' → QM h h' → P (aLeast Z p t n w) h') : kX3_least G l p t n w h P := by
  have bad : (∀ T : Tn, Z.s = some T → ¬ leastOk T p t n w) → P (-1) h := fun q => by
    have hp0 := hp h (EX.rf I.oz) (QM.rf _)
    rw [aLeast_no q] at hp0; exact hp0
  refine eX3_least fun X C e9 B => ⟨I.ms, I.isPainter fun _ => ?_⟩
  by_cases hq : 0 ≤ p ∧ p < pmO Z.s
  · rw [if_pos hq]
    refine ⟨fun z => (by cases z), fun _ => I.isThing fun _ => ?_⟩
    by_cases ht : 0 ≤ t ∧ t < tmO Z.s
    · obtain ⟨T, es, t0, t1⟩ := tmO_s ht
      rw [if_pos ht]
      rw [es] at hq
      have hq : 0 ≤ p ∧ p < T.en.pm := hq
      have tx := I.tn es
      refine ⟨fun z => (by cases z), fun _ => sX3_isBare I.ms fun _ => ?_⟩
      rw [tx.mr.td.1.2]
      by_cases hb : hs T.st.bare t
      · rw [if_pos hb]
        exact ⟨fun _ => bad fun T' es' o => by rw [es] at es'; cases es'; exact o.2.2.1 hb, fun z => (by cases z)⟩
      · rw [if_neg hb]
        refine ⟨fun z => absurd rfl z, fun _ => sX3_in fun _ => ?_⟩
        by_cases hn : 0 ≤ n ∧ n ≤ 60
        · rw [if_pos hn]
          refine ⟨fun z => (by cases z), fun _ => sX3_in fun _ => ?_⟩
          by_cases hw : 0 ≤ w ∧ w ≤ 1
          · rw [if_pos hw]
            refine ⟨fun _ => I.keepsQ es fun h1 e1 w1 q1 T1 g1 _ _ B' => ?_, fun z => (by cases z)⟩
            have ea : aLeast Z p t n w = leastR (leastN (theirsF T.en T.st p t n) (2 ^ (sizeT T.en t).toNat)) w := by unfold aLeast; rw [es]; exact if_pos ⟨hq, ⟨t0, t1⟩, hb, hn, hw⟩
            rw [ea] at hp
            exact l_least3 tx.ok.now tx.mr.en hq.1 hq.2 t0 t1 hn hw tx.mr C (2 ^ (sizeT T.en t).toNat) 0 h1 (by omega) B'.1 e1 w1 T1 q1 hp
          · rw [if_neg hw]
            exact ⟨fun z => absurd rfl z, fun _ => bad fun T' es' o => hw o.2.2.2.2⟩
        · rw [if_neg hn]
          exact ⟨fun _ => bad fun T' es' o => hn o.2.2.2.1, fun z => absurd rfl z⟩
    · rw [if_neg ht]
      exact ⟨fun _ => bad fun T' es' o => by rw [es'] at ht; exact ht o.2.1, fun z => absurd rfl z⟩
  · rw [if_neg hq]
    exact ⟨fun _ => bad fun T' es' o => by rw [es'] at hq; exact hq o.1, fun z => absurd rfl z⟩
end
