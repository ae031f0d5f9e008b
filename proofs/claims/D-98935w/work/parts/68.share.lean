/-! share, then, byPart, when -/
set_option maxRecDepth 100000
def gcdI (a b : Int) : Int := ((Nat.gcd a.toNat b.toNat : Nat) : Int)
theorem gcdI_0 {a : Int} (h : 0 ≤ a) : gcdI a 0 = a := by
  unfold gcdI
  rw [show (0 : Int).toNat = 0 from rfl, Nat.gcd_zero_right]; omega
theorem gcdI_s {a b : Int} (h0 : 0 ≤ a) (h1 : 0 < b) : gcdI b (a.tmod b) = gcdI a b ∧ 0 ≤ a.tmod b ∧ a.tmod b < b := by
  obtain ⟨m, rfl⟩ := Int.eq_ofNat_of_zero_le h0
  obtain ⟨n, rfl⟩ := Int.eq_ofNat_of_zero_le (Int.le_of_lt h1)
  have e : ((m : Int).tmod (n : Int)) = ((m % n : Nat) : Int) := (Int.ofNat_tmod m n).symm
  have hn : 0 < n := by omega
  have hl := Nat.mod_lt m hn
  rw [e]
  refine ⟨?_, by omega, by omega⟩
  unfold gcdI
  rw [Int.toNat_natCast, Int.toNat_natCast, Int.toNat_natCast, Nat.gcd_comm n (m % n), ← Nat.gcd_rec n m, Nat.gcd_comm n m]
theorem gcdI_pos {a b : Int} (h0 : 0 < a) : 0 < gcdI a b := by
  unfold gcdI
  have : 0 < Nat.gcd a.toNat b.toNat := Nat.gcd_pos_of_pos_left _ (by omega)
  omega
section
variable {G : GT} {h : Mem} {Z : Zt} {T : Tn} {P : Int → Mem → Prop} {l : Launch} {E : En} {S : St}
theorem sX0_divisor : ∀ (d : Nat) (l : Launch) (a b : Int) (P : Int → Mem → Prop), 0 ≤ a → 0 ≤ b → b < d → P (gcdI a b) h → kX0_divisor G l d a b h P
  | 0, _, _, b, _, _, h1, h2, _ => absurd h2 (by omega)
  | d + 1, l, a, b, P, h0, h1, h2, hp => by
    refine eX0_divisor fun X C e B => ⟨fun q => ⟨by omega, ?_⟩, fun q => ?_⟩
    · have g := gcdI_s h0 (b := b) (by omega)
      exact sX0_divisor d _ b (a.tmod b) _ h1 g.2.1 (by omega) fun _ => by rw [g.1]; exact hp
    · rw [q, gcdI_0 h0] at hp; exact hp
abbrev shareOk (T : Tn) (p t w : Int) : Prop := (0 ≤ p ∧ p < T.en.pm) ∧ (0 ≤ t ∧ t < T.en.tm) ∧ (0 ≤ w ∧ w ≤ 1)
def shareF (T : Tn) (p t w : Int) : Int := if w = 0 then (cells T.en (ownC T.en T.st T.st.now) p t).tdiv (gcdI (T.en.first (t + 1) - T.en.first t) (cells T.en (ownC T.en T.st T.st.now) p t)) else (T.en.first (t + 1) - T.en.first t).tdiv (gcdI (T.en.first (t + 1) - T.en.first t) (cells T.en (ownC T.en T.st T.st.now) p t))
def aShare (Z : Zt) (p t w : Int) : Int := match Z.s with
  | none => -1
  | some T => if shareOk T p t w then shareF T p t w else -1
theorem aShare_no {p t w : Int} (q : ∀ T : Tn, Z.s = some T → ¬ shareOk T p t w) : aShare Z p t w = -1 := by
  unfold aShare
  cases es : Z.s with
  | none => rfl
  | some T => exact if_neg (q T es)
theorem oX_share (I : IX h Z) {p t w : Int} (hp : P (aShare Z p t w) h) : kX0_share G l p t w h P := by
  have bad : (∀ T : Tn, Z.s = some T → ¬ shareOk T p t w) → P (-1) h := fun q => by rw [aShare_no q] at hp; exact hp
  refine eX0_share fun X C e9 B => ⟨I.xs, I.isPainter fun _ => ?_⟩
  by_cases hq : 0 ≤ p ∧ p < pmO Z.s
  · rw [if_pos hq]
    refine ⟨fun z => (by cases z), fun _ => I.isThing fun _ => ?_⟩
    by_cases ht : 0 ≤ t ∧ t < tmO Z.s
    · obtain ⟨T, es, t0, t1⟩ := tmO_s ht
      rw [if_pos ht]
      rw [es] at hq
      refine ⟨fun z => (by cases z), fun _ => sX0_in fun _ => ?_⟩
      by_cases hw : 0 ≤ w ∧ w ≤ 1
      · rw [if_pos hw]
        obtain ⟨t2, tx⟩ := I.tn es
        have Kt := tx.tr.en.tm
        have sz := tx.tr.en.fs t t0 t1
        have cr := cells_rng tx.tr.en (ownC T.en T.st T.st.now) p t0 t1
        have e4 : h 4 t = T.en.first (t + 1) - T.en.first t := (tx.tr.te.2.1 t t0 t1).2.1
        have gp : 0 < gcdI (T.en.first (t + 1) - T.en.first t) (cells T.en (ownC T.en T.st T.st.now) p t) := gcdI_pos (by omega)
        rw [show aShare Z p t w = shareF T p t w by unfold aShare; rw [es]; exact if_pos ⟨hq, ⟨t0, t1⟩, hw⟩] at hp
        unfold shareF at hp
        refine ⟨fun _ => ⟨t2, sX1_cellsOf tx.tr t0 t1 fun _ => ⟨fun w0 => ⟨t2, t0, by omega, ?_⟩, fun w0 => ⟨t2, t0, by omega, ?_⟩⟩⟩, fun z => by cases z⟩
        · rw [e4]
          rw [if_neg w0] at hp
          exact sX0_divisor 10 _ _ _ _ (by omega) cr.1 (by omega) fun _ => ⟨gp, hp⟩
        · rw [e4]
          rw [if_pos w0] at hp
          exact sX0_divisor 10 _ _ _ _ (by omega) cr.1 (by omega) fun _ => ⟨gp, hp⟩
      · rw [if_neg hw]
        exact ⟨fun z => absurd rfl z, fun _ => bad fun T' es' o => hw o.2.2⟩
    · rw [if_neg ht]
      exact ⟨fun _ => bad fun T' es' o => by rw [es'] at ht; exact ht o.2.1, fun z => absurd rfl z⟩
  · rw [if_neg hq]
    exact ⟨fun _ => bad fun T' es' o => by rw [es'] at hq; exact hq o.1, fun z => absurd rfl z⟩
theorem cells_seen0 (E : En) (S : St) (hour p t : Int) : cells E (fun c => ownL E hour (seenL 0 hour (S.co c))) p t = cells E (ownC E S hour) p t := by
  have e : (fun c => ownL E hour (seenL 0 hour (S.co c))) = ownC E S hour := by funext c; unfold seenL ownC; rw [if_pos rfl]
  rw [e]
theorem l_share {T : Tn} (tx : MR h T.en T.st) {t w n k v : Int} (t0 : 0 ≤ t) (t1 : t < T.en.tm) (Rw : R32 w) (ek : k = T.en.first (t + 1) - T.en.first t) (n0 : 0 ≤ n ∧ n ≤ 6) (hv : v = if w = 0 then n.tdiv (gcdI k n) else k.tdiv (gcdI k n)) {X : MX} {h0 : Mem} (C : Cx G X cX3_share 8 RX3 3 0 0 (some .int) "share") (B : EX h0 h) (hp : P v h) :
    ∀ (m : Nat) (x y : Int), x.toNat ≤ m → 0 ≤ x → x ≤ 6 → 0 ≤ y → y ≤ 6 → gcdI y x = gcdI k n →
    V G X 8 0 0 (QF G X 0 0 0 (PI h0 P)) 60 [(0, rf 177), (2, iv t), (3, iv w), (4, iv n), (5, iv x), (6, iv y)] [] h := by
  have sz := tx.en.fs t t0 t1
  have Kt := tx.en.tm
  have gp : 0 < gcdI k n := gcdI_pos (by omega)
  intro m
  induction m with
  | zero =>
    intro x y hm x0 x6 y0 y6 g
    have xe : x = 0 := by omega
    subst xe
    rw [gcdI_0 y0] at g
    refine wX3_share_L60 C ⟨B, ⟨by omega, by omega⟩, Rw, ⟨by omega, by omega⟩, ⟨by omega, by omega⟩, ⟨by omega, by omega⟩⟩ ⟨tx.ms, fun _ => ⟨fun w0 => sX3_cellsIn tx t0 t1 fun _ => ⟨by omega, ?_⟩, fun w0 => ⟨by omega, ?_⟩⟩, fun z => absurd rfl z⟩
    · rw [if_neg w0] at hv; rw [← ek, g, ← hv]; exact hp
    · rw [if_pos w0] at hv; rw [g, ← hv]; exact hp
  | succ m ih =>
    intro x y hm x0 x6 y0 y6 g
    by_cases xe : x = 0
    · subst xe
      exact ih 0 y (by omega) (by omega) (by omega) y0 y6 g
    · have gs := gcdI_s y0 (b := x) (by omega)
      refine wX3_share_L60 C ⟨B, ⟨by omega, by omega⟩, Rw, ⟨by omega, by omega⟩, ⟨by omega, by omega⟩, ⟨by omega, by omega⟩⟩ ⟨tx.ms, fun z => absurd z xe, fun _ => ⟨by omega, fun y2 ey B' => ?_⟩⟩
      subst ey
      exact ih _ _ (by omega) gs.2.1 (by omega) x0 x6 (gs.1.trans g)
theorem oM_share (I : IM h Z) {p t w : Int} (hp : ∀ h' : Mem, EX h h' → QM h h' → P (aShare Z p t w) h') : kX3_share G l p t w h P := by
  have bad : (∀ T : Tn, Z.s = some T → ¬ shareOk T p t w) → P (-1) h := fun q => by
    have hp0 := hp h (EX.rf I.oz) (QM.rf _)
    rw [aShare_no q] at hp0; exact hp0
  refine eX3_share fun X C e9 B => ⟨I.ms, I.isPainter fun _ => ?_⟩
  by_cases hq : 0 ≤ p ∧ p < pmO Z.s
  · rw [if_pos hq]
    refine ⟨fun z => (by cases z), fun _ => I.isThing fun _ => ?_⟩
    by_cases ht : 0 ≤ t ∧ t < tmO Z.s
    · obtain ⟨T, es, t0, t1⟩ := tmO_s ht
      rw [if_pos ht]
      rw [es] at hq
      have hq0 : 0 ≤ p := hq.1
      have hq1 : p < T.en.pm := hq.2
      refine ⟨fun z => (by cases z), fun _ => sX3_in fun _ => ?_⟩
      by_cases hw : 0 ≤ w ∧ w ≤ 1
      · rw [if_pos hw]
        have tx := I.tn es
        have Kt := tx.mr.en.tm
        have Kp := tx.mr.en.pm
        have sz := tx.mr.en.fs t t0 t1
        have cr := cells_rng tx.mr.en (ownC T.en T.st T.st.now) p t0 t1
        rw [tx.mr.td.1.1]
        refine ⟨fun _ => sX3_countsCells tx.mr t0 t1 (Or.inl rfl) fun h1 e1 f1 c1 _ => ⟨hq0, by omega, fun y ey => ?_⟩, fun z => by cases z⟩
        have T1 := tx.mr.cn e1.1 f1
        have yv : y = cells T.en (ownC T.en T.st T.st.now) p t := by rw [ey, c1 p hq0 (by omega), cells_seen0]
        subst yv
        refine sX3_cellsIn T1 t0 t1 fun _ B' => ?_
        refine l_share (v := aShare Z p t w) T1 t0 t1 B'.2.2.1 rfl cr ?_ C B'.1 (hp h1 e1 (QM.cn f1)) 6 _ _ (by omega) cr.1 cr.2 (by omega) (by omega) rfl
        rw [show aShare Z p t w = shareF T p t w by unfold aShare; rw [es]; exact if_pos ⟨hq, ⟨t0, t1⟩, hw⟩]
        rfl
      · rw [if_neg hw]
        exact ⟨fun z => absurd rfl z, fun _ => bad fun T' es' o => hw o.2.2⟩
    · rw [if_neg ht]
      exact ⟨fun _ => bad fun T' es' o => by rw [es'] at ht; exact ht o.2.1, fun z => absurd rfl z⟩
  · rw [if_neg hq]
    exact ⟨fun _ => bad fun T' es' o => by rw [es'] at hq; exact hq o.1, fun z => absurd rfl z⟩
/-! then -/
def thenF (T : Tn) (t n : Int) : Int := thingF T.en T.st.bare (fun c => ownL T.en n (aheadL n (T.st.co c))) T.en.part t
def aThen (Z : Zt) (t n : Int) : Int := match Z.s with
  | none => -2
  | some T => if (0 ≤ t ∧ t < T.en.tm) ∧ (0 ≤ n ∧ n ≤ T.st.now) then thenF T t n else -2
theorem holdF_congr {w w' : Int → Int} {n need : Int} (h : ∀ k : Nat, (k : Int) < n → w k = w' k) : holdF w n need = holdF w' n need := by
  have e : ∀ k : Nat, (k : Int) ≤ n → bst w k = bst w' k := by
    intro k
    induction k with
    | zero => intro _; rfl
    | succ k ih => intro hk; rw [bst, bst, ih (by omega), h k (by omega)]
  by_cases c : 0 ≤ n
  · unfold holdF; rw [e n.toNat (by omega)]
  · have z : n.toNat = 0 := by omega
    unfold holdF; rw [z]; rfl
theorem thingF_congr {E : En} {bare share t : Int} {o o' : Int → Int} (K : EnOk E) (t0 : 0 ≤ t) (t1 : t < E.tm) (h : ∀ c : Int, 0 ≤ c → c < E.cm → o c = o' c) : thingF E bare o share t = thingF E bare o' share t := by
  have r := K.rng t0 t1
  unfold thingF
  split
  · rfl
  · exact holdF_congr fun k _ => cnt_congr fun i i0 i1 => h i (by omega) (by omega)
theorem aThen_no {t n : Int} (q : ∀ T : Tn, Z.s = some T → ¬ ((0 ≤ t ∧ t < T.en.tm) ∧ (0 ≤ n ∧ n ≤ T.st.now))) : aThen Z t n = -2 := by
  unfold aThen
  cases es : Z.s with
  | none => rfl
  | some T => exact if_neg (q T es)
theorem oX_then (I : IX h Z) {t n : Int} (hp : ∀ h' : Mem, EX h h' → Fr sQx h h' → P (aThen Z t n) h') : kX0_then G l t n h P := by
  have bad : (∀ T : Tn, Z.s = some T → ¬ ((0 ≤ t ∧ t < T.en.tm) ∧ (0 ≤ n ∧ n ≤ T.st.now))) → P (-2) h := fun q => by
    have hp0 := hp h (EX.rf I.oz) (Fr.rf _ _)
    rw [aThen_no q] at hp0; exact hp0
  refine eX0_then fun X C e9 B => ⟨I.xs, I.isThing fun _ => ?_⟩
  by_cases ht : 0 ≤ t ∧ t < tmO Z.s
  · obtain ⟨T, es, t0, t1⟩ := tmO_s ht
    rw [if_pos ht]
    obtain ⟨t2, tx⟩ := I.tn es
    have b2 : h 2 11 = T.st.now := tx.tr.td.1.1
    have b1 : h 2 1 = T.en.part := tx.tr.te.1.2.1
    rw [b2]
    refine ⟨fun z => (by cases z), fun _ => ⟨t2, sX0_in fun _ => ?_⟩⟩
    by_cases hn : 0 ≤ n ∧ n ≤ T.st.now
    · rw [if_pos hn, b1]
      refine ⟨fun _ => ⟨t2, sX1_thingAt tx.tr t0 t1 tx.tr.en.part hn.1 fun h' e' f' _ => ?_⟩, fun z => by cases z⟩
      have := hp h' e' (f'.mono fun b j z => by unfold sOw at z; unfold sQx; omega)
      rw [show aThen Z t n = thenF T t n by unfold aThen; rw [es]; exact if_pos ⟨⟨t0, t1⟩, hn⟩] at this
      rw [thingF_congr (o' := fun c => ownL T.en n (aheadL n (T.st.co c))) tx.tr.en t0 t1 fun c c0 c1 => ?_]
      · exact this
      · have O := tx.tr.st.co c c0 c1
        exact ownB_ahead hn.1 O.2.2 fun b w z => (O.2.1 b w z).2.2.1
    · rw [if_neg hn]
      exact ⟨fun z => absurd rfl z, fun _ => bad fun T' es' o => by rw [es] at es'; cases es'; exact hn o.2⟩
  · rw [if_neg ht]
    exact ⟨fun _ => bad fun T' es' o => by rw [es'] at ht; exact ht o.1, fun z => absurd rfl z⟩
/-- what the model's counts say of a thing that is not bare -/
theorem oM_byCells {T : Tn} (tx : MR h T.en T.st) {t hour ah part v : Int} (t0 : 0 ≤ t) (t1 : t < T.en.tm) (Ra : ah = 0 ∨ ah = 1) (hpt : 1 ≤ part ∧ part ≤ 100) (nb : ¬ hs T.st.bare t) (hv : v = thingF T.en T.st.bare (fun c => ownL T.en hour (seenL ah hour (T.st.co c))) part t)
    {h1 : Mem} (T1 : MR h1 T.en T.st) (c1 : ∀ p : Int, 0 ≤ p → p < 4 → h1 214 p = cells T.en (fun c => ownL T.en hour (seenL ah hour (T.st.co c))) p t) (hp : P v h1) : kX3_ownerByCells G l (T.en.first (t + 1) - T.en.first t) part h1 P := by
  have sz := tx.en.fs t t0 t1
  have Kp := tx.en.pm
  refine sX3_ownerByCells T1 (w := fun p => cells T.en (fun c => ownL T.en hour (seenL ah hour (T.st.co c))) p t) ⟨by omega, by omega⟩ hpt (fun p p0 p1 => ?_) ?_
  · have cr := cells_rng tx.en (fun c => ownL T.en hour (seenL ah hour (T.st.co c))) p t0 t1
    exact ⟨c1 p p0 (by omega), cr.1, by omega⟩
  · rw [hv, thingF, if_neg nb] at hp; exact hp
theorem oM_then (I : IM h Z) {t n : Int} (hp : ∀ h' : Mem, EX h h' → QM h h' → P (aThen Z t n) h') : kX3_then G l t n h P := by
  have hp0 := hp h (EX.rf I.oz) (QM.rf _)
  have bad : (∀ T : Tn, Z.s = some T → ¬ ((0 ≤ t ∧ t < T.en.tm) ∧ (0 ≤ n ∧ n ≤ T.st.now))) → P (-2) h := fun q => by
    rw [aThen_no q] at hp0; exact hp0
  refine eX3_then fun X C e9 B => ⟨I.ms, I.isThing fun _ => ?_⟩
  by_cases ht : 0 ≤ t ∧ t < tmO Z.s
  · obtain ⟨T, es, t0, t1⟩ := tmO_s ht
    rw [if_pos ht]
    have tx := I.tn es
    rw [tx.mr.td.1.1]
    refine ⟨fun z => (by cases z), fun _ => sX3_in fun _ => ?_⟩
    by_cases hn : 0 ≤ n ∧ n ≤ T.st.now
    · rw [if_pos hn]
      have ea : aThen Z t n = thenF T t n := by unfold aThen; rw [es]; exact if_pos ⟨⟨t0, t1⟩, hn⟩
      refine ⟨fun _ => sX3_isBare I.ms fun _ => ?_, fun z => by cases z⟩
      rw [tx.mr.td.1.2]
      by_cases hb : hs T.st.bare t
      · rw [if_pos hb]
        refine ⟨fun z => (by cases z), fun _ => ?_⟩
        rw [ea, thenF, thingF, if_pos hb] at hp0; exact hp0
      · rw [if_neg hb]
        refine ⟨fun _ => sX3_countsCells tx.mr t0 t1 (Or.inr rfl) fun h1 e1 f1 c1 _ => ?_, fun z => absurd rfl z⟩
        have T1 := tx.mr.cn e1.1 f1
        refine sX3_cellsIn T1 t0 t1 fun _ => ?_
        rw [T1.te.1.2.1]
        refine oM_byCells (v := aThen Z t n) tx.mr t0 t1 (Or.inr rfl) tx.mr.en.part hb ?_ T1 c1 fun _ => hp h1 e1 (QM.cn f1)
        rw [ea]; rfl
    · rw [if_neg hn]
      exact ⟨fun z => absurd rfl z, fun _ => bad fun T' es' o => by rw [es] at es'; cases es'; exact hn o.2⟩
  · rw [if_neg ht]
    exact ⟨fun _ => bad fun T' es' o => by rw [es'] at ht; exact ht o.1, fun z => absurd rfl z⟩
/-! byPart -/
def byPartF (T : Tn) (t n : Int) : Int := thingF T.en T.st.bare (ownC T.en T.st T.st.now) n t
def aByPart (Z : Zt) (t n : Int) : Int := match Z.s with
  | none => -2
  | some T => if (0 ≤ t ∧ t < T.en.tm) ∧ (1 ≤ n ∧ n ≤ 100) then byPartF T t n else -2
theorem aByPart_no {t n : Int} (q : ∀ T : Tn, Z.s = some T → ¬ ((0 ≤ t ∧ t < T.en.tm) ∧ (1 ≤ n ∧ n ≤ 100))) : aByPart Z t n = -2 := by
  unfold aByPart
  cases es : Z.s with
  | none => rfl
  | some T => exact if_neg (q T es)
theorem oX_byPart (I : IX h Z) {t n : Int} (hp : ∀ h' : Mem, EX h h' → Fr sQx h h' → P (aByPart Z t n) h') : kX0_byPart G l t n h P := by
  have bad : (∀ T : Tn, Z.s = some T → ¬ ((0 ≤ t ∧ t < T.en.tm) ∧ (1 ≤ n ∧ n ≤ 100))) → P (-2) h := fun q => by
    have hp0 := hp h (EX.rf I.oz) (Fr.rf _ _)
    rw [aByPart_no q] at hp0; exact hp0
  refine eX0_byPart fun X C e9 B => ⟨I.xs, I.isThing fun _ => ?_⟩
  by_cases ht : 0 ≤ t ∧ t < tmO Z.s
  · obtain ⟨T, es, t0, t1⟩ := tmO_s ht
    rw [if_pos ht]
    obtain ⟨t2, tx⟩ := I.tn es
    have b2 : h 2 11 = T.st.now := tx.tr.td.1.1
    refine ⟨fun z => (by cases z), fun _ => sX0_in fun _ => ?_⟩
    by_cases hn : 1 ≤ n ∧ n ≤ 100
    · rw [if_pos hn, b2]
      refine ⟨fun _ => ⟨t2, sX1_thingNow tx.tr t0 t1 hn tx.tr.st.now.1 fun h' e' f' _ => ?_⟩, fun z => by cases z⟩
      have := hp h' e' (f'.mono fun b j z => by unfold sOw at z; unfold sQx; omega)
      rw [show aByPart Z t n = byPartF T t n by unfold aByPart; rw [es]; exact if_pos ⟨⟨t0, t1⟩, hn⟩] at this
      exact this
    · rw [if_neg hn]
      exact ⟨fun z => absurd rfl z, fun _ => bad fun T' es' o => hn o.2⟩
  · rw [if_neg ht]
    exact ⟨fun _ => bad fun T' es' o => by rw [es'] at ht; exact ht o.1, fun z => absurd rfl z⟩
theorem oM_byPart (I : IM h Z) {t n : Int} (hp : ∀ h' : Mem, EX h h' → QM h h' → P (aByPart Z t n) h') : kX3_byPart G l t n h P := by
  have hp0 := hp h (EX.rf I.oz) (QM.rf _)
  have bad : (∀ T : Tn, Z.s = some T → ¬ ((0 ≤ t ∧ t < T.en.tm) ∧ (1 ≤ n ∧ n ≤ 100))) → P (-2) h := fun q => by
    rw [aByPart_no q] at hp0; exact hp0
  refine eX3_byPart fun X C e9 B => ⟨I.ms, I.isThing fun _ => ?_⟩
  by_cases ht : 0 ≤ t ∧ t < tmO Z.s
  · obtain ⟨T, es, t0, t1⟩ := tmO_s ht
    rw [if_pos ht]
    have tx := I.tn es
    refine ⟨fun z => (by cases z), fun _ => sX3_in fun _ => ?_⟩
    by_cases hn : 1 ≤ n ∧ n ≤ 100
    · rw [if_pos hn]
      have ea : aByPart Z t n = byPartF T t n := by unfold aByPart; rw [es]; exact if_pos ⟨⟨t0, t1⟩, hn⟩
      refine ⟨fun _ => sX3_isBare I.ms fun _ => ?_, fun z => by cases z⟩
      rw [tx.mr.td.1.2]
      by_cases hb : hs T.st.bare t
      · rw [if_pos hb]
        refine ⟨fun z => (by cases z), fun _ => ?_⟩
        rw [ea, byPartF, thingF, if_pos hb] at hp0; exact hp0
      · rw [if_neg hb, tx.mr.td.1.1]
        refine ⟨fun _ => sX3_countsCells tx.mr t0 t1 (Or.inl rfl) fun h1 e1 f1 c1 _ => ?_, fun z => absurd rfl z⟩
        have T1 := tx.mr.cn e1.1 f1
        refine sX3_cellsIn T1 t0 t1 fun _ => ?_
        refine oM_byCells (v := aByPart Z t n) tx.mr t0 t1 (Or.inl rfl) hn hb ?_ T1 c1 fun _ => hp h1 e1 (QM.cn f1)
        rw [ea]
        have e : (fun c => ownL T.en T.st.now (seenL 0 T.st.now (T.st.co c))) = ownC T.en T.st T.st.now := by funext c; unfold seenL ownC; rw [if_pos rfl]
        rw [e]; rfl
    · rw [if_neg hn]
      exact ⟨fun z => absurd rfl z, fun _ => bad fun T' es' o => hn o.2⟩
  · rw [if_neg ht]
    exact ⟨fun _ => bad fun T' es' o => by rw [es'] at ht; exact ht o.1, fun z => absurd rfl z⟩
end
