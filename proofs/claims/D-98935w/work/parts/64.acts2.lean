/-! acts: paint, scrape, vote, undo, log -/
set_option maxRecDepth 100000
/-- what the ops need of frames: X's own town and what asking writes; the model's street -/
def sAx : Int → Int → Prop := fun b j => sQx b j ∨ (2 ≤ b ∧ b ≤ 17)
def sAm : Int → Int → Prop := fun b j => (sQm b j ∧ ¬ (b = 178 ∧ (j = 11 ∨ j = 12))) ∨ (179 ≤ b ∧ b ≤ 194) ∨ b = 216 ∨ (b = 177 ∧ j = 51)
section
variable {G : GT} {h : Mem} {Z : Zt} {T : Tn} {P : Int → Mem → Prop} {l : Launch}
theorem IX.act {h' : Mem} (I : IX h Z) {T : Tn} (e : EX h h') (f : Fr sAx h h') (t2 : h 1 0 = 2) (q : TownX h' 2 T) : IX h' (zS Z (some T)) :=
  I.town e (fun b j _ _ n1 n2 => f b j fun z => z.elim n1 n2) t2 q
theorem IM.act {h' : Mem} (I : IM h Z) {T : Tn} (e : EX h h') (f : Fr sAm h h') (q : TownM h' T) : IM h' (zS Z (some T)) :=
  I.town e (fun b j _ _ n1 n2 n3 n4 => f b j fun z => z.elim n1 fun z => z.elim n2 fun z => z.elim n3 n4) q
theorem Fr.ax {h h' : Mem} (f : Fr sAx h h') : FrX h h' := fun b j b0 b1 => f b j (by unfold sAx sQx; omega)
theorem Fr.am {h h' : Mem} (f : Fr sAm h h') : FrM h h' := fun b j z => f b j (by unfold sAm sQm; omega)
theorem Fr.tgx {h h' : Mem} (f : Fr (sTg 2) h h') : Fr sAx h h' := f.mono fun b j z => by unfold sTg sTw at z; unfold sAx sQx; omega
theorem Fr.udx {h h' : Mem} (f : Fr (sUd 2) h h') : Fr sAx h h' := f.mono fun b j z => by unfold sUd at z; unfold sAx sQx; omega
theorem Fr.kpm {h h' : Mem} (f : Fr sKp h h') : Fr sAm h h' := f.mono fun b j z => by unfold sKp at z; unfold sAm sQm; omega
theorem Fr.mpm {h h' : Mem} (f : Fr sMp h h') : Fr sAm h h' := f.mono fun b j z => by unfold sMp sMs sM1 at z; unfold sAm sQm; omega
/-! paint -/
def zPaint (Z : Zt) (c p : Int) : Zt := match Z.s with
  | none => Z
  | some T => if (0 ≤ c ∧ c < T.en.cm) ∧ (0 ≤ p ∧ p < T.en.pm) ∧ canF T.en T.st c p = true then zS Z (some (stT (keepT T) (putS (costS T.en T.st p) c p))) else Z
def aPaint (Z : Zt) (c p : Int) : Int := match Z.s with
  | none => -1
  | some T => if (0 ≤ c ∧ c < T.en.cm) ∧ (0 ≤ p ∧ p < T.en.pm) ∧ canF T.en T.st c p = true then (((putL p T.st.now (T.st.co c)).length : Nat) : Int) else -1
theorem canF_cost {E : En} {S : St} {c p : Int} (h : canF E S c p = true) : E.cost ≤ S.purse p := by
  unfold canF at h
  simp at h
  exact h.2
theorem oX_paint (I : IX h Z) {c p : Int} (hp : ∀ h' : Mem, EX h h' → FrX h h' → IX h' (zPaint Z c p) → P (aPaint Z c p) h') : kX0_paint G l c p h P := by
  have no : zPaint Z c p = Z → aPaint Z c p = -1 → P (-1) h := fun a b => by
    have := hp h (EX.rf I.oz) (fun _ _ _ _ => rfl) (by rw [a]; exact I)
    rw [b] at this; exact this
  refine eX0_paint fun X C e9 B => ⟨I.xs, I.isCell fun _ => ?_⟩
  by_cases hc : 0 ≤ c ∧ c < cmO Z.s
  · obtain ⟨T, hs, c0, c1⟩ := cmO_s hc
    rw [if_pos hc]
    refine ⟨fun z => (by cases z), fun _ => I.isPainter fun _ => ?_⟩
    by_cases hq : 0 ≤ p ∧ p < pmO Z.s
    · have hq2 := hq
      rw [hs] at hq2
      have p0 : 0 ≤ p := hq2.1
      have p1 : p < T.en.pm := hq2.2
      rw [if_pos hq]
      obtain ⟨t2, q⟩ := I.tn hs
      have Kc := q.tr.en.cm
      refine ⟨fun z => (by cases z), fun _ => ⟨t2, sX1_canPaint q.tr c0 c1 p0 p1 fun _ => ?_⟩⟩
      by_cases ca : canF T.en T.st c p = true
      · rw [if_pos ca]
        refine ⟨fun _ => sX0_keeps I.xs t2 q fun h5 e5 f5 q5 _ => ⟨(f5 1 0 (by unfold sUd; omega)).trans t2, sX1_paints q5.tr c0 c1 p0 p1 (canF_cost ca) fun h' e' f' T' _ => ?_⟩, fun z => by cases z⟩
        have q' : TownX h' 2 (stT (keepT T) (putS (costS T.en T.st p) c p)) := q5.step T' (Or.inl (by decide)) f'.gt q.ok.now
        have ff : Fr sAx h h' := f5.udx.tr f'.gt.tgx
        have hy : (0 ≤ c ∧ c < T.en.cm) ∧ (0 ≤ p ∧ p < T.en.pm) ∧ canF T.en T.st c p = true := ⟨⟨c0, c1⟩, ⟨p0, p1⟩, ca⟩
        have := hp h' (e5.tr e') ff.ax (by
          have z : zPaint Z c p = zS Z (some (stT (keepT T) (putS (costS T.en T.st p) c p))) := by unfold zPaint; rw [hs]; exact if_pos hy
          rw [z]; exact I.act (e5.tr e') ff t2 q')
        rw [show aPaint Z c p = (((putL p T.st.now (T.st.co c)).length : Nat) : Int) by unfold aPaint; rw [hs]; exact if_pos hy] at this
        refine ⟨(f' 1 0 (by unfold sTw; omega)).trans ((f5 1 0 (by unfold sUd; omega)).trans t2), c0, by omega, ?_⟩
        have m : h' 13 c = (((putS (costS T.en T.st p) c p).co c).length : Int) := (T'.co c0 c1).1
        rw [m]
        show P ((((fu T.st.co c (putL p T.st.now (T.st.co c))) c).length : Nat) : Int) h'
        rw [fu_s]; exact this
      · rw [if_neg ca]
        exact ⟨fun z => absurd rfl z, fun _ => no (by unfold zPaint; rw [hs]; exact if_neg fun z => ca z.2.2) (by unfold aPaint; rw [hs]; exact if_neg fun z => ca z.2.2)⟩
    · rw [if_neg hq]
      have hq2 := hq
      rw [hs] at hq2
      exact ⟨fun _ => no (by unfold zPaint; rw [hs]; exact if_neg fun z => hq2 z.2.1) (by unfold aPaint; rw [hs]; exact if_neg fun z => hq2 z.2.1), fun z => absurd rfl z⟩
  · rw [if_neg hc]
    refine ⟨fun _ => ?_, fun z => absurd rfl z⟩
    cases hs : Z.s with
    | none => exact no (by unfold zPaint; rw [hs]) (by unfold aPaint; rw [hs])
    | some T =>
      rw [hs] at hc
      exact no (by unfold zPaint; rw [hs]; exact if_neg fun z => hc z.1) (by unfold aPaint; rw [hs]; exact if_neg fun z => hc z.1)
theorem oM_paint (I : IM h Z) {c p : Int} (hp : ∀ h' : Mem, EX h h' → FrM h h' → IM h' (zPaint Z c p) → P (aPaint Z c p) h') : kX3_paint G l c p h P := by
  have no : zPaint Z c p = Z → aPaint Z c p = -1 → P (-1) h := fun a b => by
    have := hp h (EX.rf I.oz) (fun _ _ _ => rfl) (by rw [a]; exact I)
    rw [b] at this; exact this
  refine eX3_paint fun X C e9 B => ⟨I.ms, I.isCell fun _ => ?_⟩
  by_cases hc : 0 ≤ c ∧ c < cmO Z.s
  · obtain ⟨T, hs, c0, c1⟩ := cmO_s hc
    rw [if_pos hc]
    refine ⟨fun z => (by cases z), fun _ => I.isPainter fun _ => ?_⟩
    by_cases hq : 0 ≤ p ∧ p < pmO Z.s
    · have hq2 := hq
      rw [hs] at hq2
      have p0 : 0 ≤ p := hq2.1
      have p1 : p < T.en.pm := hq2.2
      rw [if_pos hq]
      have q := I.tn hs
      have Kc := q.mr.en.cm
      have Kp := q.mr.en.pm
      refine ⟨fun z => (by cases z), fun _ => sX3_canPaint q.mr c0 c1 p0 p1 fun _ => ?_⟩
      by_cases ca : canF T.en T.st c p = true
      · rw [if_pos ca]
        refine ⟨fun _ => sX3_keeps q fun h5 e5 f5 q5 _ => sX3_paints q5.mr c0 c1 p0 p1 fun h6 e6 f6 T6 _ => ⟨p0, by omega, ?_⟩, fun z => by cases z⟩
        have n6 : h6 178 2 = T.en.cost := T6.te.1.2.2.1
        have u6 : h6 182 p = T.st.purse p := T6.td.2.2 p p0 p1
        have pu := q.mr.st.purse p p0 p1
        have co := q.mr.en.cost
        have ge := canF_cost ca
        rw [n6, u6]
        refine ⟨⟨by omega, by omega⟩, fun h' e7 => ⟨c0, by omega, ?_⟩⟩
        have x' : EX h6 h' := by rw [e7]; exact EX_up (EX.rf e6.2) T6.ms.k182 (by decide) rfl p0 (okI_a (Or.inl rfl) ⟨by omega, by omega⟩)
        have f' : Fr (fun b _ => b = 182) h6 h' := by rw [e7]; exact (Fr.rf _ _).up rfl
        have O' : StOk T.en (putS (costS T.en T.st p) c p) := (q.mr.st.cost q.mr.en ge).put p0 p1
        have T' : MR h' T.en (putS (costS T.en T.st p) c p) := by
          have := T6.purse (f := fu T.st.purse p (T.st.purse p - T.en.cost)) x'.1 (f'.mono fun b j z => Or.inl z) (fun r r0 r1 => ?_) O'
          · exact this
          · rw [e7]
            by_cases z : r = p
            · rw [z, up_s, fu_s]
            · rw [up_i z, fu_n z]; exact T6.td.2.2 r r0 r1
        have f56 : ∀ b j : Int, ¬ sM1 b j → h' b j = h5 b j := fun b j n1 => (f' b j (by unfold sM1 at n1; omega)).trans (f6 b j n1)
        have q' : TownM h' (stT (keepT T) (putS (costS T.en T.st p) c p)) := q5.step T' (fun b j z => f56 b j (by unfold sM1; omega)) q.ok.now
        have ff : Fr sAm h h' := f5.kpm.tr (fun b j z => f56 b j (by unfold sAm sQm at z; unfold sM1; omega))
        have hy : (0 ≤ c ∧ c < T.en.cm) ∧ (0 ≤ p ∧ p < T.en.pm) ∧ canF T.en T.st c p = true := ⟨⟨c0, c1⟩, ⟨p0, p1⟩, ca⟩
        have := hp h' ((e5.tr e6).tr x') ff.am (by
          have z : zPaint Z c p = zS Z (some (stT (keepT T) (putS (costS T.en T.st p) c p))) := by unfold zPaint; rw [hs]; exact if_pos hy
          rw [z]; exact I.act ((e5.tr e6).tr x') ff q')
        rw [show aPaint Z c p = (((putL p T.st.now (T.st.co c)).length : Nat) : Int) by unfold aPaint; rw [hs]; exact if_pos hy] at this
        have m : h6 185 c = (((putS T.st c p).co c).length : Int) := (T6.co c0 c1).1
        rw [m]
        show P ((((fu T.st.co c (putL p T.st.now (T.st.co c))) c).length : Nat) : Int) h'
        rw [fu_s]; exact this
      · rw [if_neg ca]
        exact ⟨fun z => absurd rfl z, fun _ => no (by unfold zPaint; rw [hs]; exact if_neg fun z => ca z.2.2) (by unfold aPaint; rw [hs]; exact if_neg fun z => ca z.2.2)⟩
    · rw [if_neg hq]
      have hq2 := hq
      rw [hs] at hq2
      exact ⟨fun _ => no (by unfold zPaint; rw [hs]; exact if_neg fun z => hq2 z.2.1) (by unfold aPaint; rw [hs]; exact if_neg fun z => hq2 z.2.1), fun z => absurd rfl z⟩
  · rw [if_neg hc]
    refine ⟨fun _ => ?_, fun z => absurd rfl z⟩
    cases hs : Z.s with
    | none => exact no (by unfold zPaint; rw [hs]) (by unfold aPaint; rw [hs])
    | some T =>
      rw [hs] at hc
      exact no (by unfold zPaint; rw [hs]; exact if_neg fun z => hc z.1) (by unfold aPaint; rw [hs]; exact if_neg fun z => hc z.1)
/-! scrape -/
def zScrape (Z : Zt) (c : Int) : Zt := match Z.s with
  | none => Z
  | some T => if (0 ≤ c ∧ c < T.en.cm) ∧ T.st.co c ≠ [] then zS Z (some (stT (keepT T) (dropS T.st c (T.st.co c).tail))) else Z
def aScrape (Z : Zt) (c : Int) : Int := match Z.s with
  | none => -1
  | some T => if (0 ≤ c ∧ c < T.en.cm) ∧ T.st.co c ≠ [] then topL (T.st.co c) else -1
theorem Col.tail {f g : Int → Int} {e : Int → Int} {base : Int} : ∀ {l : Co}, Col f g e base l → Col f g e base l.tail
  | [], _ => trivial
  | (_, _) :: _, h => h.2.2
theorem oX_scrape (I : IX h Z) {c : Int} (hp : ∀ h' : Mem, EX h h' → FrX h h' → IX h' (zScrape Z c) → P (aScrape Z c) h') : kX0_scrape G l c h P := by
  have no : zScrape Z c = Z → aScrape Z c = -1 → P (-1) h := fun a b => by
    have := hp h (EX.rf I.oz) (fun _ _ _ _ => rfl) (by rw [a]; exact I)
    rw [b] at this; exact this
  refine eX0_scrape fun X C e9 B => ⟨I.xs, I.isCell fun _ => ?_⟩
  by_cases hc : 0 ≤ c ∧ c < cmO Z.s
  · obtain ⟨T, hs, c0, c1⟩ := cmO_s hc
    rw [if_pos hc]
    obtain ⟨t2, q⟩ := I.tn hs
    have Kc := q.tr.en.cm
    have m0 : h 13 c = ((T.st.co c).length : Int) := (q.tr.co c0 c1).1
    rw [m0]
    refine ⟨fun z => (by cases z), fun _ => ⟨t2, c0, by omega, fun n => ?_, fun n => ?_⟩⟩
    · have ne : T.st.co c ≠ [] := fun z => by rw [z] at n; exact n rfl
      have O := (q.tr.st.co c c0 c1).1
      have lp : 0 < (T.st.co c).length := by omega
      refine sX0_keeps I.xs t2 q fun h5 e5 f5 q5 _ => ⟨(f5 1 0 (by unfold sUd; omega)).trans t2, sX1_top q5.tr c0 c1 fun _ => ⟨(f5 1 0 (by unfold sUd; omega)).trans t2, ?_⟩⟩
      have m5 : h5 13 c = ((T.st.co c).length : Int) := (q5.tr.co c0 c1).1
      have cl5 : Col (h5 14) (h5 15) eX (5 * c) (T.st.co c) := (q5.tr.co c0 c1).2
      rw [m5]
      refine ⟨⟨by omega, by omega⟩, fun h' e7 => ?_⟩
      have x' : EX h5 h' := by rw [e7]; exact EX_up (EX.rf e5.2) q5.tr.tw.k23 (by decide) rfl c0 (okI_a (Or.inl rfl) ⟨by omega, by omega⟩)
      have f' : Fr (fun b j => b = 13 ∧ j = c) h5 h' := by rw [e7]; exact (Fr.rf _ _).up ⟨rfl, rfl⟩
      have suf : (T.st.co c).tail <:+ T.st.co c := List.tail_suffix _
      have O' : StOk T.en (dropS T.st c (T.st.co c).tail) := q.tr.st.drop suf
      have T' : TR h' 2 T.en (dropS T.st c (T.st.co c).tail) := by
        refine TR.cell q5.tr c0 c1 x'.1 O' (fun b j z n1 n2 => f' b j (by omega)) ?_ ?_
        · show h' 13 c = _
          rw [e7, up_s, List.length_tail]; omega
        · exact cl5.tail.mono fun i _ _ => ⟨f' 14 i (by omega), f' 15 i (by omega)⟩
      have q' : TownX h' 2 (stT (keepT T) (dropS T.st c (T.st.co c).tail)) := q5.step T' (Or.inl (by decide)) (f'.mono fun b j z => by unfold sTg sTw; omega) q.ok.now
      have ff : Fr sAx h h' := f5.udx.tr (f'.mono fun b j z => by unfold sAx; omega)
      have hy : (0 ≤ c ∧ c < T.en.cm) ∧ T.st.co c ≠ [] := ⟨⟨c0, c1⟩, ne⟩
      have := hp h' (e5.tr x') ff.ax (by
        have z : zScrape Z c = zS Z (some (stT (keepT T) (dropS T.st c (T.st.co c).tail))) := by unfold zScrape; rw [hs]; exact if_pos hy
        rw [z]; exact I.act (e5.tr x') ff t2 q')
      rw [show aScrape Z c = topL (T.st.co c) by unfold aScrape; rw [hs]; exact if_pos hy] at this
      exact this
    · have ne : T.st.co c = [] := List.length_eq_zero_iff.mp (by omega)
      exact no (by unfold zScrape; rw [hs]; exact if_neg fun z => z.2 ne) (by unfold aScrape; rw [hs]; exact if_neg fun z => z.2 ne)
  · rw [if_neg hc]
    refine ⟨fun _ => ?_, fun z => absurd rfl z⟩
    cases hs : Z.s with
    | none => exact no (by unfold zScrape; rw [hs]) (by unfold aScrape; rw [hs])
    | some T =>
      rw [hs] at hc
      exact no (by unfold zScrape; rw [hs]; exact if_neg fun z => hc z.1) (by unfold aScrape; rw [hs]; exact if_neg fun z => hc z.1)
theorem oM_scrape (I : IM h Z) {c : Int} (hp : ∀ h' : Mem, EX h h' → FrM h h' → IM h' (zScrape Z c) → P (aScrape Z c) h') : kX3_scrape G l c h P := by
  have no : zScrape Z c = Z → aScrape Z c = -1 → P (-1) h := fun a b => by
    have := hp h (EX.rf I.oz) (fun _ _ _ => rfl) (by rw [a]; exact I)
    rw [b] at this; exact this
  refine eX3_scrape fun X C e9 B => ⟨I.ms, I.isCell fun _ => ?_⟩
  by_cases hc : 0 ≤ c ∧ c < cmO Z.s
  · obtain ⟨T, hs, c0, c1⟩ := cmO_s hc
    rw [if_pos hc]
    have q := I.tn hs
    have Kc := q.mr.en.cm
    rw [(q.mr.co c0 c1).1]
    refine ⟨fun z => (by cases z), fun _ => ⟨c0, by omega, fun n => ?_, fun n => ?_⟩⟩
    · have ne : T.st.co c ≠ [] := fun z => by rw [z] at n; exact n rfl
      have O := (q.mr.st.co c c0 c1).1
      have lp : 0 < (T.st.co c).length := by omega
      refine sX3_keeps q fun h5 e5 f5 q5 _ => sX3_topOf q5.mr c0 c1 fun _ => ?_
      have m5 : h5 185 c = ((T.st.co c).length : Int) := (q5.mr.co c0 c1).1
      have cl5 : Col (h5 186) (h5 187) eM (5 * c) (T.st.co c) := (q5.mr.co c0 c1).2
      rw [m5]
      refine ⟨⟨by omega, by omega⟩, fun h' e7 => ?_⟩
      have x' : EX h5 h' := by rw [e7]; exact EX_up (EX.rf e5.2) q5.mr.ms.k185 (by decide) rfl c0 (okI_a (Or.inl rfl) ⟨by omega, by omega⟩)
      have f' : Fr (fun b j => b = 185 ∧ j = c) h5 h' := by rw [e7]; exact (Fr.rf _ _).up ⟨rfl, rfl⟩
      have suf : (T.st.co c).tail <:+ T.st.co c := List.tail_suffix _
      have O' : StOk T.en (dropS T.st c (T.st.co c).tail) := q.mr.st.drop suf
      have T' : MR h' T.en (dropS T.st c (T.st.co c).tail) := by
        refine MR.cell q5.mr c0 c1 x'.1 O' (fun b j z n1 n2 => f' b j (by omega)) ?_ ?_
        · rw [e7, up_s, List.length_tail]; omega
        · exact cl5.tail.mono fun i _ _ => ⟨f' 186 i (by omega), f' 187 i (by omega)⟩
      have q' : TownM h' (stT (keepT T) (dropS T.st c (T.st.co c).tail)) := q5.step T' (fun b j z => f' b j (by omega)) q.ok.now
      have ff : Fr sAm h h' := f5.kpm.tr (f'.mono fun b j z => by unfold sAm sQm; omega)
      have hy : (0 ≤ c ∧ c < T.en.cm) ∧ T.st.co c ≠ [] := ⟨⟨c0, c1⟩, ne⟩
      have := hp h' (e5.tr x') ff.am (by
        have z : zScrape Z c = zS Z (some (stT (keepT T) (dropS T.st c (T.st.co c).tail))) := by unfold zScrape; rw [hs]; exact if_pos hy
        rw [z]; exact I.act (e5.tr x') ff q')
      rw [show aScrape Z c = topL (T.st.co c) by unfold aScrape; rw [hs]; exact if_pos hy] at this
      exact this
    · have ne : T.st.co c = [] := List.length_eq_zero_iff.mp (by omega)
      exact no (by unfold zScrape; rw [hs]; exact if_neg fun z => z.2 ne) (by unfold aScrape; rw [hs]; exact if_neg fun z => z.2 ne)
  · rw [if_neg hc]
    refine ⟨fun _ => ?_, fun z => absurd rfl z⟩
    cases hs : Z.s with
    | none => exact no (by unfold zScrape; rw [hs]) (by unfold aScrape; rw [hs])
    | some T =>
      rw [hs] at hc
      exact no (by unfold zScrape; rw [hs]; exact if_neg fun z => hc z.1) (by unfold aScrape; rw [hs]; exact if_neg fun z => hc z.1)
/-! vote -/
def voteS (T : Tn) (t : Int) : St := bareS (stripS T.en T.st t) (bOr T.st.bare (bShl 1 t))
def zVote (Z : Zt) (t : Int) : Zt := match Z.s with
  | none => Z
  | some T => if (0 ≤ t ∧ t < T.en.tm) ∧ ¬ hs T.st.bare t then zS Z (some (stT (keepT T) (voteS T t))) else Z
def aVote (Z : Zt) (t : Int) : Int := match Z.s with
  | none => -1
  | some T => if (0 ≤ t ∧ t < T.en.tm) ∧ ¬ hs T.st.bare t then lenF T.en T.st t else -1
theorem oX_vote (I : IX h Z) {t : Int} (hp : ∀ h' : Mem, EX h h' → FrX h h' → IX h' (zVote Z t) → P (aVote Z t) h') : kX0_vote G l t h P := by
  have no : zVote Z t = Z → aVote Z t = -1 → P (-1) h := fun a b => by
    have := hp h (EX.rf I.oz) (fun _ _ _ _ => rfl) (by rw [a]; exact I)
    rw [b] at this; exact this
  refine eX0_vote fun X C e9 B => ⟨I.xs, I.isThing fun _ => ?_⟩
  by_cases hc : 0 ≤ t ∧ t < tmO Z.s
  · obtain ⟨T, es, c0, c1⟩ := tmO_s hc
    rw [if_pos hc]
    obtain ⟨t2, q⟩ := I.tn es
    have b2 : h 2 12 = T.st.bare := q.tr.td.1.2
    rw [b2]
    refine ⟨fun z => (by cases z), fun _ => ⟨t2, sX0_has fun _ => ?_⟩⟩
    by_cases hb : hs T.st.bare t
    · rw [if_pos hb]
      exact ⟨fun z => (by cases z), fun _ => no (by unfold zVote; rw [es]; exact if_neg fun z => z.2 hb) (by unfold aVote; rw [es]; exact if_neg fun z => z.2 hb)⟩
    · rw [if_neg hb]
      refine ⟨fun _ => sX0_keeps I.xs t2 q fun h5 e5 f5 q5 _ => ⟨(f5 1 0 (by unfold sUd; omega)).trans t2, sX1_bares q5.tr c0 c1 fun h' e' f' T' _ => ?_⟩, fun z => absurd rfl z⟩
      have q' : TownX h' 2 (stT (keepT T) (voteS T t)) := q5.step (S := voteS T t) T' (Or.inl (by decide)) f'.gt q.ok.now
      have ff : Fr sAx h h' := f5.udx.tr f'.gt.tgx
      have hy : (0 ≤ t ∧ t < T.en.tm) ∧ ¬ hs T.st.bare t := ⟨⟨c0, c1⟩, hb⟩
      have := hp h' (e5.tr e') ff.ax (by
        have z : zVote Z t = zS Z (some (stT (keepT T) (voteS T t))) := by unfold zVote; rw [es]; exact if_pos hy
        rw [z]; exact I.act (e5.tr e') ff t2 q')
      rw [show aVote Z t = lenF T.en T.st t by unfold aVote; rw [es]; exact if_pos hy] at this
      exact this
  · rw [if_neg hc]
    refine ⟨fun _ => ?_, fun z => absurd rfl z⟩
    cases es : Z.s with
    | none => exact no (by unfold zVote; rw [es]) (by unfold aVote; rw [es])
    | some T =>
      rw [es] at hc
      exact no (by unfold zVote; rw [es]; exact if_neg fun z => hc z.1) (by unfold aVote; rw [es]; exact if_neg fun z => hc z.1)
theorem lenN_bare (S : St) (b : Int) (a : Int) : ∀ n : Nat, lenN (bareS S b) a n = lenN S a n
  | 0 => rfl
  | n + 1 => by rw [lenN, lenN, lenN_bare S b a n]; rfl
theorem bOr_R (x y : Int) : R32 (bOr x y) := by
  unfold bOr
  exact ⟨Int32.le_toInt _, Int32.toInt_lt _⟩
theorem MR.bare {h h' : Mem} {E : En} {S : St} (T : MR h E S) {b : Int} (e : Ext h h') (f : Fr (fun b j => b = 178 ∧ j = 8) h h') (hb : h' 178 8 = b) (R : R32 b) : MR h' E (bareS S b) :=
  ⟨T.ms.ext e, T.en, ⟨T.st.now, R, T.st.co, T.st.purse⟩, T.te.keep fun c j z => f c j (by omega), ⟨(f 178 9 (by omega)).trans T.td.1.1, hb⟩, fun c c0 c1 => ⟨(f 185 c (by omega)).trans (T.co c0 c1).1, (T.co c0 c1).2.mono fun i _ _ => ⟨f 186 i (by omega), f 187 i (by omega)⟩⟩, fun p p0 p1 => (f 182 p (by omega)).trans (T.td.2.2 p p0 p1)⟩
theorem oM_vote (I : IM h Z) {t : Int} (hp : ∀ h' : Mem, EX h h' → FrM h h' → IM h' (zVote Z t) → P (aVote Z t) h') : kX3_vote G l t h P := by
  have no : zVote Z t = Z → aVote Z t = -1 → P (-1) h := fun a b => by
    have := hp h (EX.rf I.oz) (fun _ _ _ => rfl) (by rw [a]; exact I)
    rw [b] at this; exact this
  refine eX3_vote fun X C e9 B => ⟨I.ms, I.isThing fun _ => ?_⟩
  by_cases hc : 0 ≤ t ∧ t < tmO Z.s
  · obtain ⟨T, es, c0, c1⟩ := tmO_s hc
    rw [if_pos hc]
    have q := I.tn es
    refine ⟨fun z => (by cases z), fun _ => sX3_isBare I.ms fun _ => ?_⟩
    rw [q.mr.td.1.2]
    by_cases hb : hs T.st.bare t
    · rw [if_pos hb]
      exact ⟨fun z => (by cases z), fun _ => no (by unfold zVote; rw [es]; exact if_neg fun z => z.2 hb) (by unfold aVote; rw [es]; exact if_neg fun z => z.2 hb)⟩
    · rw [if_neg hb]
      refine ⟨fun _ => sX3_keeps q fun h5 e5 f5 q5 _ => ?_, fun z => absurd rfl z⟩
      intro h6 e6
      have b5 : h5 178 8 = T.st.bare := q5.mr.td.1.2
      have x6 : EX h5 h6 := by rw [e6]; exact EX_up (EX.rf e5.2) q5.mr.ms.k178 (by decide) rfl (by decide) (okI_a (Or.inl rfl) (bOr_R _ _))
      have f6 : Fr (fun b j => b = 178 ∧ j = 8) h5 h6 := by rw [e6]; exact (Fr.rf _ _).up ⟨rfl, rfl⟩
      have T6 : MR h6 T.en (bareS T.st (bOr T.st.bare (bShl 1 t))) := q5.mr.bare x6.1 f6 (by rw [e6, up_s, b5]) (bOr_R _ _)
      refine sX3_barely T6 c0 c1 fun h' e' f' T' _ => ?_
      have f56 : ∀ b j : Int, ¬ sM1 b j → h' b j = h5 b j := fun b j n1 => (f' b j n1).trans (f6 b j (by unfold sM1 at n1; omega))
      have q' : TownM h' (stT (keepT T) (voteS T t)) := q5.step (S := voteS T t) T' (fun b j z => f56 b j (by unfold sM1; omega)) q.ok.now
      have ff : Fr sAm h h' := f5.kpm.tr (fun b j z => f56 b j (by unfold sAm sQm at z; unfold sM1; omega))
      have hy : (0 ≤ t ∧ t < T.en.tm) ∧ ¬ hs T.st.bare t := ⟨⟨c0, c1⟩, hb⟩
      have := hp h' ((e5.tr x6).tr e') ff.am (by
        have z : zVote Z t = zS Z (some (stT (keepT T) (voteS T t))) := by unfold zVote; rw [es]; exact if_pos hy
        rw [z]; exact I.act ((e5.tr x6).tr e') ff q')
      rw [show aVote Z t = lenF T.en T.st t by unfold aVote; rw [es]; exact if_pos hy] at this
      rw [show lenF T.en (bareS T.st (bOr T.st.bare (bShl 1 t))) t = lenF T.en T.st t from lenN_bare _ _ _ _]
      exact this
  · rw [if_neg hc]
    refine ⟨fun _ => ?_, fun z => absurd rfl z⟩
    cases es : Z.s with
    | none => exact no (by unfold zVote; rw [es]) (by unfold aVote; rw [es])
    | some T =>
      rw [es] at hc
      exact no (by unfold zVote; rw [es]; exact if_neg fun z => hc z.1) (by unfold aVote; rw [es]; exact if_neg fun z => hc z.1)
/-! undo -/
def undoT (T : Tn) : Option Tn := (T.un.getLast?).map fun S => (T.en, S, T.told, T.un.dropLast, T.lg)
def zUndo (Z : Zt) : Zt := match Z.s with
  | none => Z
  | some T => (match undoT T with
    | none => Z
    | some T' => zS Z (some T'))
def aUndo (Z : Zt) : Int := match Z.s with
  | none => -2
  | some T => if T.un = [] then -2 else (T.un.length : Int) - 1
theorem undo_get {u : List St} (h : u ≠ []) : ∃ S : St, u.getLast? = some S ∧ u[u.length - 1]? = some S :=
  ⟨u.getLast h, List.getLast?_eq_some_getLast h, by rw [← List.getLast?_eq_getElem?]; exact List.getLast?_eq_some_getLast h⟩
theorem drop_get {u : List St} {k : Nat} {S : St} (h : u.dropLast[k]? = some S) : k < u.length - 1 ∧ u[k]? = some S := by
  have := (getq h).1
  rw [List.length_dropLast] at this
  refine ⟨this, ?_⟩
  rw [List.getElem?_dropLast, if_pos this] at h
  exact h
theorem TD.like {h h' : Mem} {a : Int} {E : En} {S : St} (T : TD h a E S) (K : EnOk E) (O : StOk E S) (q : h' a 11 = h a 11 ∧ h' a 12 = h a 12) (lk : Like h' a h a 11 14) : TD h' a E S := by
  have Kc := K.cm
  have Kp := K.pm
  have t11 : tLen 11 = 16 := rfl
  have t12 : tLen 12 = 80 := rfl
  have t13 : tLen 13 = 80 := rfl
  have t14 : tLen 14 = 4 := rfl
  refine ⟨⟨q.1.trans T.1.1, q.2.trans T.1.2⟩, fun c c0 c1 => ?_, fun p p0 p1 => (lk 14 (by decide) (by decide) p p0 (by omega)).trans (T.2.2 p p0 p1)⟩
  have Z := (O.co c c0 c1).1
  exact ⟨(lk 11 (by decide) (by decide) c c0 (by omega)).trans (T.2.1 c c0 c1).1, (T.2.1 c c0 c1).2.mono fun i i0 i1 => ⟨lk 12 (by decide) (by decide) i (by omega) (by omega), lk 13 (by decide) (by decide) i (by omega) (by omega)⟩⟩
theorem TnOk.undo {T T' : Tn} (q : TnOk T) (h : undoT T = some T') : TnOk T' := by
  unfold undoT at h
  obtain ⟨S, hS, e⟩ := Option.map_eq_some_iff.mp h
  subst e
  have m : S ∈ T.un := List.mem_of_getLast? hS
  refine ⟨?_, q.lg, q.told, (q.uns S m).2, fun R hR => q.uns R ((List.dropLast_sublist T.un).subset hR), q.lgs⟩
  show T.un.dropLast.length ≤ 20
  rw [List.length_dropLast]; have := q.un; omega
theorem oX_undo (I : IX h Z) (hp : ∀ h' : Mem, EX h h' → FrX h h' → IX h' (zUndo Z) → P (aUndo Z) h') : kX0_undo G l h P := by
  have no : zUndo Z = Z → aUndo Z = -2 → P (-2) h := fun a b => by
    have := hp h (EX.rf I.oz) (fun _ _ _ _ => rfl) (by rw [a]; exact I)
    rw [b] at this; exact this
  refine eX0_undo fun X C e9 B => ⟨I.xs, fun q => ?_, fun q => ?_⟩
  · cases es : Z.s with
    | none => exact no (by unfold zUndo; rw [es]) (by unfold aUndo; rw [es])
    | some T => have := (I.tn es).1; omega
  · cases es : Z.s with
    | none => exact absurd (I.no es) q
    | some T =>
      obtain ⟨t2, q⟩ := I.tn es
      have Kc := q.tr.en.cm
      have Kp := q.tr.en.pm
      have h20 := q.ok.un
      rw [q.un.1]
      refine ⟨t2, fun n => ?_, fun n => ?_⟩
      · have ne : T.un ≠ [] := fun z => by rw [z] at n; exact n rfl
        have lp : 0 < T.un.length := List.length_pos_iff.mpr ne
        obtain ⟨S, g1, g2⟩ := undo_get ne
        have eu : undoT T = some (T.en, S, T.told, T.un.dropLast, T.lg) := by unfold undoT; rw [g1]; rfl
        refine ⟨⟨by omega, by omega⟩, fun h5 e5 => ?_⟩
        have x5 : EX h h5 := by rw [e5]; exact EX_up (EX.rf I.oz) q.tr.tw.k (by decide) rfl (by decide) (okI_i rfl ⟨by omega, by omega⟩)
        have f5 : Fr (fun b j => b = 2 ∧ j = 9) h h5 := by rw [e5]; exact (Fr.rf _ _).up ⟨rfl, rfl⟩
        refine sX1_takes (q.tr.tw.ext x5.1) (by omega) (by omega) (gU_ok h5 2 _) fun h' e' f' m' lk _ => ?_
        have r := q.un.2 _ S g2
        rw [show ((T.un.length - 1 : Nat) : Int) = (T.un.length : Int) - 1 by omega] at r
        have O := (q.ok.uns S (List.mem_of_getElem? g2)).1
        have r5 : RowX h5 2 ((T.un.length : Int) - 1) T.en S := r.like (by omega) (by omega) O fun j _ _ => f5 (2 + 15) j (by omega)
        have ff0 : ∀ b j : Int, ¬ sSd 2 b j → ¬ (b = 2 ∧ j = 9) → h' b j = h b j := fun b j n1 n2 => (f' b j n1).trans (f5 b j n2)
        have T' : TR h' 2 T.en S := by
          refine ⟨(q.tr.tw.ext x5.1).ext e'.1, q.tr.en, O, q.tr.te.keep fun b j z => ff0 b j (by unfold sSd; omega) (by omega), ?_⟩
          exact TD.like r5.gU q.tr.en O m' lk
        have q' : TownX h' 2 (T.en, S, T.told, T.un.dropLast, T.lg) := by
          refine ⟨q.ok.undo eu, T', q.tt.like (by omega) (by omega) q.ok.told (ff0 2 10 (by unfold sSd; omega) (by omega)) (fun k x k0 k1 _ _ => ff0 (2 + k) x (by unfold sSd; omega) (by omega)), ⟨?_, fun k R hR => ?_⟩, q.lg.like q.ok.lg (ff0 2 8 (by unfold sSd; omega) (by omega)) (fun j _ _ => ff0 (2 + 10) j (by unfold sSd; omega) (by omega))⟩
          · rw [f' 2 9 (by unfold sSd; omega), e5, up_s]
            show _ = ((T.un.dropLast.length : Nat) : Int)
            rw [List.length_dropLast]; omega
          · obtain ⟨d1, d2⟩ := drop_get hR
            exact (q.un.2 k R d2).like (by omega) (by omega) (q.ok.uns R (List.mem_of_getElem? d2)).1 fun j _ _ => ff0 (2 + 15) j (by unfold sSd; omega) (by omega)
        have ff : Fr sAx h h' := fun b j z => ff0 b j (by unfold sAx at z; unfold sSd; omega) (by unfold sAx at z; omega)
        have := hp h' (x5.tr e') ff.ax (by
          have z : zUndo Z = zS Z (some (T.en, S, T.told, T.un.dropLast, T.lg)) := by unfold zUndo; rw [es]; dsimp only; rw [eu]
          rw [z]; exact I.act (x5.tr e') ff t2 q')
        rw [show aUndo Z = (T.un.length : Int) - 1 by unfold aUndo; rw [es]; exact if_neg ne] at this
        refine ⟨(ff0 1 0 (by unfold sSd; omega) (by omega)).trans t2, ?_⟩
        rw [f' 2 9 (by unfold sSd; omega), e5, up_s]; exact this
      · have ne : T.un = [] := List.length_eq_zero_iff.mp (by omega)
        exact no (by unfold zUndo; rw [es]; dsimp only; unfold undoT; rw [ne]; rfl) (by unfold aUndo; rw [es]; exact if_pos ne)
theorem oM_undo (I : IM h Z) (hp : ∀ h' : Mem, EX h h' → FrM h h' → IM h' (zUndo Z) → P (aUndo Z) h') : kX3_undo G l h P := by
  have no : zUndo Z = Z → aUndo Z = -2 → P (-2) h := fun a b => by
    have := hp h (EX.rf I.oz) (fun _ _ _ => rfl) (by rw [a]; exact I)
    rw [b] at this; exact this
  refine eX3_undo fun X C e9 B => ⟨I.ms, ?_⟩
  cases es : Z.s with
  | none =>
    rw [(I.no es).2]
    exact ⟨fun z => absurd rfl z, fun _ => no (by unfold zUndo; rw [es]) (by unfold aUndo; rw [es])⟩
  | some T =>
    have q := I.tn es
    have Kc := q.mr.en.cm
    have Kp := q.mr.en.pm
    have h20 := q.ok.un
    rw [q.un.1]
    refine ⟨fun n => ?_, fun n => ?_⟩
    · have ne : T.un ≠ [] := fun z => by rw [z] at n; exact n rfl
      have lp : 0 < T.un.length := List.length_pos_iff.mpr ne
      obtain ⟨S, g1, g2⟩ := undo_get ne
      have eu : undoT T = some (T.en, S, T.told, T.un.dropLast, T.lg) := by unfold undoT; rw [g1]; rfl
      refine ⟨⟨by omega, by omega⟩, fun h5 e5 => ?_⟩
      have x5 : EX h h5 := by rw [e5]; exact EX_up (EX.rf I.oz) I.ms.k177 (by decide) rfl (by decide) (okI_i rfl ⟨by omega, by omega⟩)
      have f5 : Fr (fun b j => b = 177 ∧ j = 51) h h5 := by rw [e5]; exact (Fr.rf _ _).up ⟨rfl, rfl⟩
      refine sX3_takes (I.ms.ext x5.1) (by omega) (by omega) (gP_ok h5 _) fun h' e' f' m' _ => ?_
      have r := q.un.2 _ S g2
      rw [show ((T.un.length - 1 : Nat) : Int) = (T.un.length : Int) - 1 by omega] at r
      have O := (q.ok.uns S (List.mem_of_getElem? g2)).1
      have r5 : RowM h5 ((T.un.length : Int) - 1) T.en S := r.like (by omega) (by omega) O fun j _ _ => f5 216 j (by omega)
      have d5 := r5.gP
      have ff0 : ∀ b j : Int, ¬ sTk b j → ¬ (b = 177 ∧ j = 51) → h' b j = h b j := fun b j n1 n2 => (f' b j n1).trans (f5 b j n2)
      have T' : MR h' T.en S := by
        refine ⟨(I.ms.ext x5.1).ext e'.1, q.mr.en, O, q.mr.te.keep fun b j z => ff0 b j (by unfold sTk; omega) (by omega), ⟨m'.2.1.trans d5.1.1, m'.1.trans d5.1.2⟩, fun c c0 c1 => ?_, fun p p0 p1 => (m'.2.2.1 p p0 (by omega)).trans (d5.2.2 p p0 p1)⟩
        have Z := (O.co c c0 c1).1
        exact ⟨(m'.2.2.2.1 c c0 (by omega)).trans (d5.2.1 c c0 c1).1, (d5.2.1 c c0 c1).2.mono fun i i0 i1 => ⟨m'.2.2.2.2.1 i (by omega) (by omega), m'.2.2.2.2.2 i (by omega) (by omega)⟩⟩
      have q' : TownM h' (T.en, S, T.told, T.un.dropLast, T.lg) := by
        refine ⟨q.ok.undo eu, T', q.td.like (by omega) (by omega) q.ok.told (ff0 194 0 (by unfold sTk; omega) (by omega)) (fun i _ _ => ff0 191 i (by unfold sTk; omega) (by omega)) (fun i _ _ => ff0 192 i (by unfold sTk; omega) (by omega)) (fun i _ _ => ff0 193 i (by unfold sTk; omega) (by omega)), ⟨?_, fun k R hR => ?_⟩, q.lg.like q.ok.lg (ff0 178 10 (by unfold sTk; omega) (by omega)) fun j _ _ => ⟨ff0 188 j (by unfold sTk; omega) (by omega), ff0 189 j (by unfold sTk; omega) (by omega), ff0 190 j (by unfold sTk; omega) (by omega)⟩⟩
        · rw [f' 177 51 (by unfold sTk; omega), e5, up_s]
          show _ = ((T.un.dropLast.length : Nat) : Int)
          rw [List.length_dropLast]; omega
        · obtain ⟨d1, d2⟩ := drop_get hR
          exact (q.un.2 k R d2).like (by omega) (by omega) (q.ok.uns R (List.mem_of_getElem? d2)).1 fun j _ _ => ff0 216 j (by unfold sTk; omega) (by omega)
      have ff : Fr sAm h h' := fun b j z => ff0 b j (by unfold sAm sQm at z; unfold sTk; omega) (by unfold sAm at z; omega)
      have := hp h' (x5.tr e') ff.am (by
        have z : zUndo Z = zS Z (some (T.en, S, T.told, T.un.dropLast, T.lg)) := by unfold zUndo; rw [es]; dsimp only; rw [eu]
        rw [z]; exact I.act (x5.tr e') ff q')
      rw [show aUndo Z = (T.un.length : Int) - 1 by unfold aUndo; rw [es]; exact if_neg ne] at this
      rw [f' 177 51 (by unfold sTk; omega), e5, up_s]; exact this
    · have ne : T.un = [] := List.length_eq_zero_iff.mp (by omega)
      exact no (by unfold zUndo; rw [es]; dsimp only; unfold undoT; rw [ne]; rfl) (by unfold aUndo; rw [es]; exact if_pos ne)
end
