/-! a town's hour by a rule: the words, the cell that is wanted most -/
set_option maxRecDepth 100000
/-- what a rule is asked with -/
def wordF (E : En) (S : St) (p c : Int) : Int → Int := fun i =>
  if i = 0 then p else if i = 1 then c else if i = 2 then E.thingOf c else if i = 3 then E.rent (E.thingOf c) else if i = 4 then topL (S.co c) else if i = 5 then (if wetL E S.now (S.co c) = true then 1 else 0)
  else if i = 6 then ownC E S S.now c else if i = 7 then cells E (ownC E S S.now) p (E.thingOf c) else if i = 8 then whoF E S (E.thingOf c) else if i = 9 then ((S.co c).length : Int) else if i = 10 then S.purse p else if i = 11 then S.now else (if rainF E S.now = true then 1 else 0)
/-- rules ask only of the words -/
def okL (L : Vf) : Prop := ∀ w w' : Int → Int, (∀ i : Int, 0 ≤ i → i < 13 → w i = w' i) → L w = L w'
def wantN (E : En) (S : St) (L : Vf) (p : Int) : Nat → Int × Int
  | 0 => (-1, 0)
  | n + 1 => if canF E S n p = true ∧ L (wordF E S p n) > (wantN E S L p n).2 then ((n : Int), L (wordF E S p n)) else wantN E S L p n
def cellF (E : En) (S : St) (L : Vf) (p : Int) : Int := (wantN E S L p E.cm.toNat).1
/-- the painters' turns -/
def turnN (E : En) (S : St) (L : Vf) : Nat → St × Int
  | 0 => (S, 0)
  | n + 1 => if cellF E (turnN E S L n).1 L n = -1 then turnN E S L n else (putS (costS E (turnN E S L n).1 n) (cellF E (turnN E S L n).1 L n) n, (turnN E S L n).2 + 1)
def paintF (E : En) (S : St) (o : Option Vf) : St × Int := match o with
  | none => (S, 0)
  | some L => turnN E S L E.pm.toNat
theorem wantN_rng (E : En) (S : St) (L : Vf) (p : Int) : ∀ n : Nat, (wantN E S L p n).1 = -1 ∨ 0 ≤ (wantN E S L p n).1 ∧ (wantN E S L p n).1 < n ∧ canF E S (wantN E S L p n).1 p = true
  | 0 => Or.inl rfl
  | n + 1 => by
    rw [wantN]
    split
    · next c => exact Or.inr ⟨by show (0 : Int) ≤ (n : Int); omega, by show (n : Int) < ((n + 1 : Nat) : Int); omega, c.1⟩
    · rcases wantN_rng E S L p n with q | ⟨a, b, c⟩
      · exact Or.inl q
      · exact Or.inr ⟨a, by omega, c⟩
theorem StOk.turn {E : En} {S : St} (K : EnOk E) (h : StOk E S) (L : Vf) : ∀ n : Nat, (n : Int) ≤ E.pm → StOk E (turnN E S L n).1 ∧ (turnN E S L n).1.now = S.now ∧ 0 ≤ (turnN E S L n).2 ∧ (turnN E S L n).2 ≤ n
  | 0, _ => ⟨h, rfl, Int.le_refl _, Int.le_refl _⟩
  | n + 1, hn => by
    obtain ⟨a, b, c, d⟩ := StOk.turn K h L n (by omega)
    rw [turnN]
    split
    · exact ⟨a, b, c, by omega⟩
    · next q =>
      have r := (wantN_rng E (turnN E S L n).1 L n E.cm.toNat).resolve_left q
      have hc : E.cost ≤ (turnN E S L n).1.purse n := by
        have := r.2.2
        simp [canF] at this
        exact this.2
      exact ⟨(a.cost K hc).put (by omega) (by omega), b, by show (0 : Int) ≤ _ + 1; omega, by show _ + 1 ≤ ((n + 1 : Nat) : Int); omega⟩
section
variable {G : GT} {a : Int} {E : En} {P : Int → Mem → Prop} {l : Launch}
theorem TR.words {h h' : Mem} {S : St} (T : TR h a E S) (e : Ext h h') (f : Fr (fun b _ => b = a + 16 ∨ b = a + 17) h h') : TR h' a E S :=
  T.keep e fun b j q => f b j (by unfold tIn at q; omega)
theorem wr_of {h : Mem} (T : TownS h a) : Wr h (a + 16) := ⟨T.k28, by rw [T.l28]; decide⟩
theorem upJ {h0 h h' : Mem} {S : St} (B : EX h0 h) (T : TR h a E S) {i v : Int} (e : h' = up h (a + 16) i v) (i0 : 0 ≤ i) (R : R64 v) : EX h0 h' ∧ TR h' a E S ∧ Fr (fun b _ => b = a + 16 ∨ b = a + 17) h h' := by
  have x : EX h h' := by rw [e]; exact EX_up (EX.rf B.2) T.tw.k28 (by decide) rfl i0 (okI_l R)
  have f : Fr (fun b _ => b = a + 16 ∨ b = a + 17) h h' := by rw [e]; exact (Fr.rf _ _).up (Or.inl rfl)
  exact ⟨B.tr x, T.words x.1 f, f⟩
theorem R64.small {x : Int} (h : -2147483648 ≤ x ∧ x < 2147483648) : R64 x := ⟨by omega, by omega⟩
theorem sX1_fillsWords {h : Mem} {S : St} (T : TR h a E S) {p c : Int} (c0 : 0 ≤ c) (c1 : c < E.cm) (p0 : 0 ≤ p) (p1 : p < E.pm)
    (hp : ∀ h' : Mem, EX h h' → Fr (fun b _ => b = a + 16 ∨ b = a + 17) h h' → TR h' a E S → (∀ i : Int, 0 ≤ i → i < 13 → h' (a + 16) i = wordF E S p c i) → P 0 h') : kX1_fillsWords G l a p c h P := by
  refine eX1_fillsWords fun X C e B => ?_
  have Kc := T.en.cm
  have Kp := T.en.pm
  have Kt := T.en.tm
  have th := T.en.th c c0 c1
  have rn := T.en.rent (E.thingOf c) th.1 th.2.1
  have Kn := T.st.now
  have Z := T.st.co c c0 c1
  have hpu := T.st.purse p p0 p1
  refine ⟨T.tw, c0, by omega, fun t et => ?_⟩
  rw [T.te.2.2.1 c c0 c1] at et
  subst et
  intro h4 e4 h7 e7 h10 e10
  obtain ⟨x4, T4, f4⟩ := upJ (EX.rf B.1.2) T e4 (by decide) (R64.small ⟨by omega, by omega⟩)
  obtain ⟨x7, T7, f7⟩ := upJ x4 T4 e7 (by decide) (R64.small ⟨by omega, by omega⟩)
  obtain ⟨x10, T10, f10⟩ := upJ x7 T7 e10 (by decide) (R64.small ⟨by omega, by omega⟩)
  rw [(T.te.2.1 _ th.1 th.2.1).2.2]
  refine ⟨th.1, by omega, fun h15 e15 => ?_⟩
  obtain ⟨x15, T15, f15⟩ := upJ x10 T10 e15 (by decide) (R64.small ⟨by omega, by omega⟩)
  refine sX1_top T15 c0 c1 fun _ h24 e24 => ?_
  have htop : -1 ≤ topL (S.co c) ∧ topL (S.co c) ≤ 4 := by
    cases hl : S.co c with
    | nil => exact ⟨by decide, by decide⟩
    | cons x r =>
      obtain ⟨b, w⟩ := x
      rw [hl] at Z
      have := Z.2.1 b w List.mem_cons_self
      exact ⟨by show -1 ≤ b; omega, by show b ≤ 4; omega⟩
  obtain ⟨x24, T24, f24⟩ := upJ x15 T15 e24 (by decide) (R64.small ⟨by omega, by omega⟩)
  have w5 : ∀ (i : Int), 0 ≤ i → i < 5 → h24 (a + 16) i = wordF E S p c i := fun i i0 i1 => by
    rw [e24]
    by_cases q4 : i = 4
    · subst q4; rw [up_s]; rfl
    · rw [up_i q4, e15]
      by_cases q3 : i = 3
      · subst q3; rw [up_s]; rfl
      · rw [up_i q3, e10]
        by_cases q2 : i = 2
        · subst q2; rw [up_s]; rfl
        · rw [up_i q2, e7]
          by_cases q1 : i = 1
          · subst q1; rw [up_s]; rfl
          · rw [up_i q1, e4, show i = 0 by omega, up_s]; rfl
  have f024 : Fr (fun b _ => b = a + 16 ∨ b = a + 17) h h24 := (((f4.tr f7).tr f10).tr f15).tr f24
  have rest : ∀ v : Int, v = (if wetL E S.now (S.co c) = true then 1 else 0) → V G X 4 0 0 (QF G X 3 0 0 (PR h P)) 74 [(0, rf a), (1, iv p), (2, iv c), (3, iv (E.thingOf c))] [jv v, iv 5, rf (a + 16)] h24 := fun v ev => by
    have rv : 0 ≤ v ∧ v ≤ 1 := by rw [ev]; split <;> exact ⟨by decide, by decide⟩
    refine wX1_fillsWords_L74 C ⟨x24, B.2.1, B.2.2, ⟨by omega, by omega⟩, R64.small ⟨by omega, by omega⟩⟩ ⟨T24.tw, T24.tw.k28, by rw [T24.tw.l28]; decide, fun h3 e3 => ?_⟩
    obtain ⟨x3, T3, f3⟩ := upJ x24 T24 e3 (by decide) (R64.small ⟨by omega, by omega⟩)
    refine sX1_ownerOf T3 c0 c1 fun _ h12 e12 => ?_
    have hown : -1 ≤ ownC E S S.now c ∧ ownC E S S.now c ≤ 4 := by
      have := ownL_rng (E := E) (hour := S.now) Z.2.1
      unfold ownC
      omega
    obtain ⟨x12, T12, f12⟩ := upJ x3 T3 e12 (by decide) (R64.small ⟨by omega, by omega⟩)
    refine sX1_cellsOf T12 th.1 th.2.1 fun _ h21 e21 => ?_
    have hcel := cells_rng T.en (ownC E S S.now) p th.1 th.2.1
    obtain ⟨x21, T21, f21⟩ := upJ x12 T12 e21 (by decide) (R64.small ⟨by omega, by omega⟩)
    refine sX1_whose T21 th.1 th.2.1 fun h25 e25 fo _ h30 e30 => ?_
    have hwho := whoF_rng T.en S th.1 th.2.1
    have fo' : Fr (fun b _ => b = a + 16 ∨ b = a + 17) h21 h25 := fo.mono fun b j q => Or.inr q
    have T25 := T21.words e25.1 fo'
    have x25 := x21.tr e25
    obtain ⟨x30, T30, f30⟩ := upJ x25 T25 e30 (by decide) (R64.small ⟨by omega, by omega⟩)
    refine ⟨c0, by omega, fun h35 e35 => ?_⟩
    rw [(T25.co c0 c1).1] at e35
    have hlen := Z.1
    obtain ⟨x35, T35, f35⟩ := upJ x30 T30 e35 (by decide) (R64.small ⟨by omega, by omega⟩)
    refine ⟨p0, by omega, fun h40 e40 h43 e43 => ?_⟩
    rw [T25.td.2.2 p p0 p1] at e40
    rw [T25.td.1.1] at e43
    obtain ⟨x40, T40, f40⟩ := upJ x35 T35 e40 (by decide) (R64.small ⟨by omega, by omega⟩)
    obtain ⟨x43, T43, f43⟩ := upJ x40 T40 e43 (by decide) (R64.small ⟨by omega, by omega⟩)
    rw [T25.td.1.1]
    have fin : ∀ (h53 : Mem) (z : Int), h53 = up h43 (a + 16) 12 z → z = (if rainF E S.now = true then 1 else 0) → P 0 h53 := fun h53 z e53 ez => by
      have rz : 0 ≤ z ∧ z ≤ 1 := by rw [ez]; split <;> exact ⟨by decide, by decide⟩
      obtain ⟨x53, T53, f53⟩ := upJ x43 T43 e53 (by decide) (R64.small ⟨by omega, by omega⟩)
      refine hp h53 x53 ((((((((f024.tr f3).tr f12).tr f21).tr fo').tr f30).tr f35).tr f40).tr f43 |>.tr f53) T53 fun i i0 i1 => ?_
      rw [e53]
      by_cases q12 : i = 12
      · subst q12; rw [up_s, ez]; rfl
      · rw [up_i q12, e43]
        by_cases q11 : i = 11
        · subst q11; rw [up_s]; rfl
        · rw [up_i q11, e40]
          by_cases q10 : i = 10
          · subst q10; rw [up_s]; rfl
          · rw [up_i q10, e35]
            by_cases q9 : i = 9
            · subst q9; rw [up_s]; rfl
            · rw [up_i q9, e30]
              by_cases q8 : i = 8
              · subst q8; rw [up_s]; rfl
              · rw [up_i q8, fo (a + 16) i (by unfold sOw; omega), e21]
                by_cases q7 : i = 7
                · subst q7; rw [up_s]; rfl
                · rw [up_i q7, e12]
                  by_cases q6 : i = 6
                  · subst q6; rw [up_s]; rfl
                  · rw [up_i q6, e3]
                    by_cases q5 : i = 5
                    · subst q5; rw [up_s, ev]; rfl
                    · rw [up_i q5]; exact w5 i i0 (by omega)
    refine sX1_isRain T43 fun _ => ⟨fun z h53 e53 => fin h53 0 e53 ?_, fun z h56 e56 => fin h56 1 e56 ?_⟩
    · exact z.symm
    · by_cases q : rainF E S.now = true
      · rw [if_pos q]
      · rw [if_neg q] at z; exact absurd rfl z
  refine sX1_isWet T24 c0 c1 fun _ => ⟨fun z _ => rest 0 z.symm, fun z _ => rest 1 ?_⟩
  by_cases q : wetL E S.now (S.co c) = true
  · rw [if_pos q]
  · rw [if_neg q] at z; exact absurd rfl z
/-- a rule that a town is led by -/
theorem KF.tw {h h' : Mem} {S : St} (T : TR h a E S) (f : Fr (fun b _ => b = a + 16 ∨ b = a + 17) h h') : KF h h' := fun b j q => f b j fun z => by
  rcases z with z | z <;> rw [z] at q
  · rw [T.tw.k28] at q; unfold aK at q; omega
  · rw [T.tw.k29] at q; unfold aK at q; omega
theorem l_cellBy {S : St} {p r : Int} {cl : Cl} (p0 : 0 ≤ p) (p1 : p < E.pm) (K : EnOk E) (ok : okL (sumF cl)) {X : MX} {h0 : Mem} (C : Cx G X cX1_cellBy 9 RX1 403 0 0 (some .int) "cellBy") (hb : ∀ w, R64 (sumF cl w)) :
    ∀ (m n : Nat) (h : Mem), EX h0 h → TR h a E S → RuleX h r cl → (n : Int) + m = E.cm → (∀ h' : Mem, EX h h' → Fr (fun b _ => b = a + 16 ∨ b = a + 17) h h' → P (cellF E S (sumF cl) p) h') →
    V G X 9 0 0 (QF G X 0 0 0 (PI h0 P)) 8 [(0, rf a), (1, iv p), (2, rf r), (3, iv (wantN E S (sumF cl) p n).1), (4, jv (wantN E S (sumF cl) p n).2), (6, iv (n : Int))] [] h := by
  intro m
  have Kc := K.cm
  have Kp := K.pm
  have rw2 : ∀ n : Nat, R64 (wantN E S (sumF cl) p n).2 := fun n => by
    induction n with
    | zero => exact ⟨by show -9223372036854775808 ≤ (0 : Int); decide, by show (0 : Int) < 9223372036854775808; decide⟩
    | succ n ih =>
      rw [wantN]
      split
      · exact hb _
      · exact ih
  induction m with
  | zero =>
    intro n h B T R hn hp
    have wr := wantN_rng E S (sumF cl) p n
    refine wX1_cellBy_L8 C ⟨B, ⟨by omega, by omega⟩, ⟨by omega, by omega⟩, rw2 n, ⟨by omega, by omega⟩⟩ ⟨T.tw, R.1, ?_⟩
    rw [T.te.1.2.2.2.2.1]
    refine ⟨fun _ => ?_, fun q => absurd q (by omega)⟩
    have := hp h (EX.rf B.2) (Fr.rf _ _)
    rw [cellF, show E.cm.toNat = n by omega] at this
    exact this
  | succ m ih =>
    intro n h B T R hn hp
    have wr := wantN_rng E S (sumF cl) p n
    have r1 : R32 ((n : Int) + 1) := ⟨by omega, by omega⟩
    have en : wantN E S (sumF cl) p (n + 1) = if canF E S n p = true ∧ sumF cl (wordF E S p n) > (wantN E S (sumF cl) p n).2 then ((n : Int), sumF cl (wordF E S p n)) else wantN E S (sumF cl) p n := rfl
    refine wX1_cellBy_L8 C ⟨B, ⟨by omega, by omega⟩, ⟨by omega, by omega⟩, rw2 n, ⟨by omega, by omega⟩⟩ ⟨T.tw, R.1, ?_⟩
    rw [T.te.1.2.2.2.2.1]
    refine ⟨fun q => absurd q (by omega), fun _ => sX1_canPaint T (by omega) (by omega) p0 p1 fun _ => ⟨fun z => ?_, fun z => ⟨r1, fun B' => ?_⟩⟩⟩
    · have hc : canF E S n p = true := Classical.byContradiction fun y => by rw [if_neg y] at z; exact z rfl
      refine sX1_fillsWords T (by omega) (by omega) p0 p1 fun h10 e10 f10 T10 w10 _ => ?_
      have R10 := R.keep (KF.tw T f10) e10.1
      refine sX5_summed (wr_of T10.tw) R10 fun _ => ?_
      have ew : sumF cl (h10 (a + 16)) = sumF cl (wordF E S p n) := ok _ _ w10
      rw [ew]
      have nx := fun B' => ih (n + 1) h10 B' T10 R10 (by omega) fun h' e3 f3 => hp h' (e10.tr e3) (f10.tr f3)
      rw [en, show ((n + 1 : Nat) : Int) = (n : Int) + 1 by omega] at nx
      refine ⟨fun q => ⟨r1, fun B' => ?_⟩, fun q => ⟨r1, fun B' => ?_⟩⟩
      · rw [if_pos ⟨hc, q⟩] at nx; exact nx B'.1
      · rw [if_neg (fun y => by have := y.2; omega)] at nx; exact nx B'.1
    · have hc : ¬ canF E S n p = true := fun y => by rw [if_pos y] at z; cases z
      have nx := ih (n + 1) h B'.1 T R (by omega) hp
      rw [en, if_neg (fun y => hc y.1), show ((n + 1 : Nat) : Int) = (n : Int) + 1 by omega] at nx
      exact nx
theorem sX1_cellBy {h : Mem} {S : St} (T : TR h a E S) {p r : Int} {cl : Cl} (p0 : 0 ≤ p) (p1 : p < E.pm) (R : RuleX h r cl) (ok : okL (sumF cl)) (hb : ∀ w, R64 (sumF cl w))
    (hp : ∀ h' : Mem, EX h h' → Fr (fun b _ => b = a + 16 ∨ b = a + 17) h h' → P (cellF E S (sumF cl) p) h') : kX1_cellBy G l a p r h P := by
  refine eX1_cellBy fun X C e B B' => ?_
  have K := T.en.cm
  exact l_cellBy p0 p1 T.en ok C hb E.cm.toNat 0 h B'.1 T R (by omega) hp
end
