/-! the model's hour by a rule -/
set_option maxRecDepth 100000
section
variable {G : GT} {P : Int → Mem → Prop} {l : Launch}
/-- entries of a row push a value -/
def Says (h : Mem) (r a b : Int) (f : Vf) : Prop := 0 ≤ a ∧ a < b ∧ b ≤ 300 ∧ ∃ cs : List (Int × Int), a + (cs.length : Int) = b ∧ EntX h r a cs ∧ Push cs f
theorem sX3_answer {h : Mem} (M : MS h) {r a b : Int} (r0 : 0 ≤ r) (r1 : r < 6) {f : Vf} (q : Says h r a b f) (ok : okL f) (hw : ∀ i : Int, 0 ≤ i → i < 13 → R64 (h 212 i))
    (hp : ∀ h' : Mem, EX h h' → Fr sSt h h' → P (f (h 212)) h') : kX3_answer G l r a b h P := by
  obtain ⟨a0, ab, b1, cs, hc, en, pu⟩ := q
  refine eX3_answer fun X C e B B' => ?_
  obtain ⟨w, ew⟩ : ∃ w : Int → Int, w = fun i => if 0 ≤ i ∧ i < 13 then h 212 i else 0 := ⟨_, rfl⟩
  have hww : ∀ i, R64 (w i) := fun i => by
    rw [ew]; dsimp only
    split
    · next c => exact hw i c.1 c.2
    · exact ⟨by decide, by decide⟩
  have he : ∀ i : Int, 0 ≤ i → i < 13 → h 212 i = w i := fun i i0 i1 => by rw [ew]; dsimp only; rw [if_pos ⟨i0, i1⟩]
  have ef : f (h 212) = f w := ok _ _ he
  rw [ef] at hp
  exact l_answer r0 r1 b1 C cs a [] h B'.1 M a0 hc a0 en trivial he (pu w [] hww) hp
/-- the model's rule of number r -/
def RuleM (h : Mem) (r : Int) (cl : Cl) : Prop := 0 ≤ r ∧ r < 6 ∧ h 207 r = (cl.length : Int) ∧ cl.length ≤ 12 ∧ ∀ (k : Nat) (x : Vf × Option Tf), cl[k]? = some x →
  Says h r (h 208 (12 * r + k)) (h 209 (12 * r + k)) x.1 ∧ okL x.1 ∧ (match x.2 with
    | none => h 209 (12 * r + k) = h 210 (12 * r + k)
    | some g => Says h r (h 209 (12 * r + k)) (h 210 (12 * r + k)) (fun w => if g w = true then 1 else 0) ∧ okL (fun w => if g w = true then 1 else 0))
/-- the model's rules' rows -/
def rIn (b : Int) : Prop := 205 ≤ b ∧ b ≤ 210
theorem Says.keep {h h' : Mem} {r a b : Int} {f : Vf} (q : Says h r a b f) (k : ∀ b j : Int, rIn b → h' b j = h b j) : Says h' r a b f := by
  obtain ⟨a0, ab, b1, cs, hc, en, pu⟩ := q
  refine ⟨a0, ab, b1, cs, hc, fun i x hx => ?_, pu⟩
  rw [k 205 _ (by unfold rIn; omega), k 206 _ (by unfold rIn; omega)]
  exact en i x hx
theorem RuleM.keep {h h' : Mem} {r : Int} {cl : Cl} (q : RuleM h r cl) (k : ∀ b j : Int, rIn b → h' b j = h b j) : RuleM h' r cl := by
  obtain ⟨r0, r1, e, c, d⟩ := q
  refine ⟨r0, r1, (k 207 _ (by unfold rIn; omega)).trans e, c, fun i x hx => ?_⟩
  rw [k 208 _ (by unfold rIn; omega), k 209 _ (by unfold rIn; omega), k 210 _ (by unfold rIn; omega)]
  obtain ⟨d1, d2, d3⟩ := d i x hx
  refine ⟨d1.keep k, d2, ?_⟩
  cases ho : x.2 with
  | none => rw [ho] at d3; exact d3
  | some g => rw [ho] at d3; exact ⟨d3.1.keep k, d3.2⟩
theorem l_wanted {r : Int} {cl : Cl} {w : Int → Int} (hw : ∀ i : Int, 0 ≤ i → i < 13 → R64 (w i)) {X : MX} {h0 : Mem} (C : Cx G X cX3_wanted 3 RX3 3 0 0 (some .long) "wanted") :
    ∀ (m k : Nat) (h : Mem), EX h0 h → MS h → RuleM h r cl → (∀ i : Int, h 212 i = w i) → k + m = cl.length → sumF (cl.drop k) w = sumF cl w → (∀ h' : Mem, EX h h' → Fr sSt h h' → P (sumF cl w) h') →
    V G X 3 0 0 (QF G X 1 0 0 (PJ h0 P)) 13 [(0, rf 177), (1, iv r), (2, iv (12 * r + (k : Int)))] [] h := by
  intro m
  induction m with
  | zero =>
    intro k h B M R ew hk hs hp
    have Rk := R.2.2.2.1
    have R0 := R.1
    have R1 := R.2.1
    refine wX3_wanted_L13 C ⟨B, ⟨by omega, by omega⟩, ⟨by omega, by omega⟩⟩ ⟨M, R.1, R.2.1, ?_⟩
    rw [R.2.2.1]
    refine ⟨⟨by omega, by omega⟩, fun _ => ?_, fun q => absurd q (by omega)⟩
    have := hp h (EX.rf B.2) (Fr.rf _ _)
    rw [← hs, List.drop_of_length_le (by omega)] at this
    exact this
  | succ m ih =>
    intro k h B M R ew hk hs hp
    have Rk := R.2.2.2.1
    have R0 := R.1
    have R1 := R.2.1
    have hlt : k < cl.length := by omega
    have hx := R.2.2.2.2 k cl[k] (List.getElem?_eq_getElem hlt)
    have hd : cl.drop k = cl[k] :: cl.drop (k + 1) := List.drop_eq_getElem_cons hlt
    have ew' : h 212 = w := funext ew
    have hwh : ∀ i : Int, 0 ≤ i → i < 13 → R64 (h 212 i) := fun i i0 i1 => by rw [ew]; exact hw i i0 i1
    refine wX3_wanted_L13 C ⟨B, ⟨by omega, by omega⟩, ⟨by omega, by omega⟩⟩ ⟨M, R.1, R.2.1, ?_⟩
    rw [R.2.2.1]
    refine ⟨⟨by omega, by omega⟩, fun q => absurd q (by omega), fun _ => ⟨by omega, by omega, ?_⟩⟩
    cases ho : cl[k].2 with
    | none =>
      rw [ho] at hx
      refine ⟨fun _ => sX3_answer M R.1 R.2.1 hx.1 hx.2.1 hwh fun h' e f _ => ?_, fun q => absurd hx.2.2 q⟩
      have := hp h' e f
      rw [← hs, hd, show cl[k] = (cl[k].1, none) from by rw [← ho]] at this
      rw [ew']
      exact this
    | some g =>
      rw [ho] at hx
      have hne : h 209 (12 * r + (k : Int)) ≠ h 210 (12 * r + (k : Int)) := by have := hx.2.2.1.2.1; omega
      refine ⟨fun q => absurd q hne, fun _ => sX3_answer M R.1 R.2.1 hx.2.2.1 hx.2.2.2 hwh fun h15 e15 f15 _ => ?_⟩
      rw [ew']
      have M15 := M.ext e15.1
      have R15 := R.keep fun b j q => f15 b j (by unfold sSt; unfold rIn at q; omega)
      have w15 : ∀ i : Int, h15 212 i = w i := fun i => (f15 212 i (by unfold sSt; omega)).trans (ew i)
      have hx15 := R15.2.2.2.2 k cl[k] (List.getElem?_eq_getElem hlt)
      cases hg : g w with
      | false =>
        refine ⟨fun _ => ⟨⟨by omega, by omega⟩, fun B' => ?_⟩, fun z => absurd z (by decide)⟩
        have := ih (k + 1) h15 B'.1 M15 R15 w15 (by omega) (by
          rw [← hs, hd, show cl[k] = (cl[k].1, some g) from by rw [← ho]]
          show _ = (if g w = true then _ else sumF (cl.drop (k + 1)) w)
          rw [if_neg (by rw [hg]; decide)]) fun h' e3 f3 => hp h' (e15.tr e3) (f15.tr f3)
        rwa [show 12 * r + ((k + 1 : Nat) : Int) = 12 * r + (k : Int) + 1 by omega] at this
      | true =>
        refine ⟨fun z => absurd rfl z, fun _ => sX3_answer M15 R.1 R.2.1 hx15.1 hx15.2.1 (fun i i0 i1 => by rw [w15]; exact hw i i0 i1) fun h' e f _ => ?_⟩
        have := hp h' (e15.tr e) (f15.tr f)
        rw [← hs, hd, show cl[k] = (cl[k].1, some g) from by rw [← ho]] at this
        change P (if g w = true then cl[k].1 w else _) h' at this
        rw [if_pos hg] at this
        rw [show h15 212 = w from funext w15]
        exact this
theorem sX3_wanted {h : Mem} (M : MS h) {cl : Cl} (R : RuleM h (h 178 12) cl) (hp : ∀ h' : Mem, EX h h' → Fr sSt h h' → P (sumF cl (h 212)) h') : kX3_wanted G l h P := by
  refine eX3_wanted fun X C e B => ⟨M, fun y1 e1 => ?_⟩
  have R0 := R.1
  have R1 := R.2.1
  rw [← e1] at R0 R1 R
  refine ⟨⟨by omega, by omega⟩, fun y3 e3 B' => ?_⟩
  rw [e3]
  have := l_wanted (P := P) (w := h 212) (fun i i0 i1 => EX.rJ B M.k212 rfl) C cl.length 0 h B'.1 M R (fun _ => rfl) (by omega) rfl hp
  rwa [show 12 * y1 + ((0 : Nat) : Int) = 12 * y1 by omega] at this
variable {E : En}
theorem upA {h0 h h' : Mem} {S : St} (B : EX h0 h) (T : MR h E S) {i v : Int} (e : h' = up h 212 i v) (i0 : 0 ≤ i) (R : R64 v) : EX h0 h' ∧ MR h' E S ∧ Fr (fun b _ => b = 212 ∨ b = 214) h h' := by
  have x : EX h h' := by rw [e]; exact EX_up (EX.rf B.2) T.ms.k212 (by decide) rfl i0 (okI_l R)
  have f : Fr (fun b _ => b = 212 ∨ b = 214) h h' := by rw [e]; exact (Fr.rf _ _).up (Or.inl rfl)
  exact ⟨B.tr x, T.keep x.1 fun b j q => f b j (by unfold mIn at q; omega), f⟩
theorem topL_rng {E : En} {now : Int} {l : Co} (K : EnOk E) (h : CoOk E now l) : -1 ≤ topL l ∧ topL l ≤ 4 := by
  have Kp := K.pm
  cases l with
  | nil => exact ⟨by show (-1 : Int) ≤ -1; decide, by show (-1 : Int) ≤ 4; decide⟩
  | cons x r =>
    obtain ⟨b, w⟩ := x
    have := h.2.1 b w List.mem_cons_self
    exact ⟨by show -1 ≤ b; omega, by show b ≤ 4; omega⟩
theorem sX3_asks {h : Mem} {S : St} (T : MR h E S) {p c : Int} (c0 : 0 ≤ c) (c1 : c < E.cm) (p0 : 0 ≤ p) (p1 : p < E.pm)
    (hp : ∀ h' : Mem, EX h h' → Fr (fun b _ => b = 212 ∨ b = 214) h h' → MR h' E S → (∀ i : Int, 0 ≤ i → i < 13 → h' 212 i = wordF E S p c i) → P 0 h') : kX3_asks G l p c h P := by
  refine eX3_asks fun X C e B => ?_
  have Kc := T.en.cm
  have Kp := T.en.pm
  have Kt := T.en.tm
  have th := T.en.th c c0 c1
  have rn := T.en.rent (E.thingOf c) th.1 th.2.1
  have Kn := T.st.now
  have Z := T.st.co c c0 c1
  have hpu := T.st.purse p p0 p1
  have htop := topL_rng T.en Z
  refine ⟨T.ms, sX3_thingOf T c0 c1 fun e2 h7 e7 h10 e10 h13 e13 => ?_⟩
  obtain ⟨x7, T7, f7⟩ := upA e2 T e7 (by decide) (R64.small ⟨by omega, by omega⟩)
  obtain ⟨x10, T10, f10⟩ := upA x7 T7 e10 (by decide) (R64.small ⟨by omega, by omega⟩)
  obtain ⟨x13, T13, f13⟩ := upA x10 T10 e13 (by decide) (R64.small ⟨by omega, by omega⟩)
  rw [T.te.2.2.1 _ th.1 th.2.1]
  refine ⟨th.1, by omega, fun h18 e18 => ?_⟩
  obtain ⟨x18, T18, f18⟩ := upA x13 T13 e18 (by decide) (R64.small ⟨by omega, by omega⟩)
  refine sX3_topOf T18 c0 c1 fun _ h27 e27 => ?_
  obtain ⟨x27, T27, f27⟩ := upA x18 T18 e27 (by decide) (R64.small ⟨by omega, by omega⟩)
  have w5 : ∀ (i : Int), 0 ≤ i → i < 5 → h27 212 i = wordF E S p c i := fun i i0 i1 => by
    rw [e27]
    by_cases q4 : i = 4
    · subst q4; rw [up_s]; rfl
    · rw [up_i q4, e18]
      by_cases q3 : i = 3
      · subst q3; rw [up_s]; rfl
      · rw [up_i q3, e13]
        by_cases q2 : i = 2
        · subst q2; rw [up_s]; rfl
        · rw [up_i q2, e10]
          by_cases q1 : i = 1
          · subst q1; rw [up_s]; rfl
          · rw [up_i q1, e7, show i = 0 by omega, up_s]; rfl
  have f027 : Fr (fun b _ => b = 212 ∨ b = 214) h h27 := (((f7.tr f10).tr f13).tr f18).tr f27
  have rest : ∀ (v : Int), v = (if wetL E S.now (S.co c) = true then 1 else 0) → ∀ h37 : Mem, h37 = up h27 212 5 v → kX3_ownerOf G X.2.1 c h37 (fun r40 h41 => EX h37 h41 → ∀ h46 : Mem, h46 = up h41 212 6 r40 → kX3_thingOwner G X.2.1 (E.thingOf c) h46 (fun r49 h50 => EX h46 h50 → ∀ h55 : Mem, h55 = up h50 212 8 r49 → kX3_countsCells G X.2.1 (E.thingOf c) (h50 178 9) 0 h55 (fun _ h59 => EX h55 h59 → 0 ≤ p ∧ p < 4 ∧ ∀ h66 : Mem, h66 = up h59 212 7 (h59 214 p) → 0 ≤ c ∧ c < 16 ∧ ∀ h71 : Mem, h71 = up h66 212 9 (h59 185 c) → ∀ h74 : Mem, h74 = up h71 212 10 (h59 182 p) → ∀ h77 : Mem, h77 = up h74 212 11 (h59 178 9) → kX3_rains G X.2.1 (h59 178 9) h77 (fun r80 h81 => EX h77 h81 → ((r80 = 0 → ∀ h87 : Mem, h87 = up h81 212 12 0 → P 0 h87) ∧ (r80 ≠ 0 → ∀ h90 : Mem, h90 = up h81 212 12 1 → P 0 h90)))))) := fun v ev h37 e37 => by
    have rv : 0 ≤ v ∧ v ≤ 1 := by rw [ev]; split <;> exact ⟨by decide, by decide⟩
    obtain ⟨x37, T37, f37⟩ := upA x27 T27 e37 (by decide) (R64.small ⟨by omega, by omega⟩)
    refine sX3_ownerOf T37 c0 c1 fun _ h46 e46 => ?_
    have hown : -1 ≤ ownC E S S.now c ∧ ownC E S S.now c ≤ 4 := by
      have := ownL_rng (E := E) (hour := S.now) Z.2.1
      unfold ownC
      omega
    obtain ⟨x46, T46, f46⟩ := upA x37 T37 e46 (by decide) (R64.small ⟨by omega, by omega⟩)
    refine sX3_thingOwner T46 th.1 th.2.1 fun h50 e50 fo _ h55 e55 => ?_
    have hwho := whoF_rng T.en S th.1 th.2.1
    have fo' : Fr (fun b _ => b = 212 ∨ b = 214) h46 h50 := fo.mono fun b j q => Or.inr q
    have T50 := T46.cn e50.1 fo
    have x50 := x46.tr e50
    obtain ⟨x55, T55, f55⟩ := upA x50 T50 e55 (by decide) (R64.small ⟨by omega, by omega⟩)
    refine sX3_countsCells T55 th.1 th.2.1 (Or.inl rfl) fun h59 e59 fc cc _ => ?_
    have fc' : Fr (fun b _ => b = 212 ∨ b = 214) h55 h59 := fc.mono fun b j q => Or.inr q
    have T59 := T55.cn e59.1 fc
    have x59 := x55.tr e59
    have hcel := cells_rng T.en (ownC E S S.now) p th.1 th.2.1
    have ecel : h59 214 p = cells E (ownC E S S.now) p (E.thingOf c) := by
      rw [cc p p0 (by omega), T50.td.1.1]; rfl
    refine ⟨p0, by omega, fun h66 e66 => ⟨c0, by omega, fun h71 e71 h74 e74 h77 e77 => ?_⟩⟩
    rw [ecel] at e66
    rw [(T59.co c0 c1).1] at e71
    rw [T59.td.2.2 p p0 p1] at e74
    rw [T59.td.1.1] at e77
    have hlen := Z.1
    obtain ⟨x66, T66, f66⟩ := upA x59 T59 e66 (by decide) (R64.small ⟨by omega, by omega⟩)
    obtain ⟨x71, T71, f71⟩ := upA x66 T66 e71 (by decide) (R64.small ⟨by omega, by omega⟩)
    obtain ⟨x74, T74, f74⟩ := upA x71 T71 e74 (by decide) (R64.small ⟨by omega, by omega⟩)
    obtain ⟨x77, T77, f77⟩ := upA x74 T74 e77 (by decide) (R64.small ⟨by omega, by omega⟩)
    rw [T59.td.1.1]
    have fin : ∀ (h87 : Mem) (z : Int), h87 = up h77 212 12 z → z = (if rainF E S.now = true then 1 else 0) → P 0 h87 := fun h87 z e87 ez => by
      have rz : 0 ≤ z ∧ z ≤ 1 := by rw [ez]; split <;> exact ⟨by decide, by decide⟩
      obtain ⟨x87, T87, f87⟩ := upA x77 T77 e87 (by decide) (R64.small ⟨by omega, by omega⟩)
      refine hp h87 x87 ((((((((((f027.tr f37).tr f46).tr fo').tr f55).tr fc').tr f66).tr f71).tr f74).tr f77).tr f87) T87 fun i i0 i1 => ?_
      rw [e87]
      by_cases q12 : i = 12
      · subst q12; rw [up_s, ez]; rfl
      · rw [up_i q12, e77]
        by_cases q11 : i = 11
        · subst q11; rw [up_s]; rfl
        · rw [up_i q11, e74]
          by_cases q10 : i = 10
          · subst q10; rw [up_s]; rfl
          · rw [up_i q10, e71]
            by_cases q9 : i = 9
            · subst q9; rw [up_s]; rfl
            · rw [up_i q9, e66]
              by_cases q7 : i = 7
              · subst q7; rw [up_s]; rfl
              · rw [up_i q7, fc 212 i (by unfold sCn; omega), e55]
                by_cases q8 : i = 8
                · subst q8; rw [up_s]; rfl
                · rw [up_i q8, fo 212 i (by unfold sCn; omega), e46]
                  by_cases q6 : i = 6
                  · subst q6; rw [up_s]; rfl
                  · rw [up_i q6, e37]
                    by_cases q5 : i = 5
                    · subst q5; rw [up_s, ev]; rfl
                    · rw [up_i q5]; exact w5 i i0 (by omega)
    refine sX3_rains T77 fun _ => ⟨fun z h87 e87 => fin h87 0 e87 z.symm, fun z h90 e90 => fin h90 1 e90 ?_⟩
    by_cases q : rainF E S.now = true
    · rw [if_pos q]
    · rw [if_neg q] at z; exact absurd rfl z
  refine sX3_isTopWet T27 c0 c1 fun _ => ⟨fun z h37 e37 => rest 0 z.symm h37 e37, fun z h93 e93 => rest 1 ?_ h93 e93⟩
  by_cases q : wetL E S.now (S.co c) = true
  · rw [if_pos q]
  · rw [if_neg q] at z; exact absurd rfl z
end
