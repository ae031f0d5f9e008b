/-! the model: bare things, one colour, idle hours -/
set_option maxRecDepth 100000
def closesN (E : En) (S : St) (g : Int → Int) : Nat → St × (Int → Int)
  | 0 => (S, g)
  | n + 1 => (closeS E (closesN E S g n).1, closeG E (closesN E S g n).1 (closesN E S g n).2)
theorem closeS_now (E : En) (S : St) : (closeS E S).now = S.now + 1 := by
  unfold closeS
  split <;> rfl
theorem closesN_now (E : En) (S : St) (g : Int → Int) : ∀ n : Nat, (closesN E S g n).1.now = S.now + n
  | 0 => by simp [closesN]
  | n + 1 => by rw [closesN, closeS_now, closesN_now E S g n]; omega
section
variable {G : GT} {h : Mem} {E : En} {S : St} {P : Int → Mem → Prop} {l : Launch}
theorem l_barely {t : Int} (K : EnOk E) (t0 : 0 ≤ t) (t1 : t < E.tm) {X : MX} {h0 : Mem} (C : Cx G X cX3_barely 4 RX3 0 0 0 (some .int) "barely") :
    ∀ (m n : Nat) (h : Mem) (S1 : St), EX h0 h → MR h E S1 → S1.now = S.now ∧ S1.bare = S.bare ∧ S1.purse = S.purse ∧ (∀ c : Int, 0 ≤ c → c < E.cm → S1.co c = if E.first t ≤ c ∧ c < E.first t + n then [] else S.co c) → StOk E S → (n : Int) + m = E.first (t + 1) - E.first t →
    (∀ h' : Mem, EX h h' → Fr sM1 h h' → MR h' E (stripS E S t) → P (lenF E S t) h') →
    V G X 4 0 0 (QF G X 0 0 0 (PI h0 P)) 9 [(0, rf 177), (1, iv t), (2, iv (lenN S (E.first t) n)), (3, iv (E.first t + n))] [] h := by
  intro m
  have Kt := K.tm
  have Kc := K.cm
  have Kr := K.rng t0 t1
  have Kf := K.fs t t0 t1
  induction m with
  | zero =>
    intro n h S1 B T w hS hn hp
    have hl := lenN_rng hS (a := E.first t) (by omega) n (by omega)
    refine wX3_barely_L9 C ⟨B, ⟨by omega, by omega⟩, ⟨by omega, by omega⟩, ⟨by omega, by omega⟩⟩ ?_
    rw [T.te.2.1 (t + 1) (by omega) (by omega)]
    refine ⟨T.ms, by omega, by omega, fun _ => ?_, fun q => absurd q (by omega)⟩
    have := hp h (EX.rf B.2) (Fr.rf _ _) (T.congr w.1.symm w.2.1.symm (fun c c0 c1 => ?_) fun p _ _ => ?_)
    · rw [lenF, show (E.first (t + 1) - E.first t).toNat = n by omega] at this; exact this
    · rw [w.2.2.2 c c0 c1]
      show (if E.first t ≤ c ∧ c < E.first (t + 1) then [] else S.co c) = _
      rw [show E.first t + (n : Int) = E.first (t + 1) by omega]
    · show S.purse p = _
      rw [w.2.2.1]
  | succ m ih =>
    intro n h S1 B T w hS hn hp
    have hl := lenN_rng hS (a := E.first t) (by omega) n (by omega)
    have hl2 := lenN_rng hS (a := E.first t) (by omega) (n + 1) (by omega)
    have c0 : 0 ≤ E.first t + (n : Int) := by omega
    have c1 : E.first t + (n : Int) < E.cm := by omega
    have z := T.co c0 c1
    have wc := w.2.2.2 _ c0 c1
    rw [if_neg (by omega)] at wc
    refine wX3_barely_L9 C ⟨B, ⟨by omega, by omega⟩, ⟨by omega, by omega⟩, ⟨by omega, by omega⟩⟩ ?_
    rw [T.te.2.1 (t + 1) (by omega) (by omega), z.1, wc]
    rw [lenN] at hl2
    refine ⟨T.ms, by omega, by omega, fun q => absurd q (by omega), fun _ => ⟨c0, by omega, ⟨by omega, by omega⟩, fun y ey h12 e12 => ⟨⟨by omega, by omega⟩, fun B' => ?_⟩⟩⟩
    have x12 : EX h h12 := by rw [e12]; exact EX_up (EX.rf B.2) T.ms.k185 (by decide) rfl c0 (okI_a (Or.inl rfl) ⟨by decide, by decide⟩)
    have f12 : Fr (fun b j => b = 185 ∧ j = E.first t + (n : Int)) h h12 := by rw [e12]; exact (Fr.rf _ _).up ⟨rfl, rfl⟩
    have T12 : MR h12 E (dropS S1 (E.first t + (n : Int)) []) := T.cell c0 c1 x12.1 (T.st.drop (List.nil_suffix)) (fun b j _ n1 _ => f12 b j n1) (by rw [e12, up_s]; rfl) trivial
    have := ih (n + 1) h12 _ B'.1 T12 ⟨w.1, w.2.1, w.2.2.1, fun c d0 d1 => ?_⟩ hS (by omega) fun h' e3 f3 => hp h' (x12.tr e3) ((f12.mono fun b j q => by unfold sM1; omega).tr f3)
    · rw [lenN, show E.first t + ((n + 1 : Nat) : Int) = E.first t + (n : Int) + 1 by omega] at this
      rw [ey]
      exact this
    · show fu S1.co (E.first t + (n : Int)) [] c = _
      by_cases q : c = E.first t + (n : Int)
      · rw [q, fu_s, if_pos (by omega)]
      · rw [fu_n q, w.2.2.2 c d0 d1]
        by_cases q2 : E.first t ≤ c ∧ c < E.first t + (n : Int)
        · rw [if_pos q2, if_pos (by omega)]
        · rw [if_neg q2, if_neg (by omega)]
theorem sX3_barely (T : MR h E S) {t : Int} (t0 : 0 ≤ t) (t1 : t < E.tm) (hp : ∀ h' : Mem, EX h h' → Fr sM1 h h' → MR h' E (stripS E S t) → P (lenF E S t) h') : kX3_barely G l t h P := by
  refine eX3_barely fun X C e B => ⟨T.ms, t0, by have := T.en.tm; omega, fun y ey B' => ?_⟩
  have Kr := T.en.rng t0 t1
  rw [ey, T.te.2.1 t t0 (by omega)]
  have := l_barely (S := S) T.en t0 t1 C (E.first (t + 1) - E.first t).toNat 0 h S B'.1 T ⟨rfl, rfl, rfl, fun c c0 c1 => by rw [if_neg (by omega)]⟩ T.st (by omega) hp
  rwa [show E.first t + ((0 : Nat) : Int) = E.first t by omega] at this
theorem l_oneColour3 (T : MR h E S) {X : MX} {h0 : Mem} (C : Cx G X cX3_isOneColour 4 RX3 2 0 0 (some .boolean) "isOneColour") (B : EX h0 h) :
    ∀ (m n : Nat) (one : Int), (n : Int) + m = E.cm → oneN E S n = some one → (one = -1 ∨ 0 ≤ one ∧ one ≤ 8) → P (if oneF E S = true then 1 else 0) h →
    V G X 4 0 0 (QF G X 0 0 0 (PZ h0 P)) 4 [(0, rf 177), (1, iv one), (2, iv (n : Int))] [] h := by
  intro m
  have K := T.en.cm
  have Kp := T.en.pm
  induction m with
  | zero =>
    intro n one hn ho hr hp
    refine wX3_isOneColour_L4 C ⟨B, ⟨by omega, by omega⟩, ⟨by omega, by omega⟩⟩ ?_
    rw [T.te.1.2.2.2.2.1]
    refine ⟨T.ms, fun _ => ?_, fun q => absurd q (by omega)⟩
    rw [if_pos (by rw [oneF, show E.cm.toNat = n by omega, ho]; rfl)] at hp
    exact hp
  | succ m ih =>
    intro n one hn ho hr hp
    have c0 : 0 ≤ (n : Int) := by omega
    have c1 : (n : Int) < E.cm := by omega
    have Z := T.st.co n c0 c1
    have q := T.co c0 c1
    have r1 : R32 ((n : Int) + 1) := ⟨by omega, by omega⟩
    have en : oneN E S (n + 1) = if hs S.bare (E.thingOf n) then some one else match S.co n with
      | [] => none
      | (b, _) :: _ => if one ≠ -1 ∧ E.colour b ≠ one then none else some (E.colour b) := by rw [oneN, ho]; rfl
    have nx : ∀ one' : Int, oneN E S (n + 1) = some one' → (one' = -1 ∨ 0 ≤ one' ∧ one' ≤ 8) → V G X 4 0 0 (QF G X 0 0 0 (PZ h0 P)) 4 [(0, rf 177), (1, iv one'), (2, iv ((n : Int) + 1))] [] h := fun o h1 h2 => by
      have := ih (n + 1) o (by omega) h1 h2 hp
      rwa [show ((n + 1 : Nat) : Int) = (n : Int) + 1 by omega] at this
    have bad : oneN E S (n + 1) = none → P 0 h := fun z => by
      rw [if_neg (by rw [oneF, oneN_none z _ (by omega)]; decide)] at hp
      exact hp
    refine wX3_isOneColour_L4 C ⟨B, ⟨by omega, by omega⟩, ⟨by omega, by omega⟩⟩ ?_
    rw [T.te.1.2.2.2.2.1]
    refine ⟨T.ms, fun z => absurd z (by omega), fun _ => sX3_thingOf T c0 c1 fun _ => sX3_isBare T.ms fun _ => ?_⟩
    rw [T.td.1.2]
    refine ⟨fun z => ⟨r1, fun _ => nx one ?_ hr⟩, fun z => ?_⟩
    · have hb : hs S.bare (E.thingOf n) := Classical.byContradiction fun y => by rw [if_neg y] at z; exact z rfl
      rw [en, if_pos hb]
    · have hb : ¬ hs S.bare (E.thingOf n) := fun y => by rw [if_pos y] at z; cases z
      rw [if_neg hb] at en
      rw [q.1]
      cases hl : S.co n with
      | nil =>
        rw [hl] at en
        exact ⟨c0, by omega, fun y => absurd rfl y, fun _ => bad en⟩
      | cons x r =>
        obtain ⟨b, w⟩ := x
        rw [hl] at en Z
        have hb2 := Z.2.1 b w List.mem_cons_self
        have hcol := T.en.colour b hb2.1 hb2.2.1
        have htop : topL (S.co n) = b := by rw [hl]; rfl
        refine ⟨c0, by omega, fun _ => sX3_topOf T c0 c1 fun _ => ?_, fun y => absurd y (by rw [List.length_cons]; omega)⟩
        rw [htop, T.te.2.2.2.1 b hb2.1 hb2.2.1]
        refine ⟨hb2.1, by omega, fun y ey => ⟨fun z2 => absurd z2 (by omega), fun _ => ⟨fun z2 => ⟨r1, fun _ => ?_⟩, fun z2 => ⟨fun z3 => ⟨r1, fun _ => ?_⟩, fun z3 => bad ?_⟩⟩⟩⟩
        · rw [ey]
          exact nx _ (by rw [en]; exact if_neg (fun z => z.1 z2)) (Or.inr hcol)
        · rw [ey]
          exact nx _ (by rw [en]; exact if_neg (fun z => z.2 (by omega))) (Or.inr hcol)
        · rw [en]; exact if_pos ⟨z2, by omega⟩
theorem sX3_isOneColour (T : MR h E S) (hp : P (if oneF E S = true then 1 else 0) h) : kX3_isOneColour G l h P := by
  refine eX3_isOneColour fun X C e B B' => ?_
  have K := T.en.cm
  exact l_oneColour3 T C B'.1 E.cm.toNat 0 (-1) (by omega) rfl (Or.inl rfl) hp
theorem l_idles {g : Int → Int} {n : Int} {X : MX} {h0 : Mem} (C : Cx G X cX3_idles 3 RX3 5 0 0 none "idles") (hn0 : 0 ≤ n) (hn : S.now + n < 1000000) (hS : 0 ≤ S.now) :
    ∀ (m k : Nat) (h : Mem), (k : Int) + m = n → EX h0 h → MR h E (closesN E S g k).1 → MG h (closesN E S g k).2 → (∀ h' : Mem, EX h h' → Fr sMs h h' → MR h' E (closesN E S g n.toNat).1 → MG h' (closesN E S g n.toNat).2 → P 0 h') →
    V G X 3 0 0 (QF G X 3 0 0 (PR h0 P)) 2 [(0, rf 177), (1, iv n), (2, iv (k : Int))] [] h := by
  intro m
  induction m with
  | zero =>
    intro k h hk B T xg hp
    refine wX3_idles_L2 C ⟨B, ⟨by omega, by omega⟩, ⟨by omega, by omega⟩⟩ ⟨T.ms, fun _ => ?_, fun q => absurd q (by omega)⟩
    rw [show n.toNat = k by omega] at hp
    exact hp h (EX.rf B.2) (Fr.rf _ _) T xg
  | succ m ih =>
    intro k h hk B T xg hp
    refine wX3_idles_L2 C ⟨B, ⟨by omega, by omega⟩, ⟨by omega, by omega⟩⟩ ⟨T.ms, fun q => absurd q (by omega), fun _ => ?_⟩
    refine sX3_ends T xg (by rw [closesN_now]; omega) fun h3 e3 f3 T3 x3 _ => ⟨⟨by omega, by omega⟩, fun B' => ?_⟩
    have := ih (k + 1) h3 (by omega) B'.1 T3 x3 fun h' e4 f4 => hp h' (e3.tr e4) (f3.tr f4)
    rwa [show ((k + 1 : Nat) : Int) = (k : Int) + 1 by omega] at this
theorem sX3_idles {g : Int → Int} {n : Int} (T : MR h E S) (xg : MG h g) (hn0 : 0 ≤ n) (hn : S.now + n < 1000000) (hp : ∀ h' : Mem, EX h h' → Fr sMs h h' → MR h' E (closesN E S g n.toNat).1 → MG h' (closesN E S g n.toNat).2 → P 0 h') : kX3_idles G l n h P := by
  refine eX3_idles fun X C e B B' => ?_
  exact l_idles C hn0 hn T.st.now.1 n.toNat 0 h (by omega) B'.1 T xg hp
end
