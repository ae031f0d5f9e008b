/-! a town's hour by a rule -/
set_option maxRecDepth 100000
/-- a law: none, or a rule's object -/
def LawX (h : Mem) (r : Int) (o : Option Vf) : Prop := (r = 0 ∧ o = none) ∨ (r ≠ 0 ∧ ∃ cl : Cl, RuleX h r cl ∧ okL (sumF cl) ∧ (∀ w, R64 (sumF cl w)) ∧ o = some (sumF cl))
theorem LawX.keep {h h' : Mem} (k : KF h h') (x : Ext h h') {r : Int} {o : Option Vf} (q : LawX h r o) : LawX h' r o := by
  rcases q with q | ⟨a, cl, b, c⟩
  · exact Or.inl q
  · exact Or.inr ⟨a, cl, b.keep k x, c⟩
def passS (E : En) (S : St) (o : Option Vf) : St := closeS E (paintF E S o).1
def passG (E : En) (S : St) (o : Option Vf) (g : Int → Int) : Int → Int := closeG E (paintF E S o).1 g
theorem KF.tg {h h' : Mem} {a : Int} {E : En} {S : St} (T : TR h a E S) (x : h 165 (-1) = 101) (f : Fr (sTg a) h h') : KF h h' := fun b j q => f b j fun z => by
  have W := T.tw
  unfold aK at q
  have c : b = a ∨ b = a + 11 ∨ b = a + 12 ∨ b = a + 13 ∨ b = a + 14 ∨ b = a + 16 ∨ b = a + 17 ∨ b = 165 := by unfold sTg sTw at z; omega
  rcases c with c | c | c | c | c | c | c | c <;> rw [c] at q
  · rw [W.k] at q; omega
  · rw [W.k23] at q; omega
  · rw [W.k24] at q; omega
  · rw [W.k25] at q; omega
  · rw [W.k26] at q; omega
  · rw [W.k28] at q; omega
  · rw [W.k29] at q; omega
  · rw [x] at q; omega
theorem paintF_now {E : En} (K : EnOk E) {S : St} (h : StOk E S) (o : Option Vf) : (paintF E S o).1.now = S.now := by
  cases o with
  | none => rfl
  | some L => have := K.pm; exact (h.turn K L E.pm.toNat (by omega)).2.1
theorem paintF_rng {E : En} (K : EnOk E) {S : St} (h : StOk E S) (o : Option Vf) : 0 ≤ (paintF E S o).2 ∧ (paintF E S o).2 ≤ 4 := by
  cases o with
  | none => exact ⟨Int.le_refl _, by show (0 : Int) ≤ 4; decide⟩
  | some L =>
    have := K.pm
    have := (h.turn K L E.pm.toNat (by omega)).2.2
    show 0 ≤ (turnN E S L E.pm.toNat).2 ∧ (turnN E S L E.pm.toNat).2 ≤ 4
    omega
section
variable {G : GT} {a : Int} {E : En} {P : Int → Mem → Prop} {l : Launch}
theorem l_passes {S : St} (ha : aOk a) {r : Int} {cl : Cl} {g : Int → Int} (K : EnOk E) (h0S : StOk E S) (hn9 : S.now < 1000000) (hr : r ≠ 0) (ok : okL (sumF cl)) (hb : ∀ w, R64 (sumF cl w)) {X : MX} {h0 : Mem} (C : Cx G X cX1_passes 6 RX1 404 0 0 (some .int) "passes") :
    ∀ (m n : Nat) (h : Mem), EX h0 h → TR h a E (turnN E S (sumF cl) n).1 → XG h g → RuleX h r cl → (n : Int) + m = E.pm → (∀ h' : Mem, EX h h' → Fr (sTg a) h h' → TR h' a E (closeS E (turnN E S (sumF cl) E.pm.toNat).1) → XG h' (closeG E (turnN E S (sumF cl) E.pm.toNat).1 g) → P (turnN E S (sumF cl) E.pm.toNat).2 h') →
    V G X 6 0 0 (QF G X 0 0 0 (PI h0 P)) 5 [(0, rf a), (1, rf r), (2, rf 165), (3, iv (turnN E S (sumF cl) n).2), (4, iv (n : Int))] [] h := by
  intro m
  have Kp := K.pm
  have Kc := K.cm
  induction m with
  | zero =>
    intro n h B T xg R hn hp
    have tn := h0S.turn K (sumF cl) n (by omega)
    refine wX1_passes_L5 C ⟨B, ⟨by omega, by omega⟩, ⟨by omega, by omega⟩⟩ ⟨T.tw, ?_⟩
    rw [T.te.1.2.2.2.2.2.1]
    refine ⟨fun _ => ?_, fun q => absurd q (by omega)⟩
    rw [show E.pm.toNat = n by omega] at hp
    exact sX1_closes ha T xg (by rw [tn.2.1]; exact hn9) fun h' e f T' x' _ => hp h' e f T' x'
  | succ m ih =>
    intro n h B T xg R hn hp
    have tn := h0S.turn K (sumF cl) n (by omega)
    have tn1 := h0S.turn K (sumF cl) (n + 1) (by omega)
    refine wX1_passes_L5 C ⟨B, ⟨by omega, by omega⟩, ⟨by omega, by omega⟩⟩ ⟨T.tw, ?_⟩
    rw [T.te.1.2.2.2.2.2.1]
    refine ⟨fun q => absurd q (by omega), fun _ => ⟨fun q => absurd q hr, fun _ => sX1_cellBy T (by omega) (by omega) R ok hb fun h16 e16 f16 _ => ?_⟩⟩
    have T16 := T.words e16.1 f16
    have fg16 : Fr (sTg a) h h16 := f16.mono fun b j q => by unfold sTg sTw; omega
    have xg16 : XG h16 g := xg.keep B.2 e16.1 fun j => f16 165 j (by unfold aOk at ha; omega)
    have R16 := R.keep (KF.tg T xg.1 fg16) e16.1
    have en : turnN E S (sumF cl) (n + 1) = if cellF E (turnN E S (sumF cl) n).1 (sumF cl) n = -1 then turnN E S (sumF cl) n else (putS (costS E (turnN E S (sumF cl) n).1 n) (cellF E (turnN E S (sumF cl) n).1 (sumF cl) n) n, (turnN E S (sumF cl) n).2 + 1) := rfl
    have r1 : R32 ((n : Int) + 1) := ⟨by omega, by omega⟩
    refine ⟨fun q => ?_, fun q => ⟨r1, fun B' => ?_⟩⟩
    · rw [if_neg q] at en
      have wr := (wantN_rng E (turnN E S (sumF cl) n).1 (sumF cl) n E.cm.toNat).resolve_left q
      have hc : E.cost ≤ (turnN E S (sumF cl) n).1.purse n := by
        have := wr.2.2
        simp [canF] at this
        exact this.2
      refine sX1_paints T16 (by unfold cellF; omega) (by unfold cellF; omega) (by omega) (by omega) hc fun h23 e23 f23 T23 _ => ?_
      have xg23 : XG h23 g := xg16.keep e16.2 e23.1 fun j => f23 165 j (by unfold sTw; unfold aOk at ha; omega)
      have R23 := R16.keep (KF.tg T16 xg16.1 f23.gt) e23.1
      rw [en] at tn1
      have nx := fun B' => ih (n + 1) h23 B' (by rw [en]; exact T23) xg23 R23 (by omega) fun h' e3 f3 => hp h' ((e16.tr e23).tr e3) ((fg16.tr f23.gt).tr f3)
      rw [en, show ((n + 1 : Nat) : Int) = (n : Int) + 1 by omega] at nx
      exact ⟨⟨by omega, by omega⟩, r1, fun B' => nx B'.1⟩
    · rw [if_pos q] at en
      have nx := ih (n + 1) h16 B'.1 (by rw [en]; exact T16) xg16 R16 (by omega) fun h' e3 f3 => hp h' (e16.tr e3) (fg16.tr f3)
      rw [en, show ((n + 1 : Nat) : Int) = (n : Int) + 1 by omega] at nx
      exact nx
theorem sX1_passes {h : Mem} {S : St} (ha : aOk a) {r : Int} {o : Option Vf} {g : Int → Int} (T : TR h a E S) (xg : XG h g) (R : LawX h r o) (hn : S.now < 1000000)
    (hp : ∀ h' : Mem, EX h h' → Fr (sTg a) h h' → TR h' a E (passS E S o) → XG h' (passG E S o g) → LawX h' r o → P (paintF E S o).2 h') : kX1_passes G l a r 165 h P := by
  have hp2 : ∀ h' : Mem, EX h h' → Fr (sTg a) h h' → TR h' a E (passS E S o) → XG h' (passG E S o g) → P (paintF E S o).2 h' := fun h' e f T' x' => hp h' e f T' x' (R.keep (KF.tg T xg.1 f) e.1)
  refine eX1_passes fun X C e B B' => ?_
  have Kp := T.en.pm
  rcases R with ⟨r0, o0⟩ | ⟨r0, cl, R, ok, hb, o0⟩
  · subst r0 o0
    have cl0 : kX1_closes G X.2.1 a 165 h (fun _ h3 => EX h h3 → P 0 h3) := sX1_closes ha T xg hn fun h' e f T' x' _ => hp2 h' e f T' x'
    refine wX1_passes_L5 C ⟨B'.1, ⟨by decide, by decide⟩, ⟨by decide, by decide⟩⟩ ⟨T.tw, fun _ => cl0, fun _ => ⟨fun _ => cl0, fun q => absurd rfl q⟩⟩
  · subst o0
    exact l_passes ha T.en T.st hn r0 ok hb C E.pm.toNat 0 h B'.1 T xg R (by omega) hp2
end
