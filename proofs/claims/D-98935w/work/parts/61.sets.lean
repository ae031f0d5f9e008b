/-! painter, count: sets of cells and things -/
set_option maxRecDepth 100000
/-- the set of those of the first n ones that q holds of -/
def setN (q : Int → Bool) : Nat → Int
  | 0 => 0
  | n + 1 => if q n = true then bOr (setN q n) (bShl 1 n) else bOr (setN q n) 0
section
variable {G : GT} {h : Mem} {Z : Zt} {T : Tn} {P : Int → Mem → Prop} {l : Launch}
def ownQ (T : Tn) (p : Int) : Int → Bool := fun c => decide (ownC T.en T.st T.st.now c = p)
def whoQ (T : Tn) (p : Int) : Int → Bool := fun t => decide (whoF T.en T.st t = p)
def wetQ (T : Tn) : Int → Bool := fun c => wetL T.en T.st.now (T.st.co c)
theorem l_painter67 (q : TR h 2 T.en T.st) (A : XS h) (t2 : h 1 0 = 2) {p : Int} (Rp : R32 p) {X : MX} {h0 : Mem} (C : Cx G X cX0_painter 5 RX0 3 0 0 (some .int) "painter") (B : EX h0 h) :
    ∀ m k : Nat, (k : Int) + m = T.en.cm → R32 (setN (ownQ T p) k) → P (setN (ownQ T p) T.en.cm.toNat) h →
    V G X 5 0 0 (QF G X 0 0 0 (PI h0 P)) 67 [(0, rf 1), (1, iv p), (3, iv (setN (ownQ T p) k)), (4, iv (k : Int))] [] h := by
  intro m
  have Kc := q.en.cm
  induction m with
  | zero =>
    intro k hk R hp
    refine wX0_painter_L67 C ⟨B, Rp, R, ⟨by omega, by omega⟩⟩ ⟨A, t2, ?_⟩
    rw [q.te.1.2.2.2.2.1]
    refine ⟨fun _ => ?_, fun z => absurd z (by omega)⟩
    rw [show T.en.cm.toNat = k by omega] at hp; exact hp
  | succ m ih =>
    intro k hk R hp
    refine wX0_painter_L67 C ⟨B, Rp, R, ⟨by omega, by omega⟩⟩ ⟨A, t2, ?_⟩
    rw [q.te.1.2.2.2.2.1]
    refine ⟨fun z => absurd z (by omega), fun _ => sX1_ownerOf q (by omega) (by omega) fun _ => ⟨fun z y ey => ⟨⟨by omega, by omega⟩, fun B' => ?_⟩, fun z y ey => ⟨⟨by omega, by omega⟩, fun B' => ?_⟩⟩⟩
    · have e : setN (ownQ T p) (k + 1) = y := by rw [ey, setN, if_neg (by unfold ownQ; simpa using z)]
      have := ih (k + 1) (by omega) (by rw [e]; exact B'.2.2.1) hp
      rwa [e, show ((k + 1 : Nat) : Int) = (k : Int) + 1 by omega] at this
    · have e : setN (ownQ T p) (k + 1) = y := by rw [ey, setN, if_pos (by unfold ownQ; simpa using z)]
      have := ih (k + 1) (by omega) (by rw [e]; exact B'.2.2.1) hp
      rwa [e, show ((k + 1 : Nat) : Int) = (k : Int) + 1 by omega] at this
theorem l_painter114 {p : Int} (K : EnOk T.en) (Rp : R32 p) {X : MX} {h0 : Mem} (C : Cx G X cX0_painter 5 RX0 3 0 0 (some .int) "painter") :
    ∀ (m k : Nat) (h : Mem), (k : Int) + m = T.en.tm → TR h 2 T.en T.st → XS h → h 1 0 = 2 → EX h0 h → R32 (setN (whoQ T p) k) → (∀ h' : Mem, EX h h' → Fr sQx h h' → P (setN (whoQ T p) T.en.tm.toNat) h') →
    V G X 5 0 0 (QF G X 0 0 0 (PI h0 P)) 114 [(0, rf 1), (1, iv p), (3, iv (setN (whoQ T p) k)), (4, iv (k : Int))] [] h := by
  intro m
  have Kc := K.tm
  induction m with
  | zero =>
    intro k h hk q A t2 B R hp
    refine wX0_painter_L114 C ⟨B, Rp, R, ⟨by omega, by omega⟩⟩ ⟨A, t2, ?_⟩
    rw [q.te.1.2.2.2.1]
    refine ⟨fun _ => ?_, fun z => absurd z (by omega)⟩
    rw [show T.en.tm.toNat = k by omega] at hp; exact hp h (EX.rf B.2) (Fr.rf _ _)
  | succ m ih =>
    intro k h hk q A t2 B R hp
    refine wX0_painter_L114 C ⟨B, Rp, R, ⟨by omega, by omega⟩⟩ ⟨A, t2, ?_⟩
    rw [q.te.1.2.2.2.1]
    refine ⟨fun z => absurd z (by omega), fun _ => sX1_whose q (by omega) (by omega) fun h4 e4 f4 _ => ?_⟩
    have q4 := q.ow e4.1 f4
    have t4 : h4 1 0 = 2 := (f4 1 0 (by unfold sOw; omega)).trans t2
    have go : ∀ y : Int, y = setN (whoQ T p) (k + 1) → EX h0 h4 → R32 y → V G X 5 0 0 (QF G X 0 0 0 (PI h0 P)) 114 [(0, rf 1), (1, iv p), (3, iv y), (4, iv ((k : Int) + 1))] [] h4 := fun y ey b r => by
      subst ey
      have := ih (k + 1) h4 (by omega) q4 (A.ext e4.1) t4 b r fun h' e5 f5 => hp h' (e4.tr e5) ((f4.mono fun b j z => by unfold sOw at z; unfold sQx; omega).tr f5)
      rwa [show ((k + 1 : Nat) : Int) = (k : Int) + 1 by omega] at this
    refine ⟨fun z y ey => ⟨⟨by omega, by omega⟩, fun B' => go y ?_ B'.1 B'.2.2.1⟩, fun z y ey => ⟨⟨by omega, by omega⟩, fun B' => go y ?_ B'.1 B'.2.2.1⟩⟩
    · rw [ey, setN, if_neg (by unfold whoQ; simpa using z)]
    · rw [ey, setN, if_pos (by unfold whoQ; simpa using z)]
def aPainter (s : Option Tn) (p w : Int) : Int := if 0 ≤ p ∧ p < pmO s then (match s with
  | none => -1
  | some T => if w = 0 then T.en.colour p else if w = 1 then T.st.purse p else if w = 2 then setN (ownQ T p) T.en.cm.toNat else if w = 3 then setN (whoQ T p) T.en.tm.toNat else -1) else -1
theorem oX_painter (I : IX h Z) {p w : Int} (hp : ∀ h' : Mem, EX h h' → Fr sQx h h' → P (aPainter Z.s p w) h') : kX0_painter G l p w h P := by
  refine eX0_painter fun X C e B => ⟨I.xs, I.isPainter fun _ => ?_⟩
  have hp0 := hp h (EX.rf I.oz) (Fr.rf _ _)
  by_cases hc : 0 ≤ p ∧ p < pmO Z.s
  · obtain ⟨T, hs, c0, c1⟩ := pmO_s hc
    have t := I.tn hs
    have q := t.2.tr
    have Kc := q.en.pm
    have Km := q.en.cm
    have Kt := q.en.tm
    unfold aPainter at hp hp0; rw [if_pos hc, hs] at hp hp0
    rw [if_pos hc]
    dsimp only at hp hp0
    refine ⟨fun _ => ⟨fun w0 => ⟨t.1, c0, by omega, ?_⟩, fun w1 => ⟨t.1, c0, by omega, ?_⟩, fun w2 B' => ?_, fun w3 B' => ?_, fun w5 => ?_⟩, fun z => by cases z⟩
    · rw [if_pos w0] at hp0; rw [show (7 : Int) = 2 + 5 from rfl, q.te.2.2.2.1 p c0 c1]; exact hp0
    · rw [if_neg (by omega), if_pos w1] at hp0; rw [show (16 : Int) = 2 + 14 from rfl, q.td.2.2 p c0 c1]; exact hp0
    · rw [if_neg (by omega), if_neg (by omega), if_pos w2] at hp0
      exact l_painter67 q I.xs t.1 B'.2.1 C B'.1 T.en.cm.toNat 0 (by omega) R32_0 hp0
    · rw [if_neg (by omega), if_neg (by omega), if_neg (by omega), if_pos w3] at hp
      exact l_painter114 q.en B'.2.1 C T.en.tm.toNat 0 h (by omega) q I.xs t.1 B'.1 R32_0 hp
    · rw [if_neg (by omega), if_neg (by omega), if_neg (by omega), if_neg (by omega)] at hp0; exact hp0
  · unfold aPainter at hp0; rw [if_neg hc] at hp0
    rw [if_neg hc]
    exact ⟨fun z => absurd rfl z, fun _ => hp0⟩
theorem l_owned (q : MR h T.en T.st) {p : Int} (Rp : R32 p) {X : MX} {h0 : Mem} (C : Cx G X cX3_cellsOwned 4 RX3 3 0 0 (some .int) "cellsOwned") (B : EX h0 h) :
    ∀ m k : Nat, (k : Int) + m = T.en.cm → R32 (setN (ownQ T p) k) → P (setN (ownQ T p) T.en.cm.toNat) h →
    V G X 4 0 0 (QF G X 0 0 0 (PI h0 P)) 4 [(0, rf 177), (1, iv p), (2, iv (setN (ownQ T p) k)), (3, iv (k : Int))] [] h := by
  intro m
  have Kc := q.en.cm
  induction m with
  | zero =>
    intro k hk R hp
    refine wX3_cellsOwned_L4 C ⟨B, Rp, R, ⟨by omega, by omega⟩⟩ ⟨q.ms, ?_⟩
    rw [q.te.1.2.2.2.2.1]
    refine ⟨fun _ => ?_, fun z => absurd z (by omega)⟩
    rw [show T.en.cm.toNat = k by omega] at hp; exact hp
  | succ m ih =>
    intro k hk R hp
    refine wX3_cellsOwned_L4 C ⟨B, Rp, R, ⟨by omega, by omega⟩⟩ ⟨q.ms, ?_⟩
    rw [q.te.1.2.2.2.2.1]
    refine ⟨fun z => absurd z (by omega), fun _ => sX3_ownerOf q (by omega) (by omega) fun _ => ⟨fun z y ey => ⟨⟨by omega, by omega⟩, fun B' => ?_⟩, fun z y ey => ⟨⟨by omega, by omega⟩, fun B' => ?_⟩⟩⟩
    · have e : setN (ownQ T p) (k + 1) = y := by rw [ey, setN, if_neg (by unfold ownQ; simpa using z)]
      have := ih (k + 1) (by omega) (by rw [e]; exact B'.2.2.1) hp
      rwa [e, show ((k + 1 : Nat) : Int) = (k : Int) + 1 by omega] at this
    · have e : setN (ownQ T p) (k + 1) = y := by rw [ey, setN, if_pos (by unfold ownQ; simpa using z)]
      have := ih (k + 1) (by omega) (by rw [e]; exact B'.2.2.1) hp
      rwa [e, show ((k + 1 : Nat) : Int) = (k : Int) + 1 by omega] at this
theorem l_painter65 {p : Int} (K : EnOk T.en) (Rp : R32 p) {X : MX} {h0 : Mem} (C : Cx G X cX3_painter 5 RX3 4 0 0 (some .int) "painter") :
    ∀ (m k : Nat) (h : Mem), (k : Int) + m = T.en.tm → MR h T.en T.st → EX h0 h → R32 (setN (whoQ T p) k) → (∀ h' : Mem, EX h h' → QM h h' → P (setN (whoQ T p) T.en.tm.toNat) h') →
    V G X 5 0 0 (QF G X 0 0 0 (PI h0 P)) 65 [(0, rf 177), (1, iv p), (3, iv (setN (whoQ T p) k)), (4, iv (k : Int))] [] h := by
  intro m
  have Kc := K.tm
  induction m with
  | zero =>
    intro k h hk q B R hp
    refine wX3_painter_L65 C ⟨B, Rp, R, ⟨by omega, by omega⟩⟩ ⟨q.ms, ?_⟩
    rw [q.te.1.2.2.2.1]
    refine ⟨fun _ => ?_, fun z => absurd z (by omega)⟩
    rw [show T.en.tm.toNat = k by omega] at hp; exact hp h (EX.rf B.2) (QM.rf _)
  | succ m ih =>
    intro k h hk q B R hp
    refine wX3_painter_L65 C ⟨B, Rp, R, ⟨by omega, by omega⟩⟩ ⟨q.ms, ?_⟩
    rw [q.te.1.2.2.2.1]
    refine ⟨fun z => absurd z (by omega), fun _ => sX3_thingOwner q (by omega) (by omega) fun h4 e4 f4 _ => ?_⟩
    have q4 := q.cn e4.1 f4
    have go : ∀ y : Int, y = setN (whoQ T p) (k + 1) → EX h0 h4 → R32 y → V G X 5 0 0 (QF G X 0 0 0 (PI h0 P)) 65 [(0, rf 177), (1, iv p), (3, iv y), (4, iv ((k : Int) + 1))] [] h4 := fun y ey b r => by
      subst ey
      have := ih (k + 1) h4 (by omega) q4 b r fun h' e5 f5 => hp h' (e4.tr e5) ((QM.cn f4).tr f5)
      rwa [show ((k + 1 : Nat) : Int) = (k : Int) + 1 by omega] at this
    refine ⟨fun z y ey => ⟨⟨by omega, by omega⟩, fun B' => go y ?_ B'.1 B'.2.2.1⟩, fun z y ey => ⟨⟨by omega, by omega⟩, fun B' => go y ?_ B'.1 B'.2.2.1⟩⟩
    · rw [ey, setN, if_neg (by unfold whoQ; simpa using z)]
    · rw [ey, setN, if_pos (by unfold whoQ; simpa using z)]
theorem oM_painter (I : IM h Z) {p w : Int} (hp : ∀ h' : Mem, EX h h' → QM h h' → P (aPainter Z.s p w) h') : kX3_painter G l p w h P := by
  refine eX3_painter fun X C e B => ⟨I.ms, I.isPainter fun _ => ?_⟩
  have hp0 := hp h (EX.rf I.oz) (QM.rf _)
  by_cases hc : 0 ≤ p ∧ p < pmO Z.s
  · obtain ⟨T, hs, c0, c1⟩ := pmO_s hc
    have q := (I.tn hs).mr
    have Kc := q.en.pm
    have Km := q.en.cm
    have Kt := q.en.tm
    unfold aPainter at hp hp0; rw [if_pos hc, hs] at hp hp0
    rw [if_pos hc]
    dsimp only at hp hp0
    refine ⟨fun _ => ⟨fun w0 => ⟨c0, by omega, ?_⟩, fun w1 => ⟨c0, by omega, ?_⟩, fun w2 => ?_, fun w3 B' => ?_, fun w5 => ?_⟩, fun z => by cases z⟩
    · rw [if_pos w0] at hp0; rw [q.te.2.2.2.1 p c0 c1]; exact hp0
    · rw [if_neg (by omega), if_pos w1] at hp0; rw [q.td.2.2 p c0 c1]; exact hp0
    · rw [if_neg (by omega), if_neg (by omega), if_pos w2] at hp0
      refine eX3_cellsOwned fun X C e B => fun B' => ?_
      exact l_owned q B'.2.1 C B'.1 T.en.cm.toNat 0 (by omega) R32_0 fun _ => hp0
    · rw [if_neg (by omega), if_neg (by omega), if_neg (by omega), if_pos w3] at hp
      exact l_painter65 q.en B'.2.1 C T.en.tm.toNat 0 h (by omega) q B'.1 R32_0 hp
    · rw [if_neg (by omega), if_neg (by omega), if_neg (by omega), if_neg (by omega)] at hp0; exact hp0
  · unfold aPainter at hp0; rw [if_neg hc] at hp0
    rw [if_neg hc]
    exact ⟨fun z => absurd rfl z, fun _ => hp0⟩
/-! count -/
theorem l_count230 (q : TR h 2 T.en T.st) (A : XS h) (t2 : h 1 0 = 2) {X : MX} {h0 : Mem} (C : Cx G X cX0_count 4 RX0 1 0 0 (some .int) "count") (B : EX h0 h) :
    ∀ m k : Nat, (k : Int) + m = T.en.cm → R32 (setN (wetQ T) k) → P (setN (wetQ T) T.en.cm.toNat) h →
    V G X 4 0 0 (QF G X 0 0 0 (PI h0 P)) 230 [(0, rf 1), (2, iv (setN (wetQ T) k)), (3, iv (k : Int))] [] h := by
  intro m
  have Kc := q.en.cm
  induction m with
  | zero =>
    intro k hk R hp
    refine wX0_count_L230 C ⟨B, R, ⟨by omega, by omega⟩⟩ ⟨A, t2, ?_⟩
    rw [q.te.1.2.2.2.2.1]
    refine ⟨fun _ => ?_, fun z => absurd z (by omega)⟩
    rw [show T.en.cm.toNat = k by omega] at hp; exact hp
  | succ m ih =>
    intro k hk R hp
    refine wX0_count_L230 C ⟨B, R, ⟨by omega, by omega⟩⟩ ⟨A, t2, ?_⟩
    rw [q.te.1.2.2.2.2.1]
    refine ⟨fun z => absurd z (by omega), fun _ => sX1_isWet q (by omega) (by omega) fun _ => ⟨fun z y ey => ⟨⟨by omega, by omega⟩, fun B' => ?_⟩, fun z y ey => ⟨⟨by omega, by omega⟩, fun B' => ?_⟩⟩⟩
    · have e : setN (wetQ T) (k + 1) = y := by
        rw [ey, setN, if_neg]
        intro w; unfold wetQ at w; rw [if_pos w] at z; cases z
      have := ih (k + 1) (by omega) (by rw [e]; exact B'.2.1) hp
      rwa [e, show ((k + 1 : Nat) : Int) = (k : Int) + 1 by omega] at this
    · have e : setN (wetQ T) (k + 1) = y := by
        rw [ey, setN, if_pos]
        exact Classical.byContradiction fun w => by unfold wetQ at w; rw [if_neg w] at z; exact z rfl
      have := ih (k + 1) (by omega) (by rw [e]; exact B'.2.1) hp
      rwa [e, show ((k + 1 : Nat) : Int) = (k : Int) + 1 by omega] at this
theorem l_wetCells (q : MR h T.en T.st) {X : MX} {h0 : Mem} (C : Cx G X cX3_wetCells 3 RX3 2 0 0 (some .int) "wetCells") (B : EX h0 h) :
    ∀ m k : Nat, (k : Int) + m = T.en.cm → R32 (setN (wetQ T) k) → P (setN (wetQ T) T.en.cm.toNat) h →
    V G X 3 0 0 (QF G X 0 0 0 (PI h0 P)) 4 [(0, rf 177), (1, iv (setN (wetQ T) k)), (2, iv (k : Int))] [] h := by
  intro m
  have Kc := q.en.cm
  induction m with
  | zero =>
    intro k hk R hp
    refine wX3_wetCells_L4 C ⟨B, R, ⟨by omega, by omega⟩⟩ ⟨q.ms, ?_⟩
    rw [q.te.1.2.2.2.2.1]
    refine ⟨fun _ => ?_, fun z => absurd z (by omega)⟩
    rw [show T.en.cm.toNat = k by omega] at hp; exact hp
  | succ m ih =>
    intro k hk R hp
    refine wX3_wetCells_L4 C ⟨B, R, ⟨by omega, by omega⟩⟩ ⟨q.ms, ?_⟩
    rw [q.te.1.2.2.2.2.1]
    refine ⟨fun z => absurd z (by omega), fun _ => sX3_isTopWet q (by omega) (by omega) fun _ => ⟨fun z y ey => ⟨⟨by omega, by omega⟩, fun B' => ?_⟩, fun z y ey => ⟨⟨by omega, by omega⟩, fun B' => ?_⟩⟩⟩
    · have e : setN (wetQ T) (k + 1) = y := by
        rw [ey, setN, if_neg]
        intro w; unfold wetQ at w; rw [if_pos w] at z; cases z
      have := ih (k + 1) (by omega) (by rw [e]; exact B'.2.1) hp
      rwa [e, show ((k + 1 : Nat) : Int) = (k : Int) + 1 by omega] at this
    · have e : setN (wetQ T) (k + 1) = y := by
        rw [ey, setN, if_pos]
        exact Classical.byContradiction fun w => by unfold wetQ at w; rw [if_neg w] at z; exact z rfl
      have := ih (k + 1) (by omega) (by rw [e]; exact B'.2.1) hp
      rwa [e, show ((k + 1 : Nat) : Int) = (k : Int) + 1 by omega] at this
/-- of a street: by its number -/
def cntT (T : Tn) (w : Int) : Int := if w = 0 then T.en.dry else if w = 1 then T.en.part else if w = 2 then T.en.cost else if w = 3 then T.en.tm else if w = 4 then T.en.cm else if w = 5 then T.en.pm else if w = 6 then T.en.suit else if w = 9 then T.st.now else if w = 10 then setN (wetQ T) T.en.cm.toNat else if w = 11 then T.st.bare else if w = 12 then (T.lg.length : Int) else (T.un.length : Int)
def aCount (Z : Zt) (w : Int) : Int := if w = 7 then (Z.rl.length : Int) else if w = 8 then Z.f else if w = 14 then Z.x else if w = 15 then Z.tn else if 0 ≤ w ∧ w ≤ 15 then (match Z.s with
  | none => 0
  | some T => cntT T w) else -1
theorem oX_count (I : IX h Z) {w : Int} (hp : P (aCount Z w) h) : kX0_count G l w h P := by
  refine eX0_count fun X C e B => ⟨I.xs, fun q => ?_, fun q => ?_, fun q => ?_, fun q => ?_, fun q => sX0_in fun _ => ?_⟩
  · unfold aCount at hp; rw [if_pos q] at hp; rw [I.rl.1]; exact hp
  · unfold aCount at hp; rw [if_neg (by omega), if_pos q] at hp; rw [I.e8]; exact hp
  · unfold aCount at hp; rw [if_neg (by omega), if_neg (by omega), if_pos q] at hp; rw [I.e7]; exact hp
  · unfold aCount at hp; rw [if_neg (by omega), if_neg (by omega), if_neg (by omega), if_pos q] at hp; rw [I.tp.1]; exact hp
  · unfold aCount at hp; rw [if_neg (by omega), if_neg (by omega), if_neg (by omega), if_neg (by omega)] at hp
    by_cases hw : 0 ≤ w ∧ w ≤ 15
    · rw [if_pos hw] at hp
      rw [if_pos hw]
      refine ⟨fun _ => ⟨fun q2 => ?_, fun q2 => ?_⟩, fun z => by cases z⟩
      · cases hs : Z.s with
        | none => exact absurd (I.no hs) q2
        | some T =>
          rw [hs] at hp
          dsimp only at hp
          have t := I.tn hs
          have r := t.2.tr
          have Km := r.en.cm
          obtain ⟨a1, a2, a3, a4, a5, a6, a7, a8⟩ := r.te.1
          rw [cntT] at hp
          refine ⟨fun z => ⟨t.1, ?_⟩, fun z => ⟨t.1, ?_⟩, fun z => ⟨t.1, ?_⟩, fun z => ⟨t.1, ?_⟩, fun z => ⟨t.1, ?_⟩, fun z => ⟨t.1, ?_⟩, fun z => ⟨t.1, ?_⟩, fun z => ⟨t.1, ?_⟩, fun z B' => ?_, fun z => ⟨t.1, ?_⟩, fun z => ⟨t.1, ?_⟩, fun z => ⟨t.1, ?_⟩⟩
          · rw [if_pos z] at hp; rw [a1]; exact hp
          · rw [if_neg (by omega), if_pos z] at hp; rw [a2]; exact hp
          · rw [if_neg (by omega), if_neg (by omega), if_pos z] at hp; rw [a3]; exact hp
          · rw [if_neg (by omega), if_neg (by omega), if_neg (by omega), if_pos z] at hp; rw [a4]; exact hp
          · rw [if_neg (by omega), if_neg (by omega), if_neg (by omega), if_neg (by omega), if_pos z] at hp; rw [a5]; exact hp
          · rw [if_neg (by omega), if_neg (by omega), if_neg (by omega), if_neg (by omega), if_neg (by omega), if_pos z] at hp; rw [a6]; exact hp
          · rw [if_neg (by omega), if_neg (by omega), if_neg (by omega), if_neg (by omega), if_neg (by omega), if_neg (by omega), if_pos z] at hp; rw [a8]; exact hp
          · rw [if_neg (by omega), if_neg (by omega), if_neg (by omega), if_neg (by omega), if_neg (by omega), if_neg (by omega), if_neg (by omega), if_pos z] at hp; rw [r.td.1.1]; exact hp
          · rw [if_neg (by omega), if_neg (by omega), if_neg (by omega), if_neg (by omega), if_neg (by omega), if_neg (by omega), if_neg (by omega), if_neg (by omega), if_pos z] at hp
            exact l_count230 r I.xs t.1 C B'.1 T.en.cm.toNat 0 (by omega) R32_0 hp
          · rw [if_neg (by omega), if_neg (by omega), if_neg (by omega), if_neg (by omega), if_neg (by omega), if_neg (by omega), if_neg (by omega), if_neg (by omega), if_neg (by omega), if_pos z] at hp; rw [r.td.1.2]; exact hp
          · rw [if_neg (by omega), if_neg (by omega), if_neg (by omega), if_neg (by omega), if_neg (by omega), if_neg (by omega), if_neg (by omega), if_neg (by omega), if_neg (by omega), if_neg (by omega), if_pos z] at hp; rw [t.2.lg.1]; exact hp
          · rw [if_neg (by omega), if_neg (by omega), if_neg (by omega), if_neg (by omega), if_neg (by omega), if_neg (by omega), if_neg (by omega), if_neg (by omega), if_neg (by omega), if_neg (by omega), if_neg (by omega)] at hp; rw [t.2.un.1]; exact hp
      · cases hs : Z.s with
        | none => rw [hs] at hp; exact hp
        | some T => have := (I.tn hs).1; omega
    · rw [if_neg hw] at hp
      rw [if_neg hw]
      exact ⟨fun z => absurd rfl z, fun _ => hp⟩
/-- what the model counts -/
theorem IM.cntm (I : IM h Z) {w : Int} (hw : 0 ≤ w ∧ w ≤ 15 ∧ w ≠ 7 ∧ w ≠ 8 ∧ w ≠ 14 ∧ w ≠ 15 ∧ w ≠ 10) (hp : P (aCount Z w) h) :
    P (if w = 0 then h 178 0 else if w = 1 then h 178 1 else if w = 2 then h 178 2 else if w = 3 then h 178 3 else if w = 4 then h 178 4 else if w = 5 then h 178 5 else if w = 6 then h 178 6 else if w = 9 then h 178 9 else if w = 11 then h 178 8 else if w = 12 then h 178 10 else h 177 51) h := by
  unfold aCount at hp; rw [if_neg (by omega), if_neg (by omega), if_neg (by omega), if_neg (by omega), if_pos (by omega)] at hp
  cases hs : Z.s with
  | none =>
    rw [hs] at hp
    have z := I.no hs
    rw [z.1 0 (by decide) (by decide), z.1 1 (by decide) (by decide), z.1 2 (by decide) (by decide), z.1 3 (by decide) (by decide), z.1 4 (by decide) (by decide), z.1 5 (by decide) (by decide), z.1 6 (by decide) (by decide), z.1 9 (by decide) (by decide), z.1 8 (by decide) (by decide), z.1 10 (by decide) (by decide), z.2]
    simp only [ite_self]
    exact hp
  | some T =>
    rw [hs] at hp
    have t := I.tn hs
    obtain ⟨a1, a2, a3, a4, a5, a6, a7, a8⟩ := t.mr.te.1
    rw [a1, a2, a3, a4, a5, a6, a7, t.mr.td.1.1, t.mr.td.1.2, t.lg.1, t.un.1]
    dsimp only at hp
    rw [cntT] at hp
    rw [if_neg (c := w = 10) (by omega)] at hp
    exact hp
theorem oM_count (I : IM h Z) {w : Int} (hp : P (aCount Z w) h) : kX3_count G l w h P := by
  have go : ∀ v : Int, w = v → (0 ≤ v ∧ v ≤ 15 ∧ v ≠ 7 ∧ v ≠ 8 ∧ v ≠ 14 ∧ v ≠ 15 ∧ v ≠ 10) → P (if v = 0 then h 178 0 else if v = 1 then h 178 1 else if v = 2 then h 178 2 else if v = 3 then h 178 3 else if v = 4 then h 178 4 else if v = 5 then h 178 5 else if v = 6 then h 178 6 else if v = 9 then h 178 9 else if v = 11 then h 178 8 else if v = 12 then h 178 10 else h 177 51) h := fun v e r => by
    subst e; exact I.cntm r hp
  refine eX3_count fun X C e B => ⟨I.ms, fun z => go 0 z (by decide), fun z => go 1 z (by decide), fun z => go 2 z (by decide), fun z => go 3 z (by decide), fun z => go 4 z (by decide), fun z => go 5 z (by decide), fun z => go 6 z (by decide), fun z => ?_, fun z => ?_, fun z => go 9 z (by decide), fun z => ?_, fun z => go 11 z (by decide), fun z => go 12 z (by decide), fun z => go 13 z (by decide), fun z => ?_, fun z => ?_, fun z => ?_⟩
  · unfold aCount at hp; rw [if_pos z] at hp; rw [I.rl.1]; exact hp
  · unfold aCount at hp; rw [if_neg (by omega), if_pos z] at hp; rw [I.e12]; exact hp
  · unfold aCount at hp; rw [if_neg (by omega), if_neg (by omega), if_neg (by omega), if_neg (by omega), if_pos (by omega)] at hp
    refine eX3_wetCells fun X C e B => fun B' => ?_
    cases hs : Z.s with
    | none =>
      rw [hs] at hp
      refine wX3_wetCells_L4 C ⟨B'.1, ⟨by decide, by decide⟩, ⟨by decide, by decide⟩⟩ ⟨I.ms, ?_⟩
      rw [(I.no hs).1 4 (by decide) (by decide)]
      exact ⟨fun _ _ => hp, fun z => absurd z (by decide)⟩
    | some T =>
      rw [hs] at hp
      have r := (I.tn hs).mr
      have Km := r.en.cm
      dsimp only at hp
      rw [cntT, if_neg (by omega), if_neg (by omega), if_neg (by omega), if_neg (by omega), if_neg (by omega), if_neg (by omega), if_neg (by omega), if_neg (by omega), if_pos z] at hp
      exact l_wetCells r C B'.1 T.en.cm.toNat 0 (by omega) R32_0 fun _ => hp
  · unfold aCount at hp; rw [if_neg (by omega), if_neg (by omega), if_pos z] at hp; rw [I.e11]; exact hp
  · unfold aCount at hp; rw [if_neg (by omega), if_neg (by omega), if_neg (by omega), if_pos z] at hp; rw [I.tp.1]; exact hp
  · unfold aCount at hp; rw [if_neg (by omega), if_neg (by omega), if_neg (by omega), if_neg (by omega), if_neg (by omega)] at hp; exact hp
end
