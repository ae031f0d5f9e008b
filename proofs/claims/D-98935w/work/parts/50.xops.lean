/-! the street of X: the law in force, what there is, hours gone through -/
set_option maxRecDepth 100000
/-- X's town: none, or its own one (cell 2) -/
def XT (h : Mem) : Prop := h 1 0 = 0 ∨ h 1 0 = 2
def XLaw (h : Mem) (o : Option Vf) : Prop := (h 1 8 = -1 ∧ o = none) ∨ (0 ≤ h 1 8 ∧ h 1 8 < 6 ∧ h 171 (h 1 8) ≠ 0 ∧ LawX h (h 171 (h 1 8)) o)
theorem XLaw.keep {h h' : Mem} {o : Option Vf} (q : XLaw h o) (k : KF h h') (x : Ext h h') (e1 : h' 1 8 = h 1 8) (e2 : ∀ j : Int, h' 171 j = h 171 j) : XLaw h' o := by
  rcases q with ⟨a, b⟩ | ⟨a, b, c, d⟩
  · exact Or.inl ⟨e1.trans a, b⟩
  · exact Or.inr ⟨by rw [e1]; exact a, by rw [e1]; exact b, by rw [e1, e2]; exact c, by rw [e1, e2]; exact d.keep k x⟩
section
variable {G : GT} {P : Int → Mem → Prop} {l : Launch}
theorem sX0_law {h : Mem} {o : Option Vf} (A : XS h) (L : XLaw h o) (hp : ∀ r : Int, LawX h r o → P r h) : kX0_law G l h P := by
  refine eX0_law fun X C e B => ⟨A, fun q => ?_, fun q => ?_⟩
  · rcases L with ⟨a, b⟩ | ⟨a, b, c, d⟩
    · exact absurd a q
    · exact ⟨a, b, hp _ d⟩
  · rcases L with ⟨a, b⟩ | ⟨a, b, c, d⟩
    · exact hp 0 (Or.inl ⟨rfl, b⟩)
    · omega
theorem sX0_isCell {h : Mem} (A : XS h) (t : XT h) {n c : Int} (hn : h 1 0 = 2 → h 2 4 = n) (hp : P (if h 1 0 = 2 ∧ 0 ≤ c ∧ c < n then 1 else 0) h) : kX0_isCell G l c h P := by
  refine eX0_isCell fun X C e B => ⟨A, fun q => ?_, fun q => ?_⟩
  · rw [if_neg (by omega)] at hp; exact hp
  · have t2 : h 1 0 = 2 := t.resolve_left q
    refine ⟨fun q2 => ?_, fun q2 => ⟨t2, ?_⟩⟩
    · rw [if_neg (by omega)] at hp; exact hp
    · rw [hn t2]
      refine ⟨fun q3 => ?_, fun q3 => ?_⟩
      · rw [if_neg (by omega)] at hp; exact hp
      · rw [if_pos ⟨t2, by omega, q3⟩] at hp; exact hp
theorem sX0_isThing {h : Mem} (A : XS h) (t : XT h) {n c : Int} (hn : h 1 0 = 2 → h 2 3 = n) (hp : P (if h 1 0 = 2 ∧ 0 ≤ c ∧ c < n then 1 else 0) h) : kX0_isThing G l c h P := by
  refine eX0_isThing fun X C e B => ⟨A, fun q => ?_, fun q => ?_⟩
  · rw [if_neg (by omega)] at hp; exact hp
  · have t2 : h 1 0 = 2 := t.resolve_left q
    refine ⟨fun q2 => ?_, fun q2 => ⟨t2, ?_⟩⟩
    · rw [if_neg (by omega)] at hp; exact hp
    · rw [hn t2]
      refine ⟨fun q3 => ?_, fun q3 => ?_⟩
      · rw [if_neg (by omega)] at hp; exact hp
      · rw [if_pos ⟨t2, by omega, q3⟩] at hp; exact hp
theorem sX0_isPainter {h : Mem} (A : XS h) (t : XT h) {n c : Int} (hn : h 1 0 = 2 → h 2 5 = n) (hp : P (if h 1 0 = 2 ∧ 0 ≤ c ∧ c < n then 1 else 0) h) : kX0_isPainter G l c h P := by
  refine eX0_isPainter fun X C e B => ⟨A, fun q => ?_, fun q => ?_⟩
  · rw [if_neg (by omega)] at hp; exact hp
  · have t2 : h 1 0 = 2 := t.resolve_left q
    refine ⟨fun q2 => ?_, fun q2 => ⟨t2, ?_⟩⟩
    · rw [if_neg (by omega)] at hp; exact hp
    · rw [hn t2]
      refine ⟨fun q3 => ?_, fun q3 => ?_⟩
      · rw [if_neg (by omega)] at hp; exact hp
      · rw [if_pos ⟨t2, by omega, q3⟩] at hp; exact hp
theorem XS.got {h : Mem} (A : XS h) {g : Int → Int} (q : ∀ p : Int, 0 ≤ p → p < 4 → h 165 p = g p) : XG h g := ⟨A.k165, A.l165, q⟩
variable {E : En} {a : Int}
theorem l_gotIn {S : St} {o : Option Vf} {g : Int → Int} {p n r : Int} (ha : aOk a) (p0 : 0 ≤ p) (p1 : p < 4) (hn0 : 0 ≤ n) (hn : S.now + n < 1000000) (hS : 0 ≤ S.now) {X : MX} {h0 : Mem} (C : Cx G X cX0_gotIn 6 RX0 405 0 0 (some .int) "gotIn") :
    ∀ (m k : Nat) (h : Mem), (k : Int) + m = n → EX h0 h → XS h → TR h a E (passN E o S g k).1 → (passN E o S g k).1.now = S.now + k → XG h (passN E o S g k).2 → LawX h r o → (∀ h' : Mem, EX h h' → Fr (sTg a) h h' → TR h' a E (passN E o S g n.toNat).1 → XG h' (passN E o S g n.toNat).2 → P ((passN E o S g n.toNat).2 p) h') →
    V G X 6 0 0 (QF G X 0 0 0 (PI h0 P)) 10 [(0, rf 1), (1, rf a), (2, iv p), (3, iv n), (4, rf r), (5, iv (k : Int))] [] h := by
  intro m
  induction m with
  | zero =>
    intro k h hk B A T tn xg R hp
    refine wX0_gotIn_L10 C ⟨B, ⟨by omega, by omega⟩, ⟨by omega, by omega⟩, ⟨by omega, by omega⟩⟩ ⟨A, T.tw, fun _ => ⟨p0, p1, ?_⟩, fun q => absurd q (by omega)⟩
    rw [show n.toNat = k by omega] at hp
    rw [xg.2.2 p p0 p1]
    exact hp h (EX.rf B.2) (Fr.rf _ _) T xg
  | succ m ih =>
    intro k h hk B A T tn xg R hp
    have kn := T.st.now
    refine wX0_gotIn_L10 C ⟨B, ⟨by omega, by omega⟩, ⟨by omega, by omega⟩, ⟨by omega, by omega⟩⟩ ⟨A, T.tw, fun q => absurd q (by omega), fun _ => ?_⟩
    refine sX1_passes ha T xg R (by omega) fun h5 e5 f5 T5 x5 R5 _ => ⟨⟨by omega, by omega⟩, fun B' => ?_⟩
    have := ih (k + 1) h5 (by omega) B'.1 (A.ext e5.1) T5 (by
      show (passS E (passN E o S g k).1 o).now = _
      rw [passS_now T.en T.st, tn]; omega) x5 R5 fun h' e4 f4 => hp h' (e5.tr e4) (f5.tr f4)
    rwa [show ((k + 1 : Nat) : Int) = (k : Int) + 1 by omega] at this
theorem sX0_gotIn {h : Mem} {S : St} {o : Option Vf} {g : Int → Int} {p n r : Int} (ha : aOk a) (A : XS h) (T : TR h a E S) (xg : XG h g) (R : LawX h r o) (p0 : 0 ≤ p) (p1 : p < 4) (hn0 : 0 ≤ n) (hn : S.now + n < 1000000)
    (hp : ∀ h' : Mem, EX h h' → Fr (sTg a) h h' → TR h' a E (passN E o S (fu g p 0) n.toNat).1 → XG h' (passN E o S (fu g p 0) n.toNat).2 → P ((passN E o S (fu g p 0) n.toNat).2 p) h') : kX0_gotIn G l a p n r h P := by
  refine eX0_gotIn fun X C e B => ⟨A, p0, p1, fun h3 e3 B' => ?_⟩
  have x3 : EX h h3 := B'.1
  have f3 : Fr (fun b _ => b = 165) h h3 := by rw [e3]; exact (Fr.rf _ _).up rfl
  have T3 : TR h3 a E S := T.keep x3.1 fun b j q => f3 b j (by unfold tIn at q; unfold aOk at ha; omega)
  have g3 : XG h3 (fu g p 0) := by
    refine ⟨by rw [e3, up_i (by omega)]; exact xg.1, by rw [e3, up_i (by omega)]; exact xg.2.1, fun q q0 q1 => ?_⟩
    rw [e3]
    by_cases z : q = p
    · rw [z, up_s, fu_s]
    · rw [up_i z, fu_n z]; exact xg.2.2 q q0 q1
  have R3 : LawX h3 r o := R.keep (fun b j q => f3 b j fun z => by rw [z, xg.1] at q; unfold aK at q; omega) x3.1
  exact l_gotIn ha p0 p1 hn0 hn T.st.now.1 C n.toNat 0 h3 (by omega) x3 (A.ext x3.1) T3 (by show S.now = S.now + ((0 : Nat) : Int); omega) g3 R3 fun h' e4 f4 => hp h' (x3.tr e4) ((f3.mono fun b j q => Or.inr q).tr f4)
end
