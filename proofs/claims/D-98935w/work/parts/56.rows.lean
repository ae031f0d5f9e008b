/-! rows of the past hold streets -/
set_option maxRecDepth 100000
def RowX (h : Mem) (a k : Int) (E : En) (S : St) : Prop :=
  (h (a + 15) (182 * k) = S.now ∧ h (a + 15) (182 * k + 1) = S.bare) ∧
  (∀ c : Int, 0 ≤ c → c < E.cm → h (a + 15) (182 * k + 2 + c) = ((S.co c).length : Int) ∧ Col (fun i => h (a + 15) (182 * k + 18 + i)) (fun i => h (a + 15) (182 * k + 98 + i)) eX (5 * c) (S.co c)) ∧
  (∀ p : Int, 0 ≤ p → p < E.pm → h (a + 15) (182 * k + 178 + p) = S.purse p)
def RowM (h : Mem) (k : Int) (E : En) (S : St) : Prop :=
  (h 216 (182 * k + 1) = S.now ∧ h 216 (182 * k) = S.bare) ∧
  (∀ c : Int, 0 ≤ c → c < E.cm → h 216 (182 * k + 6 + c) = ((S.co c).length : Int) ∧ Col (fun i => h 216 (182 * k + 22 + i)) (fun i => h 216 (182 * k + 102 + i)) eM (5 * c) (S.co c)) ∧
  (∀ p : Int, 0 ≤ p → p < E.pm → h 216 (182 * k + 2 + p) = S.purse p)
theorem UndoAt.row {h h0 : Mem} {a k : Int} {E : En} {S : St} (u : UndoAt h a k h0) (K : EnOk E) (O : StOk E S) (T : TD h0 a E S) : RowX h a k E S := by
  obtain ⟨u1, u2, u3, u4, u5, u6⟩ := u
  have Kc := K.cm
  have Kp := K.pm
  refine ⟨⟨u1.trans T.1.1, u2.trans T.1.2⟩, fun c c0 c1 => ?_, fun p p0 p1 => (u6 p p0 (by omega)).trans (T.2.2 p p0 p1)⟩
  have Z := (O.co c c0 c1).1
  exact ⟨(u3 c c0 (by omega)).trans (T.2.1 c c0 c1).1, (T.2.1 c c0 c1).2.mono fun i i0 i1 => ⟨u4 i (by omega) (by omega), u5 i (by omega) (by omega)⟩⟩
theorem PastAt.row {h h0 : Mem} {k : Int} {E : En} {S : St} (u : PastAt h k h0) (K : EnOk E) (O : StOk E S) (T : MD h0 E S) : RowM h k E S := by
  obtain ⟨u1, u2, u3, u4, u5, u6⟩ := u
  have Kc := K.cm
  have Kp := K.pm
  refine ⟨⟨u2.trans T.1.1, u1.trans T.1.2⟩, fun c c0 c1 => ?_, fun p p0 p1 => (u3 p p0 (by omega)).trans (T.2.2 p p0 p1)⟩
  have Z := (O.co c c0 c1).1
  exact ⟨(u4 c c0 (by omega)).trans (T.2.1 c c0 c1).1, (T.2.1 c c0 c1).2.mono fun i i0 i1 => ⟨u5 i (by omega) (by omega), u6 i (by omega) (by omega)⟩⟩
