/-! the model: what would be, and back -/
set_option maxRecDepth 100000
theorem MR.back {h hs : Mem} {E : En} {S : St} (T : MR hs E S) (e : Ext hs h) (k : Back9 h hs) (f : ∀ b j : Int, b = 179 ∨ b = 180 ∨ b = 181 ∨ b = 183 ∨ b = 184 → h b j = hs b j) : MR h E S := by
  have Kt := T.en.tm
  have Kc := T.en.cm
  have Kp := T.en.pm
  have Kr := T.en.rm
  refine ⟨T.ms.ext e, T.en, T.st, T.te.keep fun b j q => ?_, ⟨(k.1 9 (by decide) (by decide)).trans T.td.1.1, (k.1 8 (by decide) (by decide)).trans T.td.1.2⟩, fun c c0 c1 => ?_, fun p p0 p1 => (k.2.1 p p0 (by omega)).trans (T.td.2.2 p p0 p1)⟩
  · rcases q with q | q | q | q | q | q
    · rw [q.1]; exact k.1 j q.2.1 (by omega)
    · exact f b j (by omega)
    · exact f b j (by omega)
    · exact f b j (by omega)
    · exact f b j (by omega)
    · exact f b j (by omega)
  · have Z := (T.st.co c c0 c1).1
    rw [k.2.2.1 c c0 (by omega)]
    exact ⟨(T.co c0 c1).1, (T.co c0 c1).2.mono fun i i0 i1 => ⟨k.2.2.2.1 i (by omega) (by omega), k.2.2.2.2 i (by omega) (by omega)⟩⟩
section
variable {G : GT} {P : Int → Mem → Prop} {l : Launch}
theorem l_keepsAll {hs : Mem} {X : MX} {h0 : Mem} (C : Cx G X cX3_keepsAll 2 RX3 2 0 0 none "keepsAll") :
    ∀ (m k : Nat) (h : Mem), k + m = 4 → EX h0 h → MS h → Kept h hs → (∀ p : Int, 0 ≤ p → p < k → h 215 p = 0) → (∀ h' : Mem, EX h h' → Fr (fun b _ => b = 215) h h' → Kept h' hs → MG h' (fun _ => 0) → P 0 h') →
    V G X 2 0 0 (QF G X 3 0 0 (PR h0 P)) 8 [(0, rf 177), (1, iv (k : Int))] [] h := by
  intro m
  induction m with
  | zero =>
    intro k h hk B M kp z hp
    refine wX3_keepsAll_L8 C ⟨B, ⟨by omega, by omega⟩⟩ ⟨M, fun _ => hp h (EX.rf B.2) (Fr.rf _ _) kp fun p p0 p1 => z p p0 (by omega), fun q => absurd q (by omega)⟩
  | succ m ih =>
    intro k h hk B M kp z hp
    refine wX3_keepsAll_L8 C ⟨B, ⟨by omega, by omega⟩⟩ ⟨M, fun q => absurd q (by omega), fun _ => ⟨by omega, by omega, fun h4 e4 => ⟨⟨by omega, by omega⟩, fun B' => ?_⟩⟩⟩
    have x4 : EX h h4 := by rw [e4]; exact EX_up (EX.rf B.2) M.k215 (by decide) rfl (by omega) (okI_a (Or.inl rfl) ⟨by decide, by decide⟩)
    have f4 : Fr (fun b _ => b = 215) h h4 := by rw [e4]; exact (Fr.rf _ _).up rfl
    have := ih (k + 1) h4 (by omega) B'.1 (M.ext x4.1) (kp.keep fun j => f4 224 j (by omega)) (fun p p0 p1 => ?_) fun h' e3 f3 => hp h' (x4.tr e3) (f4.tr f3)
    · rwa [show ((k + 1 : Nat) : Int) = (k : Int) + 1 by omega] at this
    · rw [e4]
      by_cases q : p = k
      · rw [q, up_s]
      · rw [up_i q]; exact z p p0 (by omega)
theorem sX3_keepsAll {h : Mem} (M : MS h) (hp : ∀ h' : Mem, EX h h' → Fr (fun b j => sIm b j ∨ b = 215) h h' → Kept h' h → MG h' (fun _ => 0) → P 0 h') : kX3_keepsAll G l h P := by
  refine eX3_keepsAll fun X C e B => ⟨M, sX3_keeps4 M fun h2 e2 f2 k2 _ B' => ?_⟩
  exact l_keepsAll C 4 0 h2 rfl B'.1 (M.ext e2.1) k2 (fun p p0 p1 => absurd p1 (by omega)) fun h' e3 f3 k3 g3 => hp h' (e2.tr e3) ((f2.mono fun _ _ q => Or.inl q).tr (f3.mono fun _ _ q => Or.inr q)) k3 g3
theorem sX3_laysBack {h hs : Mem} (M : MS h) (kp : Kept h hs) (hp : ∀ h' : Mem, EX h h' → Fr sBk h h' → Back9 h' hs → P 0 h') : kX3_laysBack G l h P :=
  eX3_laysBack fun X C e B => ⟨M, sX3_back4 M kp fun h' e2 f2 b2 _ => hp h' e2 f2 b2⟩
end
