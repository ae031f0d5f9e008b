/-! the model's rules: rows of entries that push a value -/
set_option maxRecDepth 100000
def bothF (s x y : Int) : Int := if s = 2 then w64 (x + y) else if s = 3 then w64 (x - y) else if s = 4 then (if x < y then 1 else 0) else if s = 5 then (if x ≤ y then 1 else 0) else if s = 6 then (if x = y then 1 else 0) else if s = 7 then (if y ≤ x then 1 else 0) else if s = 8 then (if y < x then 1 else 0)
  else if s = 10 then lAnd x y else if s = 13 then w64 (x * y) else if s = 14 then (if y = 0 then 0 else w64 (x.tdiv y)) else if s = 15 then (if y = 0 then 0 else w64 (x.tmod y)) else lOr x y
theorem bothF_R (s x y : Int) : R64 (bothF s x y) := by
  have z : R64 0 := ⟨by decide, by decide⟩
  have o : R64 1 := ⟨by decide, by decide⟩
  unfold bothF
  repeat' split
  all_goals first | exact w64_R _ | exact z | exact o | exact R64_toInt _
/-- one entry over a stack (the top first); none: too few stand there, or no such word -/
def stepE (w : Int → Int) (e : Int × Int) (st : List Int) : Option (List Int) :=
  if e.1 = 0 then some (e.2 :: st) else if e.1 = 1 then (if 0 ≤ e.2 ∧ e.2 < 13 then some (w e.2 :: st) else none) else if e.1 = 9 then (match st with
    | x :: r => some (w64 (1 - x) :: r)
    | [] => none) else match st with
    | y :: x :: r => some (bothF e.1 x y :: r)
    | _ => none
def runE (w : Int → Int) : List (Int × Int) → List Int → Option (List Int)
  | [], st => some st
  | e :: es, st => (stepE w e st).bind (runE w es)
theorem runE_app (w : Int → Int) : ∀ (a b : List (Int × Int)) (st : List Int), runE w (a ++ b) st = (runE w a st).bind (runE w b)
  | [], b, st => rfl
  | e :: es, b, st => by
    show (stepE w e st).bind (runE w (es ++ b)) = ((stepE w e st).bind (runE w es)).bind (runE w b)
    cases stepE w e st with
    | none => rfl
    | some x => exact runE_app w es b x
theorem stepE_len {w : Int → Int} {e : Int × Int} {st st' : List Int} (h : stepE w e st = some st') : st'.length ≤ st.length + 1 := by
  unfold stepE at h
  split at h
  · cases h; exact Nat.le_refl _
  · split at h
    · split at h
      · cases h; exact Nat.le_refl _
      · cases h
    · split at h
      · split at h
        · cases h; simp
        · cases h
      · split at h
        · cases h; simp
        · cases h
/-- the entries push what f comes to -/
def Push (cs : List (Int × Int)) (f : Vf) : Prop := ∀ (w : Int → Int) (st : List Int), (∀ i, R64 (w i)) → runE w cs st = some (f w :: st)
def EntX (h : Mem) (r a : Int) (cs : List (Int × Int)) : Prop := ∀ (k : Nat) (x : Int × Int), cs[k]? = some x → h 205 (300 * r + a + k) = x.1 ∧ h 206 (300 * r + a + k) = x.2
/-- the stack's row, the top first -/
def StR (h : Mem) : List Int → Prop
  | [] => True
  | x :: r => h 213 (r.length : Int) = x ∧ StR h r
theorem StR.keep {h h' : Mem} : ∀ {st : List Int}, StR h st → (∀ i : Int, 0 ≤ i → i < (st.length : Int) → h' 213 i = h 213 i) → StR h' st
  | [], _, _ => trivial
  | x :: r, ⟨a, b⟩, k => ⟨(k _ (by omega) (by rw [List.length_cons]; omega)).trans a, b.keep fun i i0 i1 => k i i0 (by rw [List.length_cons]; omega)⟩
def sSt : Int → Int → Prop := fun b _ => b = 213
section
variable {G : GT} {P : Int → Mem → Prop} {l : Launch}
theorem sX3_truth {h : Mem} {x : Int} (hp : P (if x = 0 then 0 else 1) h) : kX3_truth G l x h P :=
  eX3_truth fun X C e B => ⟨fun z => by rw [if_pos z] at hp; exact hp, fun z => by rw [if_neg z] at hp; exact hp⟩
theorem sX3_both {h : Mem} {s x y : Int} (hp : P (bothF s x y) h) : kX3_both G l s x y h P := by
  refine eX3_both fun X C e B => ?_
  unfold bothF at hp
  have t0 : ∀ {l : Launch}, P 0 h → kX3_truth G l 0 h (fun r h' => EX h h' → P r h') := fun z => sX3_truth fun _ => z
  have t1 : ∀ {l : Launch}, P 1 h → kX3_truth G l 1 h (fun r h' => EX h h' → P r h') := fun z => sX3_truth fun _ => z
  refine ⟨fun z => ?_, fun z => ?_, fun z => ⟨fun c => t0 ?_, fun c => t1 ?_⟩, fun z => ⟨fun c => t0 ?_, fun c => t1 ?_⟩, fun z => ⟨fun c => t0 ?_, fun c => t1 ?_⟩, fun z => ⟨fun c => t0 ?_, fun c => t1 ?_⟩, fun z => ⟨fun c => t0 ?_, fun c => t1 ?_⟩, fun z => ?_, fun z => ?_, fun z => ⟨fun c => ⟨c, ?_⟩, fun c => ?_⟩, fun z => ⟨fun c => ⟨c, ?_⟩, fun c => ?_⟩, fun ⟨z1, z2, z3, z4, z5, z6, z7, z8, z9, z10, z11⟩ => ?_⟩
  · rw [if_pos z] at hp; exact hp
  · rw [if_neg (by omega), if_pos z] at hp; exact hp
  · rw [if_neg (by omega), if_neg (by omega), if_pos z, if_neg (by omega)] at hp; exact hp
  · rw [if_neg (by omega), if_neg (by omega), if_pos z, if_pos (by omega)] at hp; exact hp
  · rw [if_neg (by omega), if_neg (by omega), if_neg (by omega), if_pos z, if_neg (by omega)] at hp; exact hp
  · rw [if_neg (by omega), if_neg (by omega), if_neg (by omega), if_pos z, if_pos (by omega)] at hp; exact hp
  · rw [if_neg (by omega), if_neg (by omega), if_neg (by omega), if_neg (by omega), if_pos z, if_neg (by omega)] at hp; exact hp
  · rw [if_neg (by omega), if_neg (by omega), if_neg (by omega), if_neg (by omega), if_pos z, if_pos (by omega)] at hp; exact hp
  · rw [if_neg (by omega), if_neg (by omega), if_neg (by omega), if_neg (by omega), if_neg (by omega), if_pos z, if_neg (by omega)] at hp; exact hp
  · rw [if_neg (by omega), if_neg (by omega), if_neg (by omega), if_neg (by omega), if_neg (by omega), if_pos z, if_pos (by omega)] at hp; exact hp
  · rw [if_neg (by omega), if_neg (by omega), if_neg (by omega), if_neg (by omega), if_neg (by omega), if_neg (by omega), if_pos z, if_neg (by omega)] at hp; exact hp
  · rw [if_neg (by omega), if_neg (by omega), if_neg (by omega), if_neg (by omega), if_neg (by omega), if_neg (by omega), if_pos z, if_pos (by omega)] at hp; exact hp
  · rw [if_neg (by omega), if_neg (by omega), if_neg (by omega), if_neg (by omega), if_neg (by omega), if_neg (by omega), if_neg (by omega), if_pos z] at hp; exact hp
  · rw [if_neg (by omega), if_neg (by omega), if_neg (by omega), if_neg (by omega), if_neg (by omega), if_neg (by omega), if_neg (by omega), if_neg (by omega), if_pos z] at hp; exact hp
  · rw [if_neg (by omega), if_neg (by omega), if_neg (by omega), if_neg (by omega), if_neg (by omega), if_neg (by omega), if_neg (by omega), if_neg (by omega), if_neg (by omega), if_pos z, if_neg c] at hp; exact hp
  · rw [if_neg (by omega), if_neg (by omega), if_neg (by omega), if_neg (by omega), if_neg (by omega), if_neg (by omega), if_neg (by omega), if_neg (by omega), if_neg (by omega), if_pos z, if_pos c] at hp; exact hp
  · rw [if_neg (by omega), if_neg (by omega), if_neg (by omega), if_neg (by omega), if_neg (by omega), if_neg (by omega), if_neg (by omega), if_neg (by omega), if_neg (by omega), if_neg (by omega), if_pos z, if_neg c] at hp; exact hp
  · rw [if_neg (by omega), if_neg (by omega), if_neg (by omega), if_neg (by omega), if_neg (by omega), if_neg (by omega), if_neg (by omega), if_neg (by omega), if_neg (by omega), if_neg (by omega), if_pos z, if_pos c] at hp; exact hp
  · rw [if_neg z1, if_neg z2, if_neg z3, if_neg z4, if_neg z5, if_neg z6, if_neg z7, if_neg z8, if_neg z9, if_neg z10, if_neg z11] at hp; exact hp
theorem l_answer {r u : Int} (r0 : 0 ≤ r) (r1 : r < 6) (u1 : u ≤ 300) {w : Int → Int} {v : Int} {X : MX} {h0 : Mem} (C : Cx G X cX3_answer 8 RX3 2 0 0 (some .long) "answer") :
    ∀ (cs : List (Int × Int)) (k : Int) (st : List Int) (h : Mem), EX h0 h → MS h → 0 ≤ k → k + (cs.length : Int) = u → (st.length : Int) ≤ k → EntX h r k cs → StR h st → (∀ i : Int, 0 ≤ i → i < 13 → h 212 i = w i) → runE w cs st = some [v] →
    (∀ h' : Mem, EX h h' → Fr sSt h h' → P v h') →
    V G X 8 0 0 (QF G X 1 0 0 (PJ h0 P)) 6 [(0, rf 177), (1, iv r), (3, iv u), (4, iv (st.length : Int)), (5, iv k)] [] h := by
  intro cs
  induction cs with
  | nil =>
    intro k st h B M k0 hk hst en sr hw hr hp
    have hk' : k = u := by simpa using hk
    refine wX3_answer_L6 C ⟨B, ⟨by omega, by omega⟩, ⟨by omega, by omega⟩, ⟨by omega, by omega⟩, ⟨by omega, by omega⟩⟩ ⟨M, fun _ => ?_, fun q => absurd q (by omega)⟩
    have es : st = [v] := Option.some.inj hr
    rw [es] at sr
    rw [show h 213 0 = v from sr.1]
    exact hp h (EX.rf B.2) (Fr.rf _ _)
  | cons e es ih =>
    intro k st h B M k0 hk hst en sr hw hr hp
    have hk' : k + ((es.length : Int) + 1) = u := by rw [List.length_cons] at hk; omega
    have e0 := en 0 e rfl
    have e0' : h 205 (300 * r + k) = e.1 ∧ h 206 (300 * r + k) = e.2 := by simpa using e0
    obtain ⟨st', hs, hr'⟩ : ∃ st', stepE w e st = some st' ∧ runE w es st' = some [v] := by
      change (stepE w e st).bind (runE w es) = some [v] at hr
      cases hst : stepE w e st with
      | none => rw [hst] at hr; cases hr
      | some x => rw [hst] at hr; exact ⟨x, rfl, hr⟩
    have hlen := stepE_len hs
    have nx : ∀ h' : Mem, EX h0 h' → EX h h' → Fr sSt h h' → StR h' st' → V G X 8 0 0 (QF G X 1 0 0 (PJ h0 P)) 6 [(0, rf 177), (1, iv r), (3, iv u), (4, iv (st'.length : Int)), (5, iv (k + 1))] [] h' := fun h' b2 x2 f2 s2 =>
      ih (k + 1) st' h' b2 (M.ext x2.1) (by omega) (by omega) (by omega) (fun i x hx => by
        have := en (i + 1) x (by rw [List.getElem?_cons_succ]; exact hx)
        rw [f2 205 _ (by unfold sSt; omega), f2 206 _ (by unfold sSt; omega), show 300 * r + (k + 1) + (i : Int) = 300 * r + k + ((i + 1 : Nat) : Int) by omega]
        exact this) s2 (fun i i0 i1 => (f2 212 i (by unfold sSt; omega)).trans (hw i i0 i1)) hr' fun h'' e3 f3 => hp h'' (x2.tr e3) (f2.tr f3)
    have one : ∀ (h' : Mem) (x : Int), st' = x :: st → R64 x → h' = up h 213 (st.length : Int) x → EX h h' ∧ Fr sSt h h' ∧ StR h' st' := fun h' x es' rx eh => by
      refine ⟨by rw [eh]; exact EX_up (EX.rf B.2) M.k213 (by decide) rfl (by omega) (okI_l rx), by rw [eh]; exact (Fr.rf _ _).up rfl, ?_⟩
      rw [es']
      refine ⟨by rw [eh, up_s], sr.keep fun i i0 i1 => by rw [eh, up_i (by omega)]⟩
    refine wX3_answer_L6 C ⟨B, ⟨by omega, by omega⟩, ⟨by omega, by omega⟩, ⟨by omega, by omega⟩, ⟨by omega, by omega⟩⟩ ⟨M, fun q => absurd q (by omega), fun _ => ⟨by omega, by omega, fun y4 ey4 y5 ey5 => ?_⟩⟩
    rw [e0'.1] at ey4
    have R5 : R32 y5 := by rw [ey5]; exact EX.rI B M.k206 rfl
    rw [e0'.2] at ey5
    subst ey4 ey5
    have rk : R32 (k + 1) := ⟨by omega, by omega⟩
    have rs : R32 ((st.length : Int) + 1) := ⟨by omega, by omega⟩
    unfold stepE at hs
    refine ⟨fun c0 => ⟨fun c => absurd c0 c, fun _ => ⟨by omega, by omega, fun h19 e19 => ⟨rs, rk, fun B' => ?_⟩⟩⟩, fun c0 => ⟨fun c1 => ⟨fun c9 => ?_, fun c9 => ?_⟩, fun c1 => ⟨fun _ => ?_, fun c => absurd c c0⟩⟩⟩
    · rw [if_pos c0] at hs
      obtain ⟨x2, f2, s2⟩ := one h19 e.2 (Option.some.inj hs).symm R5.l e19
      have := nx h19 B'.1 x2 f2 s2
      rw [← Option.some.inj hs, List.length_cons] at this
      rwa [show ((st.length + 1 : Nat) : Int) = (st.length : Int) + 1 by omega] at this
    · rw [if_neg c0, if_neg c1, if_neg c9] at hs
      match st, sr, hs, hst, hlen, nx with
      | [], _, hs, _, _, _ => cases hs
      | [_], _, hs, _, _, _ => cases hs
      | y :: x :: rest, ⟨sy, sx, sr2⟩, hs, hst, hlen, nx =>
        have hl : (((y :: x :: rest).length : Nat) : Int) = (rest.length : Int) + 2 := by rw [List.length_cons, List.length_cons]; omega
        have sy' : h 213 ((rest.length : Int) + 1) = y := by rw [List.length_cons] at sy; rwa [show ((rest.length + 1 : Nat) : Int) = (rest.length : Int) + 1 by omega] at sy
        rw [hl] at hst ⊢
        rw [show (rest.length : Int) + 2 + (-1) - 1 = (rest.length : Int) by omega, show (rest.length : Int) + 2 + (-1) = (rest.length : Int) + 1 by omega, sx, sy']
        refine ⟨⟨by omega, by omega⟩, by omega, by omega, by omega, by omega, sX3_both fun e6 h37 e37 => ⟨rk, fun B' => ?_⟩⟩
        have es' : st' = bothF e.1 x y :: rest := (Option.some.inj hs).symm
        have x2 : EX h h37 := by
          have : R64 (bothF e.1 x y) := bothF_R _ _ _
          rw [e37]; exact EX_up e6 M.k213 (by decide) rfl (by omega) (okI_l this)
        have f2 : Fr sSt h h37 := by rw [e37]; exact (Fr.rf _ _).up rfl
        have := nx h37 B'.1 x2 f2 (by rw [es']; exact ⟨by rw [e37, up_s], sr2.keep fun i i0 i1 => by rw [e37, up_i (by omega)]⟩)
        rw [es', List.length_cons] at this
        rwa [show ((rest.length + 1 : Nat) : Int) = (rest.length : Int) + 1 by omega] at this
    · rw [if_neg c0, if_neg c1, if_pos c9] at hs
      match st, sr, hs, hst, hlen, nx with
      | [], _, hs, _, _, _ => cases hs
      | x :: rest, ⟨sx, sr2⟩, hs, hst, hlen, nx =>
        have hl : (((x :: rest).length : Nat) : Int) = (rest.length : Int) + 1 := by rw [List.length_cons]; omega
        rw [hl] at hst ⊢
        rw [show (rest.length : Int) + 1 - 1 = (rest.length : Int) by omega, sx]
        refine ⟨by omega, by omega, fun h43 e43 => ⟨rk, fun B' => ?_⟩⟩
        have es' : st' = w64 (1 - x) :: rest := (Option.some.inj hs).symm
        have x2 : EX h h43 := by rw [e43]; exact EX_up (EX.rf B.2) M.k213 (by decide) rfl (by omega) (okI_l (w64_R _))
        have f2 : Fr sSt h h43 := by rw [e43]; exact (Fr.rf _ _).up rfl
        have := nx h43 B'.1 x2 f2 (by rw [es']; exact ⟨by rw [e43, up_s], sr2.keep fun i i0 i1 => by rw [e43, up_i (by omega)]⟩)
        rw [es', List.length_cons] at this
        rwa [show ((rest.length + 1 : Nat) : Int) = (rest.length : Int) + 1 by omega] at this
    · rw [if_neg c0, if_pos c1] at hs
      by_cases c13 : 0 ≤ e.2 ∧ e.2 < 13
      · rw [if_pos c13] at hs
        refine ⟨c13.1, c13.2, by omega, by omega, fun h52 e52 => ⟨rs, rk, fun B' => ?_⟩⟩
        rw [hw e.2 c13.1 c13.2] at e52
        obtain ⟨x2, f2, s2⟩ := one h52 (w e.2) (Option.some.inj hs).symm (by rw [← hw e.2 c13.1 c13.2]; exact EX.rJ B M.k212 rfl) e52
        have := nx h52 B'.1 x2 f2 s2
        rw [← Option.some.inj hs, List.length_cons] at this
        rwa [show ((st.length + 1 : Nat) : Int) = (st.length : Int) + 1 by omega] at this
      · rw [if_neg c13] at hs; cases hs
end
