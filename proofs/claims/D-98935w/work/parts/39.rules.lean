/-! RULES: what a sum, a test, a rule come to; their objects -/
set_option maxRecDepth 100000
abbrev Vf : Type := (Int → Int) → Int
abbrev Tf : Type := (Int → Int) → Bool
def binF (s : Int) (x y : Int) : Int := if s = 43 then w64 (x + y) else if s = 45 then w64 (x - y) else if s = 42 then w64 (x * y) else if s = 37 then (if y = 0 then 0 else w64 (x.tmod y)) else (if y = 0 then 0 else w64 (x.tdiv y))
def cmpF (s : Int) (x y : Int) : Bool := if s = 0 then decide (x < y) else if s = 1 then decide (x ≤ y) else if s = 2 then decide (x = y) else if s = 3 then decide (y ≤ x) else decide (y < x)
/-- the object v stands for the sum f: not deeper than n -/
def EvV (h : Mem) : Nat → Int → Vf → Prop
  | 0, _, _ => False
  | n + 1, v, f => (h v (-1) = 8 ∧ f = fun _ => h v 0) ∨ (h v (-1) = 9 ∧ 0 ≤ h v 0 ∧ h v 0 < 13 ∧ f = fun w => w (h v 0)) ∨
    (h v (-1) = 10 ∧ ∃ f1 f2 : Vf, EvV h n (h v 0) f1 ∧ EvV h n (h v 1) f2 ∧ f = fun w => binF (h v 2) (f1 w) (f2 w))
def EvT (h : Mem) : Nat → Int → Tf → Prop
  | 0, _, _ => False
  | n + 1, v, f => (h v (-1) = 11 ∧ ∃ f1 : Tf, EvT h n (h v 0) f1 ∧ f = fun w => !f1 w) ∨
    (h v (-1) = 12 ∧ ∃ f1 f2 : Vf, EvV h n (h v 0) f1 ∧ EvV h n (h v 1) f2 ∧ f = fun w => cmpF (h v 2) (f1 w) (f2 w)) ∨
    (h v (-1) = 13 ∧ ∃ f1 f2 : Tf, EvT h n (h v 0) f1 ∧ EvT h n (h v 1) f2 ∧ f = fun w => if h v 2 = 0 then f1 w || f2 w else f1 w && f2 w)
/-- a rule's clauses: sums, and tests (none: it fits) -/
abbrev Cl : Type := List (Vf × Option Tf)
def sumF : Cl → Vf
  | [], _ => 0
  | (f, none) :: _, w => f w
  | (f, some g) :: r, w => if g w = true then f w else sumF r w
def ClX (h : Mem) (c : Int) (x : Vf × Option Tf) : Prop := h c (-1) = 7 ∧ EvV h 400 (h c 0) x.1 ∧ (match x.2 with
  | none => h c 1 = 0
  | some g => h c 1 ≠ 0 ∧ EvT h 400 (h c 1) g)
def RuleX (h : Mem) (r : Int) (cl : Cl) : Prop := RuleS h r ∧ h r 1 = (cl.length : Int) ∧ cl.length ≤ 12 ∧ ∀ (k : Nat) (x : Vf × Option Tf), cl[k]? = some x → ClX h (h (r + 1) k) x
/-- kinds of rules' objects -/
def aK (k : Int) : Prop := (6 ≤ k ∧ k ≤ 13) ∨ k = 109
/-- rules' objects are as they were -/
def KF (h h' : Mem) : Prop := ∀ b j : Int, aK (h b (-1)) → h' b j = h b j
theorem KF.rf (h : Mem) : KF h h := fun _ _ _ => rfl
theorem KF.tr {h h1 h2 : Mem} (A : KF h h1) (B : KF h1 h2) : KF h h2 := fun b j q => (B b j (by rw [A b (-1) q]; exact q)).trans (A b j q)
theorem EvV.keep {h h' : Mem} (k : KF h h') : ∀ {n : Nat} {v : Int} {f : Vf}, EvV h n v f → EvV h' n v f
  | 0, _, _, q => q
  | n + 1, v, f, q => by
    have e : ∀ j : Int, h' v j = h v j := fun j => k v j (by rcases q with ⟨a, _⟩ | ⟨a, _⟩ | ⟨a, _⟩ <;> rw [a] <;> unfold aK <;> omega)
    rw [EvV] at q ⊢
    rw [e, e, e, e]
    rcases q with q | q | ⟨a, f1, f2, q1, q2, q3⟩
    · exact Or.inl q
    · exact Or.inr (Or.inl q)
    · exact Or.inr (Or.inr ⟨a, f1, f2, EvV.keep k q1, EvV.keep k q2, q3⟩)
theorem EvT.keep {h h' : Mem} (k : KF h h') : ∀ {n : Nat} {v : Int} {f : Tf}, EvT h n v f → EvT h' n v f
  | 0, _, _, q => q
  | n + 1, v, f, q => by
    have e : ∀ j : Int, h' v j = h v j := fun j => k v j (by rcases q with ⟨a, _⟩ | ⟨a, _⟩ | ⟨a, _⟩ <;> rw [a] <;> unfold aK <;> omega)
    rw [EvT] at q ⊢
    rw [e, e, e, e]
    rcases q with ⟨a, f1, q1, q2⟩ | ⟨a, f1, f2, q1, q2, q3⟩ | ⟨a, f1, f2, q1, q2, q3⟩
    · exact Or.inl ⟨a, f1, EvT.keep k q1, q2⟩
    · exact Or.inr (Or.inl ⟨a, f1, f2, EvV.keep k q1, EvV.keep k q2, q3⟩)
    · exact Or.inr (Or.inr ⟨a, f1, f2, EvT.keep k q1, EvT.keep k q2, q3⟩)
theorem ClX.keep {h h' : Mem} (k : KF h h') {c : Int} {x : Vf × Option Tf} (q : ClX h c x) : ClX h' c x := by
  obtain ⟨f, o⟩ := x
  obtain ⟨a, b, d⟩ := q
  have e : ∀ j : Int, h' c j = h c j := fun j => k c j (by rw [a]; unfold aK; omega)
  refine ⟨(e _).trans a, by rw [e]; exact b.keep k, ?_⟩
  cases o with
  | none => show h' c 1 = 0; rw [e]; exact d
  | some g => show h' c 1 ≠ 0 ∧ _; rw [e]; exact ⟨d.1, d.2.keep k⟩
theorem RuleX.keep {h h' : Mem} (k : KF h h') (x : Ext h h') {r : Int} {cl : Cl} (q : RuleX h r cl) : RuleX h' r cl := by
  obtain ⟨a, b, c, d⟩ := q
  have e : ∀ j : Int, h' r j = h r j := fun j => k r j (by rw [a.k]; unfold aK; omega)
  have e2 : ∀ j : Int, h' (r + 1) j = h (r + 1) j := fun j => k (r + 1) j (by rw [a.k0]; unfold aK; omega)
  exact ⟨a.ext x, (e 1).trans b, c, fun i y hy => by rw [e2]; exact (d i y hy).keep k⟩
section
variable {G : GT} {h : Mem} {w : Int}
/-- a row of words -/
def Wr (h : Mem) (w : Int) : Prop := h w (-1) = 104 ∧ 13 ≤ h w (-2)
theorem sVof (W : Wr h w) : ∀ (n d : Nat) (l : Launch) (v : Int) (f : Vf) (P : Int → Mem → Prop), n ≤ d → EvV h n v f → P (f (h w)) h → kVof G l d v w h P
  | 0, _, _, _, _, _, _, q, _ => q.elim
  | n + 1, 0, _, _, _, _, hd, _, _ => absurd hd (by omega)
  | n + 1, d + 1, l, v, f, P, hd, q, hp => by
    rcases q with ⟨a, q⟩ | ⟨a, q1, q2, q⟩ | ⟨a, f1, f2, q1, q2, q⟩
    · refine Or.inl ⟨a, eX8_of fun X C e B => ⟨a, ?_⟩⟩
      rw [q] at hp; exact hp
    · refine Or.inr (Or.inl ⟨a, eX9_of fun X C e B => ⟨a, W.1, q1, by have := W.2; omega, ?_⟩⟩)
      rw [q] at hp; exact hp
    · refine Or.inr (Or.inr ⟨a, eX10_of fun X C e B => ⟨a, sVof W n d _ _ f1 _ (by omega) q1 fun _ => ⟨a, sVof W n d _ _ f2 _ (by omega) q2 fun _ => ⟨a, ?_⟩⟩⟩⟩)
      rw [q] at hp
      dsimp only at hp
      unfold binF at hp
      refine ⟨fun z => ⟨fun z2 => ⟨z2, ?_⟩, fun z2 => ?_⟩, fun z => ?_, fun z => ?_, fun z => ?_, fun ⟨z1, z2, z3, z4⟩ => ⟨fun z5 => ⟨z5, ?_⟩, fun z5 => ?_⟩⟩
      · rw [if_neg (by omega), if_neg (by omega), if_neg (by omega), if_pos z, if_neg z2] at hp; exact hp
      · rw [if_neg (by omega), if_neg (by omega), if_neg (by omega), if_pos z, if_pos z2] at hp; exact hp
      · rw [if_neg (by omega), if_neg (by omega), if_pos z] at hp; exact hp
      · rw [if_pos z] at hp; exact hp
      · rw [if_neg (by omega), if_pos z] at hp; exact hp
      · rw [if_neg z3, if_neg z4, if_neg z2, if_neg z1, if_neg z5] at hp; exact hp
      · rw [if_neg z3, if_neg z4, if_neg z2, if_neg z1, if_pos z5] at hp; exact hp
theorem sVis (W : Wr h w) : ∀ (n d : Nat) (l : Launch) (v : Int) (f : Tf) (P : Int → Mem → Prop), n ≤ d → EvT h n v f → P (if f (h w) = true then 1 else 0) h → kVis G l d v w h P
  | 0, _, _, _, _, _, _, q, _ => q.elim
  | n + 1, 0, _, _, _, _, hd, _, _ => absurd hd (by omega)
  | n + 1, d + 1, l, v, f, P, hd, q, hp => by
    rcases q with ⟨a, f1, q1, q⟩ | ⟨a, f1, f2, q1, q2, q⟩ | ⟨a, f1, f2, q1, q2, q⟩
    · refine Or.inl ⟨a, eX12_is fun X C e B => ⟨a, sVis W n d _ _ f1 _ (by omega) q1 fun _ => ?_⟩⟩
      have hq : f (h w) = !f1 (h w) := by rw [q]
      rw [hq] at hp
      cases h1 : f1 (h w) <;> rw [h1] at hp
      · exact ⟨fun z => absurd rfl z, fun _ => hp⟩
      · exact ⟨fun _ => hp, fun z => absurd z (by decide)⟩
    · refine Or.inr (Or.inl ⟨a, eX13_is fun X C e B => ⟨a, sVof W n d _ _ f1 _ (by omega) q1 fun _ => ⟨a, sVof W n d _ _ f2 _ (by omega) q2 fun _ => ⟨a, ?_⟩⟩⟩⟩)
      have hq : f (h w) = cmpF (h v 2) (f1 (h w)) (f2 (h w)) := by rw [q]
      rw [hq] at hp
      have go : ∀ p : Prop, ∀ (D : Decidable p), cmpF (h v 2) (f1 (h w)) (f2 (h w)) = @decide p D → (¬ p → P 0 h) ∧ (p → P 1 h) := fun p D e9 => by
        rw [e9] at hp
        refine ⟨fun z => ?_, fun z => ?_⟩
        · rw [decide_eq_false z] at hp; exact hp
        · rw [decide_eq_true z] at hp; exact hp
      refine ⟨fun z => ?_, fun z => ?_, fun z => ?_, fun z => ?_, fun z => ?_⟩
      · have g := go (f1 (h w) < f2 (h w)) inferInstance (by unfold cmpF; rw [if_pos z])
        exact ⟨fun z2 => g.1 (by omega), g.2⟩
      · have g := go (f1 (h w) ≤ f2 (h w)) inferInstance (by unfold cmpF; rw [if_neg (by omega), if_pos z])
        exact ⟨fun z2 => g.1 (by omega), g.2⟩
      · have g := go (f1 (h w) = f2 (h w)) inferInstance (by unfold cmpF; rw [if_neg (by omega), if_neg (by omega), if_pos z])
        exact ⟨fun z2 => g.1 z2, g.2⟩
      · have g := go (f2 (h w) ≤ f1 (h w)) inferInstance (by unfold cmpF; rw [if_neg (by omega), if_neg (by omega), if_neg (by omega), if_pos z])
        exact ⟨fun z2 => g.1 (by omega), fun z2 => g.2 (by omega)⟩
      · have g := go (f2 (h w) < f1 (h w)) inferInstance (by unfold cmpF; rw [if_neg (by omega), if_neg (by omega), if_neg (by omega), if_neg (by omega)])
        exact ⟨fun z2 => g.1 (by omega), fun z2 => g.2 (by omega)⟩
    · have b1 : ∀ b : Bool, (if b = true then (1 : Int) else 0) ≠ 0 → b = true := fun b z => by
        cases b
        · exact absurd rfl z
        · rfl
      have b0 : ∀ b : Bool, (if b = true then (1 : Int) else 0) = 0 → b = false := fun b z => by
        cases b
        · rfl
        · exact absurd z (by decide)
      have pT : f (h w) = true → P 1 h := fun z => by rw [z] at hp; exact hp
      have pF : f (h w) = false → P 0 h := fun z => by rw [z] at hp; exact hp
      refine Or.inr (Or.inr ⟨a, eX14_is fun X C e B => ⟨a, fun z => sVis W n d _ _ f1 _ (by omega) q1 fun _ => ⟨fun z2 => pT ?_, fun z2 => ⟨a, sVis W n d _ _ f2 _ (by omega) q2 fun _ => ⟨fun z3 => pF ?_, fun z3 => pT ?_⟩⟩⟩, fun z => sVis W n d _ _ f1 _ (by omega) q1 fun _ => ⟨fun z2 => pF ?_, fun z2 => ⟨a, sVis W n d _ _ f2 _ (by omega) q2 fun _ => ⟨fun z3 => pF ?_, fun z3 => pT ?_⟩⟩⟩⟩⟩)
      · rw [q]; dsimp only; rw [if_pos z, b1 _ z2]; rfl
      · rw [q]; dsimp only; rw [if_pos z, b0 _ z2, b0 _ z3]; rfl
      · rw [q]; dsimp only; rw [if_pos z, b0 _ z2, b1 _ z3]; rfl
      · rw [q]; dsimp only; rw [if_neg z, b0 _ z2]; rfl
      · rw [q]; dsimp only; rw [if_neg z, b1 _ z2, b0 _ z3]; rfl
      · rw [q]; dsimp only; rw [if_neg z, b1 _ z2, b1 _ z3]; rfl
theorem sX6_fits {P : Int → Mem → Prop} {l : Launch} (W : Wr h w) {c : Int} {x : Vf × Option Tf} (q : ClX h c x) (hp : P (match x.2 with
  | none => 1
  | some g => if g (h w) = true then 1 else 0) h) : kX6_fits G l c w h P := by
  obtain ⟨f, o⟩ := x
  obtain ⟨a, b, d⟩ := q
  refine eX6_fits fun X C e B => ⟨a, ?_⟩
  cases o with
  | none => exact ⟨fun _ => hp, fun z => absurd d z⟩
  | some g =>
    refine ⟨fun z => absurd z d.1, fun _ => sVis W 400 400 _ _ g _ (Nat.le_refl _) d.2 fun _ => ?_⟩
    dsimp only at hp
    cases h1 : g (h w) <;> rw [h1] at hp
    · exact ⟨fun _ => hp, fun z => absurd rfl z⟩
    · exact ⟨fun z => absurd z (by decide), fun _ => hp⟩
theorem l_summed {P : Int → Mem → Prop} (W : Wr h w) {r : Int} {cl : Cl} (R : RuleX h r cl) {X : MX} {h0 : Mem} (C : Cx G X cX5_summed 3 RX5 402 0 0 (some .long) "summed") (B : EX h0 h) :
    ∀ (m k : Nat), k + m = cl.length → sumF (cl.drop k) (h w) = sumF cl (h w) → P (sumF cl (h w)) h → V G X 3 0 0 (QF G X 1 0 0 (PJ h0 P)) 2 [(0, rf r), (1, rf w), (2, iv (k : Int))] [] h := by
  intro m
  have K := R.2.2.1
  induction m with
  | zero =>
    intro k hk hs hp
    refine wX5_summed_L2 C ⟨B, ⟨by omega, by omega⟩⟩ ⟨R.1, ?_⟩
    rw [R.2.1]
    refine ⟨fun _ => ?_, fun q => absurd q (by omega)⟩
    rw [← hs, List.drop_of_length_le (by omega)] at hp
    exact hp
  | succ m ih =>
    intro k hk hs hp
    have hlt : k < cl.length := by omega
    have hx := R.2.2.2 k cl[k] (List.getElem?_eq_getElem hlt)
    have hd : cl.drop k = cl[k] :: cl.drop (k + 1) := List.drop_eq_getElem_cons hlt
    refine wX5_summed_L2 C ⟨B, ⟨by omega, by omega⟩⟩ ⟨R.1, ?_⟩
    rw [R.2.1]
    refine ⟨fun q => absurd q (by omega), fun _ => ⟨by omega, by omega, hx.1, sX6_fits W hx fun e6 => ?_⟩⟩
    have gs : ∀ f : Vf, ∀ o : Option Tf, cl[k] = (f, o) → (∀ g, o = some g → g (h w) = true) → kVof G X.2.1 400 (h (h (r + 1) k) 0) w h (fun r14 h15 => EX h h15 → P r14 h15) := fun f o ex ho => by
      rw [ex] at hx hd
      refine sVof W 400 400 _ _ f _ (Nat.le_refl _) hx.2.1 fun _ => ?_
      have ev : sumF cl (h w) = f (h w) := by
        rw [← hs, hd]
        cases o with
        | none => rfl
        | some g => show (if g (h w) = true then f (h w) else _) = _; rw [if_pos (ho g rfl)]
      rw [← ev]; exact hp
    have gn : ∀ f : Vf, ∀ g : Tf, cl[k] = (f, some g) → g (h w) = false → V G X 3 0 0 (QF G X 1 0 0 (PJ h0 P)) 2 [(0, rf r), (1, rf w), (2, iv ((k : Int) + 1))] [] h := fun f g ex hg => by
      have := ih (k + 1) (by omega) (by
        rw [← hs, hd, ex]
        show _ = (if g (h w) = true then f (h w) else sumF (cl.drop (k + 1)) (h w))
        rw [if_neg (by rw [hg]; decide)]) hp
      rwa [show ((k + 1 : Nat) : Int) = (k : Int) + 1 by omega] at this
    have r1 : R32 ((k : Int) + 1) := ⟨by omega, by omega⟩
    cases ho : cl[k].2 with
    | none => exact ⟨fun z => absurd (show (1 : Int) = 0 from z) (by decide), fun _ => ⟨hx.1, gs cl[k].1 none (by rw [← ho]) fun g z => by cases z⟩⟩
    | some g =>
      dsimp only
      cases hg : g (h w) with
      | false => exact ⟨fun _ => ⟨r1, fun _ => gn cl[k].1 g (by rw [← ho]) hg⟩, fun z => absurd rfl z⟩
      | true => exact ⟨fun z => absurd z (by decide), fun _ => ⟨hx.1, gs cl[k].1 (some g) (by rw [← ho]) fun g' z => by cases z; exact hg⟩⟩
theorem sX5_summed {P : Int → Mem → Prop} {l : Launch} (W : Wr h w) {r : Int} {cl : Cl} (R : RuleX h r cl) (hp : P (sumF cl (h w)) h) : kX5_summed G l r w h P := by
  refine eX5_summed fun X C e B B' => ?_
  exact l_summed W R C B'.1 cl.length 0 (by omega) rfl hp
end
