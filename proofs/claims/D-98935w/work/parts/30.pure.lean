/-! THE STREET AS SUCH: what both sides speak of -/
set_option maxRecDepth 100000
/-- what the text told: numbers, rows -/
def En : Type := (Int → Int) × (Int → Int → Int)
def En.dry (E : En) : Int := E.1 0
def En.part (E : En) : Int := E.1 1
def En.cost (E : En) : Int := E.1 2
def En.tm (E : En) : Int := E.1 3
def En.cm (E : En) : Int := E.1 4
def En.pm (E : En) : Int := E.1 5
def En.rm (E : En) : Int := E.1 6
def En.suit (E : En) : Int := E.1 7
def En.first (E : En) : Int → Int := E.2 0
def En.rent (E : En) : Int → Int := E.2 1
def En.thingOf (E : En) : Int → Int := E.2 2
def En.colour (E : En) : Int → Int := E.2 3
def En.rfr (E : En) : Int → Int := E.2 4
def En.rto (E : En) : Int → Int := E.2 5
/-- coats of a cell: the top one first, who and when (-1: of the text) -/
abbrev Co : Type := List (Int × Int)
/-- what goes on: the hour, the bare things, coats, purses -/
def St : Type := Int × Int × (Int → Co) × (Int → Int)
def St.now (S : St) : Int := S.1
def St.bare (S : St) : Int := S.2.1
def St.co (S : St) : Int → Co := S.2.2.1
def St.purse (S : St) : Int → Int := S.2.2.2
def EnOk (E : En) : Prop :=
  (1 ≤ E.dry ∧ E.dry ≤ 9) ∧
  (1 ≤ E.part ∧ E.part ≤ 100) ∧
  (0 ≤ E.cost ∧ E.cost ≤ 9) ∧
  (0 ≤ E.tm ∧ E.tm ≤ 4) ∧
  (0 ≤ E.cm ∧ E.cm ≤ 16) ∧
  (0 ≤ E.pm ∧ E.pm ≤ 4) ∧
  (0 ≤ E.rm ∧ E.rm ≤ 5) ∧
  (E.suit = 0 ∨ E.suit = 1) ∧
  (E.first 0 = 0) ∧
  (∀ t : Int, 0 ≤ t → t < E.tm → E.first t + 1 ≤ E.first (t + 1) ∧ E.first (t + 1) ≤ E.first t + 6) ∧
  (E.first E.tm = E.cm) ∧
  (∀ c : Int, 0 ≤ c → c < E.cm → 0 ≤ E.thingOf c ∧ E.thingOf c < E.tm ∧ E.first (E.thingOf c) ≤ c ∧ c < E.first (E.thingOf c + 1)) ∧
  (∀ t : Int, 0 ≤ t → t < E.tm → 0 ≤ E.rent t ∧ E.rent t ≤ 20) ∧
  (∀ p : Int, 0 ≤ p → p < E.pm → 0 ≤ E.colour p ∧ E.colour p ≤ 8) ∧
  (∀ k : Int, 0 ≤ k → k < E.rm → R32 (E.rfr k) ∧ R32 (E.rto k))
theorem EnOk.dry {E : En} (K : EnOk E) : 1 ≤ E.dry ∧ E.dry ≤ 9 := K.1
theorem EnOk.part {E : En} (K : EnOk E) : 1 ≤ E.part ∧ E.part ≤ 100 := K.2.1
theorem EnOk.cost {E : En} (K : EnOk E) : 0 ≤ E.cost ∧ E.cost ≤ 9 := K.2.2.1
theorem EnOk.tm {E : En} (K : EnOk E) : 0 ≤ E.tm ∧ E.tm ≤ 4 := K.2.2.2.1
theorem EnOk.cm {E : En} (K : EnOk E) : 0 ≤ E.cm ∧ E.cm ≤ 16 := K.2.2.2.2.1
theorem EnOk.pm {E : En} (K : EnOk E) : 0 ≤ E.pm ∧ E.pm ≤ 4 := K.2.2.2.2.2.1
theorem EnOk.rm {E : En} (K : EnOk E) : 0 ≤ E.rm ∧ E.rm ≤ 5 := K.2.2.2.2.2.2.1
theorem EnOk.suit {E : En} (K : EnOk E) : E.suit = 0 ∨ E.suit = 1 := K.2.2.2.2.2.2.2.1
theorem EnOk.f0 {E : En} (K : EnOk E) : E.first 0 = 0 := K.2.2.2.2.2.2.2.2.1
theorem EnOk.fs {E : En} (K : EnOk E) : ∀ t : Int, 0 ≤ t → t < E.tm → E.first t + 1 ≤ E.first (t + 1) ∧ E.first (t + 1) ≤ E.first t + 6 := K.2.2.2.2.2.2.2.2.2.1
theorem EnOk.ft {E : En} (K : EnOk E) : E.first E.tm = E.cm := K.2.2.2.2.2.2.2.2.2.2.1
theorem EnOk.th {E : En} (K : EnOk E) : ∀ c : Int, 0 ≤ c → c < E.cm → 0 ≤ E.thingOf c ∧ E.thingOf c < E.tm ∧ E.first (E.thingOf c) ≤ c ∧ c < E.first (E.thingOf c + 1) := K.2.2.2.2.2.2.2.2.2.2.2.1
theorem EnOk.rent {E : En} (K : EnOk E) : ∀ t : Int, 0 ≤ t → t < E.tm → 0 ≤ E.rent t ∧ E.rent t ≤ 20 := K.2.2.2.2.2.2.2.2.2.2.2.2.1
theorem EnOk.colour {E : En} (K : EnOk E) : ∀ p : Int, 0 ≤ p → p < E.pm → 0 ≤ E.colour p ∧ E.colour p ≤ 8 := K.2.2.2.2.2.2.2.2.2.2.2.2.2.1
theorem EnOk.rain {E : En} (K : EnOk E) : ∀ k : Int, 0 ≤ k → k < E.rm → R32 (E.rfr k) ∧ R32 (E.rto k) := K.2.2.2.2.2.2.2.2.2.2.2.2.2.2
theorem mono_f {E : En} (K : EnOk E) {s : Int} (hs : 0 ≤ s) : ∀ (n : Nat), s + n ≤ E.tm → E.first s + n ≤ E.first (s + n)
  | 0, _ => by simp
  | n + 1, h => by
    have ih := mono_f K hs n (by omega)
    have h1 := (K.fs (s + n) (by omega) (by omega)).1
    rw [show s + ((n + 1 : Nat) : Int) = s + n + 1 by omega]
    omega
theorem EnOk.le {E : En} (K : EnOk E) {s t : Int} (hs : 0 ≤ s) (h : s ≤ t) (ht : t ≤ E.tm) : E.first s + (t - s) ≤ E.first t := by
  have z := mono_f K hs (t - s).toNat (by omega)
  rw [show s + ((t - s).toNat : Int) = t by omega] at z
  omega
theorem EnOk.rng {E : En} (K : EnOk E) {t : Int} (h0 : 0 ≤ t) (h1 : t < E.tm) : 0 ≤ E.first t ∧ E.first t + 1 ≤ E.first (t + 1) ∧ E.first (t + 1) ≤ E.cm := by
  have a := K.le (Int.le_refl 0) h0 (Int.le_of_lt h1)
  have b := K.le (s := t + 1) (by omega) (show t + 1 ≤ E.tm by omega) (Int.le_refl _)
  have c := (K.fs t h0 h1).1
  have d := K.f0
  have e := K.ft
  omega
/-- a cell lies in one thing -/
theorem EnOk.uniq {E : En} (K : EnOk E) {t c : Int} (h0 : 0 ≤ t) (h1 : t < E.tm) (h2 : E.first t ≤ c) (h3 : c < E.first (t + 1)) : E.thingOf c = t := by
  have r := K.rng h0 h1
  obtain ⟨a0, a1, a2, a3⟩ := K.th c (by omega) (by omega)
  rcases Int.lt_trichotomy (E.thingOf c) t with q | q | q
  · have := K.le (s := E.thingOf c + 1) (by omega) (show E.thingOf c + 1 ≤ t by omega) (by omega)
    omega
  · exact q
  · have := K.le (s := t + 1) (by omega) (show t + 1 ≤ E.thingOf c by omega) (by omega)
    omega
def CoOk (E : En) (now : Int) (l : Co) : Prop := l.length ≤ 5 ∧ (∀ b w : Int, (b, w) ∈ l → 0 ≤ b ∧ b < E.pm ∧ -1 ≤ w ∧ w ≤ now) ∧ l.Pairwise fun x y => y.2 ≤ x.2
def StOk (E : En) (S : St) : Prop :=
  (0 ≤ S.now ∧ S.now ≤ 1000000) ∧
  (R32 S.bare) ∧
  (∀ c : Int, 0 ≤ c → c < E.cm → CoOk E S.now (S.co c)) ∧
  (∀ p : Int, 0 ≤ p → p < E.pm → 0 ≤ S.purse p ∧ S.purse p ≤ 999)
theorem StOk.now {E : En} {S : St} (K : StOk E S) : 0 ≤ S.now ∧ S.now ≤ 1000000 := K.1
theorem StOk.bare {E : En} {S : St} (K : StOk E S) : R32 S.bare := K.2.1
theorem StOk.co {E : En} {S : St} (K : StOk E S) : ∀ c : Int, 0 ≤ c → c < E.cm → CoOk E S.now (S.co c) := K.2.2.1
theorem StOk.purse {E : En} {S : St} (K : StOk E S) : ∀ p : Int, 0 ≤ p → p < E.pm → 0 ≤ S.purse p ∧ S.purse p ≤ 999 := K.2.2.2
/-- rows of who (f) and when (g) hold the coats from a place on, the lowest first -/
def Col (f g : Int → Int) (e : Int → Int) (base : Int) : Co → Prop
  | [] => True
  | (b, w) :: r => f (base + (r.length : Int)) = b ∧ g (base + (r.length : Int)) = e w ∧ Col f g e base r
def eX (w : Int) : Int := if w = -1 then -1000 else w
def eM (w : Int) : Int := w
theorem Col.mono {f g f' g' : Int → Int} {e : Int → Int} {base : Int} : ∀ {l : Co}, Col f g e base l → (∀ i : Int, base ≤ i → i < base + (l.length : Int) → f' i = f i ∧ g' i = g i) → Col f' g' e base l
  | [], _, _ => trivial
  | (b, w) :: r, ⟨h1, h2, h3⟩, hh => by
    have q := hh (base + (r.length : Int)) (by omega) (by rw [List.length_cons]; omega)
    exact ⟨q.1.trans h1, q.2.trans h2, Col.mono h3 fun i a b => hh i a (by rw [List.length_cons]; omega)⟩
/-- set bits of a number, as both programs ask for them -/
abbrev hs (s k : Int) : Prop := bAnd (bShr s k) 1 = 1
/-- who owns a cell at an hour -/
def ownL (E : En) (hour : Int) : Co → Int
  | [] => -1
  | (b, w) :: r => if w = -1 ∨ w + E.dry ≤ hour then b else if E.suit = 1 then -1 else ownL E hour r
theorem ownL_rng {E : En} {now hour : Int} : ∀ {l : Co}, (∀ b w : Int, (b, w) ∈ l → 0 ≤ b ∧ b < E.pm ∧ -1 ≤ w ∧ w ≤ now) → ownL E hour l = -1 ∨ 0 ≤ ownL E hour l ∧ ownL E hour l < E.pm
  | [], _ => Or.inl rfl
  | (b, w) :: r, h => by
    rw [ownL]
    split
    · have := h b w List.mem_cons_self
      exact Or.inr ⟨this.1, this.2.1⟩
    · split
      · exact Or.inl rfl
      · exact ownL_rng fun b w q => h b w (List.mem_cons_of_mem _ q)
def topL : Co → Int
  | [] => -1
  | (b, _) :: _ => b
def wetL (E : En) (now : Int) : Co → Bool
  | [] => false
  | (_, w) :: _ => decide (¬ (w = -1 ∨ w + E.dry ≤ now))
def washL (E : En) (now : Int) : Co → Co
  | [] => []
  | (b, w) :: r => if w = -1 ∨ w + E.dry ≤ now then (b, w) :: r else washL E now r
/-- the coats ahead of an hour -/
def aheadL (hour : Int) : Co → Co
  | [] => []
  | (b, w) :: r => if hour ≤ w then aheadL hour r else (b, w) :: r
def putL (p now : Int) (l : Co) : Co := (p, now) :: l.take 4
/-- how many of n places from a have a value -/
def cnt (o : Int → Int) (p a : Int) : Nat → Int
  | 0 => 0
  | n + 1 => cnt o p a n + if o (a + n) = p then 1 else 0
theorem cnt_rng (o : Int → Int) (p a : Int) : ∀ n : Nat, 0 ≤ cnt o p a n ∧ cnt o p a n ≤ n
  | 0 => by simp [cnt]
  | n + 1 => by
    have ih := cnt_rng o p a n
    rw [cnt]
    split <;> omega
theorem cnt_congr {o o' : Int → Int} {p a : Int} : ∀ {n : Nat}, (∀ i : Int, a ≤ i → i < a + n → o i = o' i) → cnt o p a n = cnt o' p a n
  | 0, _ => rfl
  | n + 1, h => by
    rw [cnt, cnt, cnt_congr (n := n) (fun i h1 h2 => h i h1 (by omega)), h (a + n) (by omega) (by omega)]
/-- cells of p among a thing's -/
def ownC (E : En) (S : St) (hour : Int) (c : Int) : Int := ownL E hour (S.co c)
def cells (E : En) (o : Int → Int) (p t : Int) : Int := cnt o p (E.first t) (E.first (t + 1) - E.first t).toNat
/-- who has the most, alone, and so much as is asked: of n ones -/
def Hold (w : Int → Int) (n need : Int) (r : Int) : Prop :=
  (0 ≤ r ∧ r < n ∧ need ≤ 100 * w r ∧ ∀ q : Int, 0 ≤ q → q < n → q ≠ r → w q < w r) ∨ (r = -1 ∧ ∀ p : Int, 0 ≤ p → p < n → need ≤ 100 * w p → ∃ q : Int, 0 ≤ q ∧ q < n ∧ q ≠ p ∧ w p ≤ w q)
theorem Hold.uniq {w : Int → Int} {n need r r' : Int} (h : Hold w n need r) (h' : Hold w n need r') : r = r' := by
  rcases h with ⟨a, b, c, d⟩ | ⟨a, b⟩ <;> rcases h' with ⟨a', b', c', d'⟩ | ⟨a', b'⟩
  · by_cases q : r = r'
    · exact q
    · have h1 := d r' a' b' (fun z => q z.symm)
      have h2 := d' r a b q
      omega
  · obtain ⟨q, q1, q2, q3, q4⟩ := b' r a b c
    have := d q q1 q2 q3
    omega
  · obtain ⟨q, q1, q2, q3, q4⟩ := b r' a' b' c'
    have := d' q q1 q2 q3
    omega
  · rw [a, a']
/-- the best of the first k ones: (who, or -1 where two have it; how many) -/
def bst (w : Int → Int) : Nat → Int × Int
  | 0 => (-1, 0)
  | k + 1 => if w k > (bst w k).2 then ((k : Int), w k) else if w k = (bst w k).2 then (-1, (bst w k).2) else bst w k
def holdF (w : Int → Int) (n need : Int) : Int := if (bst w n.toNat).1 ≠ -1 ∧ need ≤ 100 * (bst w n.toNat).2 then (bst w n.toNat).1 else -1
theorem bst_inv (w : Int → Int) (hw : ∀ k : Nat, 0 ≤ w k) : ∀ k : Nat, 0 ≤ (bst w k).2 ∧ (∀ j : Nat, j < k → w j ≤ (bst w k).2) ∧ (((bst w k).1 = -1 ∧ (0 < (bst w k).2 → ∃ i j : Nat, i < k ∧ j < k ∧ i ≠ j ∧ w i = (bst w k).2 ∧ w j = (bst w k).2)) ∨ ∃ i : Nat, i < k ∧ (bst w k).1 = (i : Int) ∧ w i = (bst w k).2 ∧ 0 < w i ∧ ∀ j : Nat, j < k → j ≠ i → w j < w i)
  | 0 => by simp [bst]
  | k + 1 => by
    obtain ⟨h0, h1, h2⟩ := bst_inv w hw k
    have hk := hw k
    rw [bst]
    by_cases c1 : w k > (bst w k).2
    · rw [if_pos c1]
      refine ⟨hk, fun j hj => ?_, Or.inr ⟨k, by omega, rfl, rfl, by show 0 < w k; omega, fun j hj hne => ?_⟩⟩
      · by_cases e : j = k
        · subst e; exact Int.le_refl _
        · have := h1 j (by omega); show w j ≤ w k; omega
      · have := h1 j (by omega); omega
    · rw [if_neg c1]
      by_cases c2 : w k = (bst w k).2
      · rw [if_pos c2]
        refine ⟨h0, fun j hj => ?_, Or.inl ⟨rfl, fun hp => ?_⟩⟩
        · by_cases e : j = k
          · subst e; exact Int.le_of_eq c2
          · exact h1 j (by omega)
        · rcases h2 with ⟨_, h3⟩ | ⟨i, hi, _, h4, _⟩
          · obtain ⟨i, j, hi, hj, hij, a, b⟩ := h3 hp
            exact ⟨i, j, by omega, by omega, hij, a, b⟩
          · exact ⟨i, k, by omega, by omega, by omega, h4, c2⟩
      · rw [if_neg c2]
        refine ⟨h0, fun j hj => ?_, ?_⟩
        · by_cases e : j = k
          · subst e; omega
          · exact h1 j (by omega)
        · rcases h2 with ⟨a, h3⟩ | ⟨i, hi, a, h4, h5, h6⟩
          · refine Or.inl ⟨a, fun hp => ?_⟩
            obtain ⟨i, j, hi, hj, r⟩ := h3 hp
            exact ⟨i, j, by omega, by omega, r⟩
          · refine Or.inr ⟨i, by omega, a, h4, h5, fun j hj hne => ?_⟩
            by_cases e : j = k
            · subst e; omega
            · exact h6 j (by omega) hne
theorem holdF_ok {w : Int → Int} {n need : Int} (hw : ∀ k : Nat, 0 ≤ w k) (hn : 1 ≤ need) : Hold w n need (holdF w n need) := by
  obtain ⟨h0, h1, h2⟩ := bst_inv w hw n.toNat
  unfold holdF
  split
  · next c =>
    rcases h2 with ⟨a, _⟩ | ⟨i, hi, a, h4, h5, h6⟩
    · exact absurd a c.1
    · rw [a]
      refine Or.inl ⟨by omega, by omega, by rw [h4]; exact c.2, fun q q0 q1 q2 => ?_⟩
      have := h6 q.toNat (by omega) (by omega)
      rwa [show ((q.toNat : Nat) : Int) = q by omega] at this
  · next c =>
    refine Or.inr ⟨rfl, fun p p0 p1 p2 => ?_⟩
    have hp := h1 p.toNat (by omega)
    rw [show ((p.toNat : Nat) : Int) = p by omega] at hp
    rcases h2 with ⟨a, h3⟩ | ⟨i, hi, a, h4, h5, h6⟩
    · obtain ⟨i, j, hi, hj, hij, e1, e2⟩ := h3 (by omega)
      by_cases e : (i : Int) = p
      · exact ⟨j, by omega, by omega, by omega, by rw [e2]; exact hp⟩
      · exact ⟨i, by omega, by omega, e, by rw [e1]; exact hp⟩
    · have c2 : ¬ need ≤ 100 * (bst w n.toNat).2 := fun z => c ⟨by rw [a]; omega, z⟩
      omega
theorem holdF_rng {w : Int → Int} {n need : Int} (hw : ∀ k : Nat, 0 ≤ w k) (hn : 1 ≤ need) : holdF w n need = -1 ∨ 0 ≤ holdF w n need ∧ holdF w n need < n := by
  rcases holdF_ok (n := n) hw hn with ⟨a, b, _⟩ | ⟨a, _⟩
  · exact Or.inr ⟨a, b⟩
  · exact Or.inl a
/-- who owns a thing: by an owner of each cell -/
def thingF (E : En) (bare : Int) (o : Int → Int) (share t : Int) : Int := if hs bare t then -1 else holdF (fun p => cells E o p t) E.pm (share * (E.first (t + 1) - E.first t))
def whoF (E : En) (S : St) (t : Int) : Int := thingF E S.bare (ownC E S S.now) E.part t
theorem thingF_rng {E : En} (K : EnOk E) {bare share t : Int} {o : Int → Int} (h0 : 0 ≤ t) (h1 : t < E.tm) (hs1 : 1 ≤ share) : thingF E bare o share t = -1 ∨ 0 ≤ thingF E bare o share t ∧ thingF E bare o share t < E.pm := by
  unfold thingF
  split
  · exact Or.inl rfl
  · refine holdF_rng (fun k => (cnt_rng _ _ _ _).1) ?_
    have := (K.fs t h0 h1).1
    have : 1 * 1 ≤ share * (E.first (t + 1) - E.first t) := Int.mul_le_mul hs1 (by omega) (by omega) (by omega)
    omega
/-- rain at an hour: among the first n -/
def rainN (E : En) (hour : Int) : Nat → Bool
  | 0 => false
  | n + 1 => rainN E hour n || decide (E.rfr n ≤ hour ∧ hour ≤ E.rto n)
def rainF (E : En) (hour : Int) : Bool := rainN E hour E.rm.toNat
