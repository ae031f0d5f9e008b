/-! fewest: X's side -/
set_option maxRecDepth 100000
abbrev Bt : Type := Int × (Int → Int)
def stB (q : (Int → Int) → Bool) (b : Bt) (r : Int → Int) (s : Int) : Bt := if (b.1 = -2 ∨ s < b.1) ∧ q r = true then (s, r) else b
def enumL {β : Type} (f : Nat → β → β) : Nat → β → β
  | 0, b => b
  | n + 1, b => f n (enumL f n b)
/-- all rows whose cells from the (sz-j)-th on go from 0 to m -/
def enumJ (q : (Int → Int) → Bool) (sz : Int) (m : Int → Nat) : Nat → (Int → Int) → Int → Bt → Bt
  | 0, r, s, b => stB q b r s
  | j + 1, r, s, b => enumL (fun n b => enumJ q sz m j (fu r (sz - ((j + 1 : Nat) : Int)) n) (s + n) b) (m (sz - ((j + 1 : Nat) : Int)) + 1) b
theorem enumL_id {β : Type} {f : Nat → β → β} {b : β} (h : ∀ n, f n b = b) : ∀ n, enumL f n b = b
  | 0 => rfl
  | n + 1 => by rw [enumL, enumL_id h n, h n]
theorem enumJ_prune (q : (Int → Int) → Bool) (sz : Int) (m : Int → Nat) : ∀ (j : Nat) (r : Int → Int) (s : Int) (b : Bt), b.1 ≠ -2 → b.1 ≤ s → enumJ q sz m j r s b = b
  | 0, r, s, b, h1, h2 => by rw [enumJ, stB, if_neg]; intro z; rcases z.1 with y | y; exact h1 y; omega
  | j + 1, r, s, b, h1, h2 => by
    rw [enumJ]
    exact enumL_id (fun n => enumJ_prune q sz m j _ _ b h1 (by omega)) _
theorem enumJ_none {q : (Int → Int) → Bool} (sz : Int) (m : Int → Nat) (hq : ∀ r, q r = false) : ∀ (j : Nat) (r : Int → Int) (s : Int) (b : Bt), enumJ q sz m j r s b = b
  | 0, r, s, b => by rw [enumJ, stB, if_neg]; intro z; rw [hq] at z; cases z.2
  | j + 1, r, s, b => by
    rw [enumJ]
    exact enumL_id (fun n => enumJ_none sz m hq j _ _ b) _
def BtR (b : Bt) : Prop := b.1 = -2 ∨ 0 ≤ b.1 ∧ b.1 ≤ 40
theorem enumJ_rng (q : (Int → Int) → Bool) (sz : Int) {m : Int → Nat} (hm : ∀ i, m i ≤ 5) : ∀ (j : Nat) (r : Int → Int) (s : Int) (b : Bt), BtR b → 0 ≤ s → s + 5 * j ≤ 40 → BtR (enumJ q sz m j r s b)
  | 0, r, s, b, hb, h0, h1 => by
    rw [enumJ, stB]
    split
    · exact Or.inr ⟨h0, by show s ≤ 40; omega⟩
    · exact hb
  | j + 1, r, s, b, hb, h0, h1 => by
    rw [enumJ]
    have : ∀ n : Nat, n ≤ m (sz - ((j + 1 : Nat) : Int)) + 1 → BtR (enumL (fun n b => enumJ q sz m j (fu r (sz - ((j + 1 : Nat) : Int)) n) (s + n) b) n b) := by
      intro n
      induction n with
      | zero => intro _; exact hb
      | succ n ih =>
        intro hn
        have := hm (sz - ((j + 1 : Nat) : Int))
        exact enumJ_rng q sz hm j _ _ _ (ih (by omega)) (by omega) (by omega)
    exact this _ (Nat.le_refl _)
/-- so many coats of each cell of a thing are scraped -/
def scS (E : En) (S : St) (t : Int) (r : Int → Int) : St := (S.now, S.bare, (fun c => if E.first t ≤ c ∧ c < E.first (t + 1) then (S.co c).drop (r (c - E.first t)).toNat else S.co c), S.purse)
theorem scS_ok {E : En} {S : St} (h : StOk E S) (t : Int) (r : Int → Int) : StOk E (scS E S t r) := by
  refine StOk.mk h.now h.bare (fun c c0 c1 => ?_) h.purse
  show CoOk E S.now (if E.first t ≤ c ∧ c < E.first (t + 1) then (S.co c).drop (r (c - E.first t)).toNat else S.co c)
  split
  · exact (h.co c c0 c1).suf (List.drop_suffix _ _)
  · exact h.co c c0 c1
theorem Col.drop {f g : Int → Int} {e : Int → Int} {base : Int} : ∀ {l : Co} (n : Nat), Col f g e base l → Col f g e base (l.drop n)
  | _, 0, h => h
  | [], _ + 1, _ => trivial
  | (_, _) :: _, n + 1, h => h.2.2.drop n
def tsF (E : En) (S : St) (p t : Int) (r : Int → Int) : Bool := decide (whoF E (scS E S t r) t = p)
def lenC (E : En) (S : St) (t : Int) (i : Int) : Nat := min 5 (S.co (E.first t + i)).length
abbrev scJ (E : En) (S : St) (p t : Int) : Nat → (Int → Int) → Int → Bt → Bt := enumJ (tsF E S p t) (sizeT E t) (lenC E S t)
def bxF (b : Bt) : Int := if b.1 = -2 then -1 else b.1
/-- X's spare town, scraped; the row; the best row -/
def SpX (h : Mem) (E : En) (S : St) (t k : Int) (r : Int → Int) (b : Bt) : Prop :=
  TR h 20 E (scS E S t r) ∧ (∀ c : Int, 0 ≤ c → c < E.cm → Col (h 32) (h 33) eX (5 * c) (S.co c)) ∧ (∀ i : Int, 0 ≤ i → i < k → h 172 i = r i) ∧ h 1 19 = bxF b ∧ (b.1 ≠ -2 → ∀ i : Int, 0 ≤ i → i < sizeT E t → h 173 i = b.2 i)
section
variable {G : GT} {P : Int → Mem → Prop} {E : En} {S : St}
/-- the spare's count of a cell's coats is set -/
theorem SpX.set {h h' : Mem} {t k n : Int} {r : Int → Int} {b : Bt} (A : XS h) (K : EnOk E) (O : StOk E S) (t0 : 0 ≤ t) (t1 : t < E.tm) (k0 : 0 ≤ k) (k1 : k < sizeT E t) (n0 : 0 ≤ n) (n1 : n ≤ ((S.co (E.first t + k)).length : Int)) (s : SpX h E S t k r b) (e : EX h h') (f : Fr (fun b j => (b = 31 ∧ j = E.first t + k) ∨ (b = 172 ∧ j = k)) h h') (hv : h' 31 (E.first t + k) = ((S.co (E.first t + k)).length : Int) - n) (hr : n ≠ 0 → h' 172 k = n) (h0 : n = 0 → ∀ v : Int, h' 172 k = v → True) :
    TR h' 20 E (scS E S t (fu r k n)) ∧ (∀ c : Int, 0 ≤ c → c < E.cm → Col (h' 32) (h' 33) eX (5 * c) (S.co c)) ∧ (∀ i : Int, 0 ≤ i → i < k → h' 172 i = r i) ∧ h' 1 19 = bxF b ∧ (b.1 ≠ -2 → ∀ i : Int, 0 ≤ i → i < sizeT E t → h' 173 i = b.2 i) := by
  obtain ⟨T, cl, rw9, b1, b2⟩ := s
  have rg := K.rng t0 t1
  have sd : sizeT E t = E.first (t + 1) - E.first t := rfl
  have cl' : ∀ c : Int, 0 ≤ c → c < E.cm → Col (h' 32) (h' 33) eX (5 * c) (S.co c) := fun c c0 c1 => (cl c c0 c1).mono fun i _ _ => ⟨f 32 i (by omega), f 33 i (by omega)⟩
  refine ⟨?_, cl', fun i i0 i1 => (f 172 i (by omega)).trans (rw9 i i0 i1), (f 1 19 (by omega)).trans b1, fun z i i0 i1 => (f 173 i (by omega)).trans (b2 z i i0 i1)⟩
  have eqc : ∀ c : Int, 0 ≤ c → c < E.cm → (scS E S t (fu r k n)).co c = (dropS (scS E S t r) (E.first t + k) ((S.co (E.first t + k)).drop n.toNat)).co c := fun c c0 c1 => by
    show (if E.first t ≤ c ∧ c < E.first (t + 1) then (S.co c).drop (fu r k n (c - E.first t)).toNat else S.co c) = fu (fun c => if E.first t ≤ c ∧ c < E.first (t + 1) then (S.co c).drop (r (c - E.first t)).toNat else S.co c) (E.first t + k) ((S.co (E.first t + k)).drop n.toNat) c
    by_cases q : c = E.first t + k
    · rw [q, fu_s, if_pos (by omega), show E.first t + k - E.first t = k by omega, fu_s]
    · rw [fu_n q]
      by_cases q2 : E.first t ≤ c ∧ c < E.first (t + 1)
      · rw [if_pos q2, if_pos q2, fu_n (by omega)]
      · rw [if_neg q2, if_neg q2]
  have ok1 := scS_ok O t (fu r k n)
  have ok2 : StOk E (dropS (scS E S t r) (E.first t + k) ((S.co (E.first t + k)).drop n.toNat)) := ok1.congr rfl rfl (fun c c0 c1 => (eqc c c0 c1).symm) fun _ _ _ => rfl
  have T' := T.cell (c := E.first t + k) (by omega) (by omega) e.1 ok2 (fun b j z n1 n2 => f b j (by unfold tIn at z; omega)) (by rw [show (20 : Int) + 11 = 31 from rfl, hv, List.length_drop]; omega) ((cl' _ (by omega) (by omega)).drop _)
  exact T'.congr rfl rfl eqc fun _ _ _ => rfl
theorem lenC_eq {E : En} {S : St} {t i : Int} (K : EnOk E) (O : StOk E S) (t0 : 0 ≤ t) (t1 : t < E.tm) (i0 : 0 ≤ i) (i1 : i < sizeT E t) : lenC E S t i = (S.co (E.first t + i)).length := by
  have rg := K.rng t0 t1
  have := (O.co (E.first t + i) (by omega) (by unfold sizeT at i1; omega)).1
  unfold lenC; omega
theorem lenC_5 (E : En) (S : St) (t : Int) : ∀ i, lenC E S t i ≤ 5 := fun i => by unfold lenC; omega
theorem scS_rz {r r' : Int → Int} {t : Int} (h : ∀ i : Int, 0 ≤ i → i < sizeT E t → r i = r' i) : ∀ c : Int, (scS E S t r).co c = (scS E S t r').co c := fun c => by
  show (if E.first t ≤ c ∧ c < E.first (t + 1) then (S.co c).drop (r (c - E.first t)).toNat else S.co c) = if E.first t ≤ c ∧ c < E.first (t + 1) then (S.co c).drop (r' (c - E.first t)).toNat else S.co c
  by_cases q : E.first t ≤ c ∧ c < E.first (t + 1)
  · rw [if_pos q, if_pos q, h _ (by omega) (by unfold sizeT; omega)]
  · rw [if_neg q, if_neg q]
theorem sX0_tries {p t : Int} (K : EnOk E) (O : StOk E S) (p0 : 0 ≤ p) (p1 : p < E.pm) (t0 : 0 ≤ t) (t1 : t < E.tm) :
    ∀ (j d : Nat) (l : Launch) (k s : Int) (r : Int → Int) (b : Bt) (h : Mem) (P : Int → Mem → Prop), j < d → k + j = sizeT E t → 0 ≤ k → 0 ≤ s → s + 5 * j ≤ 40 → (∀ i : Int, k ≤ i → i < sizeT E t → r i = 0) → BtR b → XS h → h 1 0 = 2 → TR h 2 E S → SpX h E S t k r b →
    (∀ h' : Mem, EX h h' → Fr sQx h h' → SpX h' E S t k r (scJ E S p t j r s b) → P 0 h') → kX0_triesScrapes G l d p t k s h P := by
  have rg := K.rng t0 t1
  have sz := K.fs t t0 t1
  have Kt := K.tm
  have Kc := K.cm
  have Kp := K.pm
  have sd : sizeT E t = E.first (t + 1) - E.first t := rfl
  intro j
  induction j with
  | zero =>
    intro d l k s r b h P hd hk k0 s0 s1 rz br A t2 q sp hp
    obtain ⟨d0, rfl⟩ : ∃ d0, d = d0 + 1 := ⟨d - 1, by omega⟩
    obtain ⟨T, cl, rw9, b1, b2⟩ := sp
    have leaf : (b.1 = -2 ∨ s < b.1) → ∀ X : MX, OkZ h → kX1_whose G X.2.1 20 t h (fun r8 h9 => EX h h9 → ((r8 = p → ∀ h15 : Mem, h15 = up h9 1 19 s → ∀ h18 : Mem, h18 = cpy h15 172 0 173 0 6 → P 0 h18) ∧ (r8 ≠ p → P 0 h9))) := fun c X oz => by
      refine sX1_whose T t0 t1 fun h9 e9 f9 _ => ⟨fun z h15 e15 h18 e18 => ?_, fun z => ?_⟩
      · have x15 : EX h h15 := by rw [e15]; exact EX_up e9 (A.ext e9.1).k1 (by decide) rfl (by decide) (okI_i rfl ⟨by omega, by omega⟩)
        have A15 := A.ext x15.1
        have x18 : EX h h18 := by rw [e18]; exact EX_cpy x15 A15.k172 A15.k173 (by decide)
        have f18 : Fr (fun b j => b = 37 ∨ (b = 1 ∧ j = 19) ∨ b = 173) h h18 := fun b j z => by
          rw [e18, cpy_n (by omega), e15, up_n (by omega), f9 b j (by unfold sOw; omega)]
        have yes : tsF E S p t r = true := by unfold tsF; simpa using z
        refine hp h18 x18 (f18.mono fun b j z => by unfold sQx; omega) ?_
        show SpX h18 E S t k r (stB (tsF E S p t) b r s)
        rw [stB, if_pos ⟨c, yes⟩]
        refine ⟨T.keep x18.1 fun b j z => f18 b j (by unfold tIn at z; omega), fun c c0 c1 => (cl c c0 c1).mono fun i _ _ => ⟨f18 32 i (by omega), f18 33 i (by omega)⟩, fun i i0 i1 => (f18 172 i (by omega)).trans (rw9 i i0 i1), ?_, fun _ i i0 i1 => ?_⟩
        · rw [e18, cpy_n (by decide), e15, up_s]
          show s = bxF (s, r)
          unfold bxF; rw [if_neg (by show s ≠ -2; omega)]
        · show h18 173 i = r i
          rw [e18, cpy_s i0 (by omega), e15, up_a (by decide), f9 172 i (by unfold sOw; omega)]
          exact rw9 i i0 (by omega)
      · have no : ¬ tsF E S p t r = true := by unfold tsF; simpa using z
        refine hp h9 e9 f9.owq ?_
        show SpX h9 E S t k r (stB (tsF E S p t) b r s)
        rw [stB, if_neg fun y => no y.2]
        have f9' : ∀ b j : Int, b ≠ 37 → h9 b j = h b j := fun b j z => f9 b j z
        exact ⟨T.ow e9.1 f9, fun c c0 c1 => (cl c c0 c1).mono fun i _ _ => ⟨f9' 32 i (by decide), f9' 33 i (by decide)⟩, fun i i0 i1 => (f9' 172 i (by decide)).trans (rw9 i i0 i1), (f9' 1 19 (by decide)).trans b1, fun z i i0 i1 => (f9' 173 i (by decide)).trans (b2 z i i0 i1)⟩
    refine eX0_triesScrapes fun X C e9 B => ⟨A, ?_⟩
    rw [b1, show h 4 t = sizeT E t from (q.te.2.1 t t0 t1).2.1]
    refine ⟨fun z => ⟨t2, t0, by omega, fun y => absurd (by omega) y, fun _ => leaf ?_ X B.1.2⟩, fun z => ⟨fun c => ⟨t2, t0, by omega, fun y => absurd (by omega) y, fun _ => leaf ?_ X B.1.2⟩, fun c => ?_⟩⟩
    · unfold bxF at z
      by_cases y : b.1 = -2
      · exact Or.inl y
      · rw [if_neg y] at z; rcases br with w | w <;> omega
    · unfold bxF at c
      by_cases y : b.1 = -2
      · exact Or.inl y
      · rw [if_neg y] at c; exact Or.inr c
    · have y : b.1 ≠ -2 := fun y => z (by unfold bxF; rw [if_pos y])
      have c2 : b.1 ≤ s := by unfold bxF at c; rw [if_neg y] at c; exact c
      refine hp h (EX.rf B.1.2) (Fr.rf _ _) ?_
      rw [show scJ E S p t 0 r s b = b from enumJ_prune _ _ _ _ _ _ _ y c2]
      exact ⟨T, cl, rw9, b1, b2⟩
  | succ j ih =>
    intro d l k s r b h P hd hk k0 s0 s1 rz br A t2 q sp hp
    obtain ⟨d0, rfl⟩ : ∃ d0, d = d0 + 1 := ⟨d - 1, by omega⟩
    have k1 : k < sizeT E t := by omega
    have ek : sizeT E t - ((j + 1 : Nat) : Int) = k := by omega
    have lc := lenC_eq K O t0 t1 k0 k1
    have l5 := (O.co (E.first t + k) (by omega) (by omega)).1
    have ej : ∀ b' : Bt, scJ E S p t (j + 1) r s b' = enumL (fun n b => scJ E S p t j (fu r k n) (s + n) b) ((S.co (E.first t + k)).length + 1) b' := fun b' => by
      show enumL (fun n b => scJ E S p t j (fu r (sizeT E t - ((j + 1 : Nat) : Int)) n) (s + n) b) (lenC E S t (sizeT E t - ((j + 1 : Nat) : Int)) + 1) b' = _
      rw [ek, lc]
    -- the loop
    have loop : ∀ X : MX, Cx G X cX0_triesScrapes 7 RX0 ((d0 + 1) + 3) 0 0 none "triesScrapes" → EX h h → ∀ (m n : Nat) (h2 : Mem) (r2 : Int → Int), n + m = (S.co (E.first t + k)).length + 1 → EX h h2 → Fr sQx h h2 → (∀ i : Int, i ≠ k → r2 i = r i) → SpX h2 E S t k r2 (enumL (fun n b => scJ E S p t j (fu r k n) (s + n) b) n b) →
        V G X 7 0 0 (QF G X 3 0 0 (PR h P)) 82 [(0, rf 1), (1, iv p), (2, iv t), (3, iv k), (4, iv s), (5, iv (E.first t + k)), (6, iv (n : Int))] [] h2 := by
      intro X C e0 m
      induction m with
      | zero =>
        intro n h2 r2 hn e2 f2 r2z sp2
        have A2 := A.ext e2.1
        have q2 : TR h2 2 E S := q.keep e2.1 fun b j z => f2 b j (by unfold tIn at z; unfold sQx; omega)
        have t22 : h2 1 0 = 2 := (f2 1 0 (by unfold sQx; omega)).trans t2
        refine wX0_triesScrapes_L82 C ⟨e2, ⟨by omega, by omega⟩, ⟨by omega, by omega⟩, ⟨by omega, by omega⟩, ⟨by omega, by omega⟩, ⟨by omega, by omega⟩, ⟨by omega, by omega⟩⟩ ⟨A2, t22, by omega, by omega, ?_⟩
        rw [show h2 13 (E.first t + k) = ((S.co (E.first t + k)).length : Int) from (q2.co (by omega) (by omega)).1]
        refine ⟨fun _ h5 e5 => ?_, fun z => absurd z (by omega)⟩
        have x5 : EX h2 h5 := by rw [e5]; exact EX_up (EX.rf e2.2) A2.t20.k23 (by decide) rfl (by omega) (okI_a (Or.inl rfl) ⟨by omega, by omega⟩)
        have f5 : Fr (fun b j => (b = 31 ∧ j = E.first t + k) ∨ (b = 172 ∧ j = k)) h2 h5 := by rw [e5]; exact (Fr.rf _ _).up (Or.inl ⟨rfl, rfl⟩)
        have g := SpX.set (n := 0) A2 K O t0 t1 k0 k1 (by omega) (by omega) sp2 x5 f5 (by rw [e5, up_s]; omega) (fun z => absurd rfl z) (fun _ _ _ => trivial)
        refine hp h5 (e2.tr x5) (f2.tr (f5.mono fun b j z => by unfold sQx; omega)) ?_
        rw [ej, show (S.co (E.first t + k)).length + 1 = n by omega]
        have rr : ∀ i : Int, 0 ≤ i → i < sizeT E t → fu r2 k 0 i = r i := fun i i0 i1 => by
          by_cases z : i = k
          · rw [z, fu_s, rz k (Int.le_refl _) k1]
          · rw [fu_n z]; exact r2z i z
        exact ⟨g.1.congr rfl rfl (fun c _ _ => (scS_rz rr c).symm) fun _ _ _ => rfl, g.2.1, fun i i0 i1 => (g.2.2.1 i i0 i1).trans (r2z i (by omega)), g.2.2.2.1, g.2.2.2.2⟩
      | succ m ihm =>
        intro n h2 r2 hn e2 f2 r2z sp2
        have A2 := A.ext e2.1
        have q2 : TR h2 2 E S := q.keep e2.1 fun b j z => f2 b j (by unfold tIn at z; unfold sQx; omega)
        have t22 : h2 1 0 = 2 := (f2 1 0 (by unfold sQx; omega)).trans t2
        refine wX0_triesScrapes_L82 C ⟨e2, ⟨by omega, by omega⟩, ⟨by omega, by omega⟩, ⟨by omega, by omega⟩, ⟨by omega, by omega⟩, ⟨by omega, by omega⟩, ⟨by omega, by omega⟩⟩ ⟨A2, t22, by omega, by omega, ?_⟩
        rw [show h2 13 (E.first t + k) = ((S.co (E.first t + k)).length : Int) from (q2.co (by omega) (by omega)).1]
        refine ⟨fun z => absurd z (by omega), fun _ => ⟨k0, by omega, fun h10 e10 => ⟨⟨by omega, by omega⟩, fun h14 e14 => ⟨⟨by omega, by omega⟩, ⟨by omega, by omega⟩, ?_⟩⟩⟩⟩
        have x10 : EX h2 h10 := by rw [e10]; exact EX_up (EX.rf e2.2) A2.k172 (by decide) rfl k0 (okI_a (Or.inl rfl) ⟨by omega, by omega⟩)
        have x14 : EX h2 h14 := by rw [e14]; exact EX_up x10 (A2.ext x10.1).t20.k23 (by decide) rfl (by omega) (okI_a (Or.inl rfl) ⟨by omega, by omega⟩)
        have f14 : Fr (fun b j => (b = 31 ∧ j = E.first t + k) ∨ (b = 172 ∧ j = k)) h2 h14 := by rw [e14, e10]; exact ((Fr.rf _ _).up (Or.inr ⟨rfl, rfl⟩)).up (Or.inl ⟨rfl, rfl⟩)
        have v172 : h14 172 k = (n : Int) := by rw [e14, up_a (by decide), e10, up_s]
        have g := SpX.set (n := (n : Int)) A2 K O t0 t1 k0 k1 (by omega) (by omega) sp2 x14 f14 (by rw [e14, up_s]) (fun _ => v172) (fun _ _ _ => trivial)
        have rn : ∀ i : Int, fu r2 k (n : Int) i = fu r k (n : Int) i := fun i => by
          by_cases z : i = k
          · rw [z, fu_s, fu_s]
          · rw [fu_n z, fu_n z]; exact r2z i z
        have rn' : fu r2 k (n : Int) = fu r k (n : Int) := funext rn
        rw [rn'] at g
        have f14q : Fr sQx h2 h14 := f14.mono fun b j z => by unfold sQx; omega
        have brn : BtR (enumL (fun n b => scJ E S p t j (fu r k n) (s + n) b) n b) := by
          have : ∀ n : Nat, n ≤ (S.co (E.first t + k)).length + 1 → BtR (enumL (fun n b => scJ E S p t j (fu r k n) (s + n) b) n b) := by
            intro n
            induction n with
            | zero => intro _; exact br
            | succ n ihn => intro hn; exact enumJ_rng _ _ (lenC_5 E S t) j _ _ _ (ihn (by omega)) (by omega) (by omega)
          exact this n (by omega)
        refine ih d0 X.2.1 (k + 1) (s + n) (fu r k n) _ h14 _ (by omega) (by omega) (by omega) (by omega) (by omega) (fun i i0 i1 => by rw [fu_n (by omega)]; exact rz i (by omega) i1) brn (A2.ext x14.1) ((f14q 1 0 (by unfold sQx; omega)).trans t22) (q2.keep x14.1 fun b j z => f14q b j (by unfold tIn at z; unfold sQx; omega)) ⟨g.1, g.2.1, fun i i0 i1 => ?_, g.2.2.2.1, g.2.2.2.2⟩ fun h20 e20 f20 sp20 _ => ⟨⟨by omega, by omega⟩, fun _ => ?_⟩
        · by_cases z : i = k
          · rw [z, fu_s]; exact v172
          · rw [fu_n z]; exact (g.2.2.1 i i0 (by omega)).trans (r2z i z)
        · have := ihm (n + 1) h20 (fu r k n) (by omega) (e2.tr (x14.tr e20)) (f2.tr (f14q.tr f20)) (fun i z => fu_n z) ⟨sp20.1, sp20.2.1, fun i i0 i1 => sp20.2.2.1 i i0 (by omega), sp20.2.2.2.1, sp20.2.2.2.2⟩
          rwa [show ((n + 1 : Nat) : Int) = (n : Int) + 1 by omega] at this
    refine eX0_triesScrapes fun X C e9 B => ⟨A, ?_⟩
    have b1 := sp.2.2.2.1
    rw [b1, show h 4 t = sizeT E t from (q.te.2.1 t t0 t1).2.1, show h 3 t = E.first t from (q.te.2.1 t t0 t1).1]
    refine ⟨fun z => ⟨t2, t0, by omega, fun y => ⟨⟨by omega, by omega⟩, fun y7 ey B' => ?_⟩, fun y => absurd y (by omega)⟩, fun z => ⟨fun c => ⟨t2, t0, by omega, fun y => ⟨⟨by omega, by omega⟩, fun y7 ey B' => ?_⟩, fun y => absurd y (by omega)⟩, fun c => ?_⟩⟩
    · rw [ey]; exact loop X C B.1 ((S.co (E.first t + k)).length + 1) 0 h r (by omega) (EX.rf B.1.2) (Fr.rf _ _) (fun _ _ => rfl) sp
    · rw [ey]; exact loop X C B.1 ((S.co (E.first t + k)).length + 1) 0 h r (by omega) (EX.rf B.1.2) (Fr.rf _ _) (fun _ _ => rfl) sp
    · have y : b.1 ≠ -2 := fun y => z (by unfold bxF; rw [if_pos y])
      have c2 : b.1 ≤ s := by unfold bxF at c; rw [if_neg y] at c; exact c
      refine hp h (EX.rf B.1.2) (Fr.rf _ _) ?_
      rw [show scJ E S p t (j + 1) r s b = b from enumJ_prune _ _ _ _ _ _ _ y c2]
      exact sp
/-! the answer -/
abbrev fewOk (T : Tn) (p t w : Int) : Prop := (0 ≤ p ∧ p < T.en.pm) ∧ (0 ≤ t ∧ t < T.en.tm) ∧ (0 ≤ w ∧ w ≤ 6)
def fewB (E : En) (S : St) (p t : Int) : Bt := scJ E S p t (sizeT E t).toNat (fun _ => 0) 0 (-2, fun _ => 0)
def fewR (E : En) (b : Bt) (t w : Int) : Int := if b.1 = -2 then -2 else if w = 0 then b.1 else if w ≤ sizeT E t then b.2 (w - 1) else -2
def aFewest (Z : Zt) (p t w : Int) : Int := match Z.s with
  | none => -1
  | some T => if fewOk T p t w then fewR T.en (fewB T.en T.st p t) t w else -1
theorem aFewest_no {Z : Zt} {p t w : Int} (q : ∀ T : Tn, Z.s = some T → ¬ fewOk T p t w) : aFewest Z p t w = -1 := by
  unfold aFewest
  cases es : Z.s with
  | none => rfl
  | some T => exact if_neg (q T es)
theorem fewB_rng {E : En} (K : EnOk E) (S : St) {p t : Int} (t0 : 0 ≤ t) (t1 : t < E.tm) : BtR (fewB E S p t) := by
  have sz := K.fs t t0 t1
  exact enumJ_rng _ _ (lenC_5 E S t) _ _ _ _ (Or.inl rfl) (Int.le_refl _) (by unfold sizeT; omega)
theorem scS_0 (E : En) (S : St) (t c : Int) : (scS E S t (fun _ => 0)).co c = S.co c := by
  show (if E.first t ≤ c ∧ c < E.first (t + 1) then (S.co c).drop (0 : Int).toNat else S.co c) = S.co c
  split <;> rfl
theorem oX_fewest {h : Mem} {Z : Zt} {l : Launch} (I : IX h Z) {p t w : Int} (hp : ∀ h' : Mem, EX h h' → Fr sQx h h' → P (aFewest Z p t w) h') : kX0_fewest G l p t w h P := by
  have bad : (∀ T : Tn, Z.s = some T → ¬ fewOk T p t w) → P (-1) h := fun q => by
    have hp0 := hp h (EX.rf I.oz) (Fr.rf _ _)
    rw [aFewest_no q] at hp0; exact hp0
  refine eX0_fewest fun X C e9 B => ⟨I.xs, I.isPainter fun _ => ?_⟩
  by_cases hq : 0 ≤ p ∧ p < pmO Z.s
  · rw [if_pos hq]
    refine ⟨fun z => (by cases z), fun _ => I.isThing fun _ => ?_⟩
    by_cases ht : 0 ≤ t ∧ t < tmO Z.s
    · obtain ⟨T, es, t0, t1⟩ := tmO_s ht
      rw [if_pos ht]
      rw [es] at hq
      have hq : 0 ≤ p ∧ p < T.en.pm := hq
      refine ⟨fun z => (by cases z), fun _ => sX0_in fun _ => ?_⟩
      by_cases hw : 0 ≤ w ∧ w ≤ 6
      · rw [if_pos hw]
        obtain ⟨t2, tx⟩ := I.tn es
        have sz := tx.tr.en.fs t t0 t1
        have Kt := tx.tr.en.tm
        have sd : sizeT T.en t = T.en.first (t + 1) - T.en.first t := rfl
        refine ⟨fun _ => ⟨t2, sX1_copyTR I.xs.t20 tx.tr (Or.inr (by decide)) fun h1 e1 f1 T1 _ => ⟨rfl, fun h2 e2 => ?_⟩⟩, fun z => (by cases z)⟩
        have I1 := I.q e1 f1.cpq
        have x2 : EX h1 h2 := by rw [e2]; exact EX_up (EX.rf e1.2) I1.xs.k1 (by decide) rfl (by decide) (okI_i rfl ⟨by decide, by decide⟩)
        have f2 : Fr (fun b j => b = 1 ∧ j = 19) h1 h2 := by rw [e2]; exact (Fr.rf _ _).up ⟨rfl, rfl⟩
        have I2 := I1.q x2 (f2.mono fun b j z => by unfold sQx; omega)
        obtain ⟨t22, tx2⟩ := I2.tn es
        have T2 : TR h2 20 T.en T.st := T1.keep x2.1 fun b j z => f2 b j (by unfold tIn at z; omega)
        have T2s : TR h2 20 T.en (scS T.en T.st t (fun _ => 0)) := T2.congr rfl rfl (fun c _ _ => scS_0 _ _ _ _) fun _ _ _ => rfl
        refine sX0_tries tx.tr.en tx.tr.st hq.1 hq.2 t0 t1 (sizeT T.en t).toNat 8 _ 0 0 (fun _ => 0) (-2, fun _ => 0) h2 _ (by omega) (by omega) (by decide) (by decide) (by omega) (fun _ _ _ => rfl) (Or.inl rfl) I2.xs t22 tx2.tr ⟨T2s, fun c c0 c1 => (T2.co c0 c1).2, fun i i0 i1 => absurd i1 (by omega), by rw [e2, up_s]; rfl, fun z => absurd rfl z⟩ fun h3 e3 f3 sp _ => ?_
        have I3 := I2.q e3 f3
        obtain ⟨t23, tx3⟩ := I3.tn es
        have hp3 := hp h3 ((e1.tr x2).tr e3) ((f1.cpq.tr (f2.mono fun b j z => by unfold sQx; omega)).tr f3)
        rw [show aFewest Z p t w = fewR T.en (fewB T.en T.st p t) t w by unfold aFewest; rw [es]; exact if_pos ⟨hq, ⟨t0, t1⟩, hw⟩] at hp3
        have br := fewB_rng tx.tr.en T.st (p := p) t0 t1
        obtain ⟨_, _, _, b1, b2⟩ := sp
        have b1 : h3 1 19 = bxF (fewB T.en T.st p t) := b1
        have b2 : (fewB T.en T.st p t).1 ≠ -2 → ∀ i : Int, 0 ≤ i → i < sizeT T.en t → h3 173 i = (fewB T.en T.st p t).2 i := b2
        rw [b1, show h3 4 t = sizeT T.en t from (tx3.tr.te.2.1 t t0 t1).2.1]
        unfold fewR at hp3
        unfold bxF
        by_cases bn : (fewB T.en T.st p t).1 = -2
        · rw [if_pos bn] at hp3 ⊢
          exact ⟨fun _ => hp3, fun z => absurd rfl z⟩
        · rw [if_neg bn] at hp3 ⊢
          refine ⟨fun z => by rcases br with y | y <;> omega, fun _ => ⟨t23, t0, by omega, fun c => ⟨fun w0 => ⟨by omega, by omega, ?_⟩, fun w0 => ?_⟩, fun c => ?_⟩⟩
          · rw [if_neg w0, if_pos c] at hp3
            rw [b2 bn (w - 1) (by omega) (by omega)]; exact hp3
          · rw [if_pos w0] at hp3; exact hp3
          · rw [if_neg (by omega), if_neg (by omega)] at hp3; exact hp3
      · rw [if_neg hw]
        exact ⟨fun z => absurd rfl z, fun _ => bad fun T' es' o => hw o.2.2⟩
    · rw [if_neg ht]
      exact ⟨fun _ => bad fun T' es' o => by rw [es'] at ht; exact ht o.2.1, fun z => absurd rfl z⟩
  · rw [if_neg hq]
    exact ⟨fun _ => bad fun T' es' o => by rw [es'] at hq; exact hq o.1, fun z => absurd rfl z⟩
end
