/-! when; least -/
set_option maxRecDepth 100000
def dryN (E : En) (x : Int) : Nat → Bool
  | 0 => true
  | n + 1 => dryN E x n && !rainF E (x + n)
theorem dryN_up {E : En} {x : Int} {k : Nat} (h : dryN E x k = false) : ∀ m : Nat, k ≤ m → dryN E x m = false
  | 0, hm => by rw [show k = 0 by omega] at h; exact h
  | m + 1, hm => by
    by_cases q : k = m + 1
    · rw [← q]; exact h
    · rw [dryN, dryN_up h m (by omega)]; rfl
def whenG (E : En) : Nat → Int → Int
  | 0, _ => -2
  | m + 1, x => if dryN E x E.dry.toNat = true then x else whenG E m (x + 1)
def aWhen (Z : Zt) : Int := match Z.s with
  | none => -1
  | some T => whenG T.en 60 T.st.now
section
variable {G : GT} {h : Mem} {Z : Zt} {T : Tn} {P : Int → Mem → Prop} {l : Launch} {E : En} {S : St}
theorem sX0_staysDry (A : XS h) (t2 : h 1 0 = 2) (q : TR h 2 E S) {x : Int} (hx : 0 ≤ x ∧ x ≤ 10000) (hp : P (if dryN E x E.dry.toNat = true then 1 else 0) h) : kX0_staysDry G l x h P := by
  refine eX0_staysDry fun X C e B B' => ?_
  have Kd := q.en.dry
  have loop : ∀ m k : Nat, (k : Int) + m = E.dry → dryN E x k = true → V G X 3 0 0 (QF G X 0 0 0 (PZ h P)) 2 [(0, rf 1), (1, iv x), (2, iv (x + k))] [] h := by
    intro m
    induction m with
    | zero =>
      intro k hk d
      refine wX0_staysDry_L2 C ⟨B'.1, B'.2.1, ⟨by omega, by omega⟩⟩ ⟨A, t2, ?_⟩
      rw [show h 2 0 = E.dry from q.te.1.1]
      refine ⟨⟨by omega, by omega⟩, fun _ => ?_, fun z => absurd z (by omega)⟩
      rw [show E.dry.toNat = k by omega, if_pos d] at hp; exact hp
    | succ m ih =>
      intro k hk d
      refine wX0_staysDry_L2 C ⟨B'.1, B'.2.1, ⟨by omega, by omega⟩⟩ ⟨A, t2, ?_⟩
      rw [show h 2 0 = E.dry from q.te.1.1]
      refine ⟨⟨by omega, by omega⟩, fun z => absurd z (by omega), fun _ => sX1_isRain q fun _ => ⟨fun z => ⟨⟨by omega, by omega⟩, fun _ => ?_⟩, fun z => ?_⟩⟩
      · have no : rainF E (x + k) = false := by
          cases hr : rainF E (x + k) with
          | false => rfl
          | true => rw [if_pos hr] at z; cases z
        have := ih (k + 1) (by omega) (by rw [dryN, d, no]; rfl)
        rwa [show x + ((k + 1 : Nat) : Int) = x + k + 1 by omega] at this
      · have yes : rainF E (x + k) = true := by
          cases hr : rainF E (x + k) with
          | true => rfl
          | false => rw [if_neg (by rw [hr]; decide)] at z; exact absurd rfl z
        have f : dryN E x (k + 1) = false := by rw [dryN, yes]; simp
        rw [if_neg (by rw [dryN_up f _ (by omega)]; decide)] at hp; exact hp
  have := loop E.dry.toNat 0 (by omega) rfl
  rwa [show x + ((0 : Nat) : Int) = x by omega] at this
theorem l_when (A : XS h) (t2 : h 1 0 = 2) (q : TR h 2 E S) (n9 : S.now ≤ 999) {X : MX} {h0 : Mem} (C : Cx G X cX0_when 2 RX0 2 0 0 (some .int) "when") (B : EX h0 h) :
    ∀ m i : Nat, i + m = 60 → P (whenG E m (S.now + i)) h → V G X 2 0 0 (QF G X 0 0 0 (PI h0 P)) 17 [(0, rf 1), (1, iv (S.now + i))] [] h := by
  have n0 := q.st.now.1
  intro m
  induction m with
  | zero =>
    intro i hi hp
    refine wX0_when_L17 C ⟨B, ⟨by omega, by omega⟩⟩ ⟨A, t2, ?_⟩
    rw [show h 2 11 = S.now from q.td.1.1]
    exact ⟨⟨by omega, by omega⟩, fun _ => hp, fun z => absurd z (by omega)⟩
  | succ m ih =>
    intro i hi hp
    refine wX0_when_L17 C ⟨B, ⟨by omega, by omega⟩⟩ ⟨A, t2, ?_⟩
    rw [show h 2 11 = S.now from q.td.1.1]
    refine ⟨⟨by omega, by omega⟩, fun z => absurd z (by omega), fun _ => sX0_staysDry A t2 q ⟨by omega, by omega⟩ fun _ => ?_⟩
    rw [whenG] at hp
    by_cases d : dryN E (S.now + i) E.dry.toNat = true
    · rw [if_pos d] at hp ⊢
      exact ⟨fun z => (by cases z), fun _ => hp⟩
    · rw [if_neg d] at hp ⊢
      refine ⟨fun _ => ⟨⟨by omega, by omega⟩, fun _ => ?_⟩, fun z => absurd rfl z⟩
      have := ih (i + 1) (by omega) (by rwa [show S.now + ((i + 1 : Nat) : Int) = S.now + i + 1 by omega])
      rwa [show S.now + ((i + 1 : Nat) : Int) = S.now + i + 1 by omega] at this
theorem oX_when (I : IX h Z) (hp : P (aWhen Z) h) : kX0_when G l h P := by
  refine eX0_when fun X C e9 B => ⟨I.xs, fun q => ?_, fun q => ?_⟩
  · cases es : Z.s with
    | none => exact absurd (I.no es) q
    | some T =>
      obtain ⟨t2, tx⟩ := I.tn es
      unfold aWhen at hp
      rw [es] at hp
      dsimp only at hp
      refine ⟨t2, fun y ey B' => ?_⟩
      have := l_when I.xs t2 tx.tr tx.ok.now C B'.1 60 0 rfl (by rwa [show T.st.now + ((0 : Nat) : Int) = T.st.now by omega])
      rw [show T.st.now + ((0 : Nat) : Int) = T.st.now by omega] at this
      rw [ey, show h 2 11 = T.st.now from tx.tr.td.1.1]
      exact this
  · cases es : Z.s with
    | none => unfold aWhen at hp; rw [es] at hp; exact hp
    | some T => have := (I.tn es).1; omega
theorem l_when3 (q : MR h E S) (n9 : S.now ≤ 999) {X : MX} {h0 : Mem} (C : Cx G X cX3_when 4 RX3 2 0 0 (some .int) "when") (B : EX h0 h) :
    ∀ m i : Nat, i + m = 60 → P (whenG E m (S.now + i)) h → V G X 4 0 0 (QF G X 0 0 0 (PI h0 P)) 17 [(0, rf 177), (1, iv (S.now + i))] [] h := by
  have n0 := q.st.now.1
  have Kd := q.en.dry
  intro m
  induction m with
  | zero =>
    intro i hi hp
    refine wX3_when_L17 C ⟨B, ⟨by omega, by omega⟩⟩ ⟨q.ms, ?_⟩
    rw [q.td.1.1]
    exact ⟨⟨by omega, by omega⟩, fun _ => hp, fun z => absurd z (by omega)⟩
  | succ m ih =>
    intro i hi hp
    refine wX3_when_L17 C ⟨B, ⟨by omega, by omega⟩⟩ ⟨q.ms, ?_⟩
    rw [q.td.1.1]
    refine ⟨⟨by omega, by omega⟩, fun z => absurd z (by omega), fun _ _ => ?_⟩
    rw [whenG] at hp
    have loop : ∀ j k : Nat, (k : Int) + j = E.dry → ∀ y : Int, y = (if dryN E (S.now + i) k = true then 1 else 0) → V G X 4 0 0 (QF G X 0 0 0 (PI h0 P)) 35 [(0, rf 177), (1, iv (S.now + i)), (2, iv y), (3, iv (S.now + i + k))] [] h := by
      intro j
      induction j with
      | zero =>
        intro k hk y ey
        have y01 : y = 0 ∨ y = 1 := by rw [ey]; split <;> omega
        refine wX3_when_L35 C ⟨B, ⟨by omega, by omega⟩, ⟨by omega, by omega⟩, ⟨by omega, by omega⟩⟩ ⟨q.ms, ?_⟩
        rw [q.te.1.1]
        rw [show E.dry.toNat = k by omega] at hp
        refine ⟨⟨by omega, by omega⟩, fun _ => ⟨fun z => ⟨⟨by omega, by omega⟩, fun _ => ?_⟩, fun z => ?_⟩, fun z => absurd z (by omega)⟩
        · have d : ¬ dryN E (S.now + i) k = true := fun w => by rw [if_pos w] at ey; omega
          rw [if_neg d] at hp
          have := ih (i + 1) (by omega) (by rwa [show S.now + ((i + 1 : Nat) : Int) = S.now + i + 1 by omega])
          rwa [show S.now + ((i + 1 : Nat) : Int) = S.now + i + 1 by omega] at this
        · have d : dryN E (S.now + i) k = true := Classical.byContradiction fun w => by rw [if_neg w] at ey; exact z ey
          rw [if_pos d] at hp; exact hp
      | succ j ihj =>
        intro k hk y ey
        have y01 : y = 0 ∨ y = 1 := by rw [ey]; split <;> omega
        refine wX3_when_L35 C ⟨B, ⟨by omega, by omega⟩, ⟨by omega, by omega⟩, ⟨by omega, by omega⟩⟩ ⟨q.ms, ?_⟩
        rw [q.te.1.1]
        have go : ∀ y2 : Int, y2 = (if dryN E (S.now + i) (k + 1) = true then 1 else 0) → V G X 4 0 0 (QF G X 0 0 0 (PI h0 P)) 35 [(0, rf 177), (1, iv (S.now + i)), (2, iv y2), (3, iv (S.now + i + k + 1))] [] h := fun y2 e2 => by
          have := ihj (k + 1) (by omega) y2 e2
          rwa [show S.now + (i : Int) + ((k + 1 : Nat) : Int) = S.now + i + k + 1 by omega] at this
        refine ⟨⟨by omega, by omega⟩, fun z => absurd z (by omega), fun _ => ⟨fun z => ⟨⟨by omega, by omega⟩, fun _ => go 0 ?_⟩, fun z => sX3_rains q fun _ => ⟨fun w => ⟨⟨by omega, by omega⟩, fun _ => go 0 ?_⟩, fun w => ⟨⟨by omega, by omega⟩, fun _ => go 1 ?_⟩⟩⟩⟩
        · have d : ¬ dryN E (S.now + i) k = true := fun w => by rw [if_pos w] at ey; omega
          rw [if_neg]; rw [dryN, Bool.and_eq_true]; exact fun w => d w.1
        · have yes : rainF E (S.now + i + k) = true := Classical.byContradiction fun w9 => by rw [if_neg w9] at w; exact w rfl
          rw [if_neg]; rw [dryN, yes]; simp
        · have d : dryN E (S.now + i) k = true := Classical.byContradiction fun w9 => by rw [if_neg w9] at ey; exact z ey
          have no : ¬ rainF E (S.now + i + k) = true := fun w9 => by rw [if_pos w9] at w; cases w
          rw [if_pos]; rw [dryN, d]; simpa using no
    have := loop E.dry.toNat 0 (by omega) 1 rfl
    rwa [show S.now + (i : Int) + ((0 : Nat) : Int) = S.now + i by omega] at this
theorem oM_when (I : IM h Z) (hp : P (aWhen Z) h) : kX3_when G l h P := by
  refine eX3_when fun X C e9 B => ⟨I.ms, I.isStreet fun _ => ⟨fun z => ?_, fun z => ?_⟩⟩
  · cases es : Z.s with
    | none => rw [es, if_pos rfl] at z; exact absurd rfl z
    | some T =>
      have tx := I.tn es
      unfold aWhen at hp
      rw [es] at hp
      dsimp only at hp
      intro y ey B'
      have := l_when3 tx.mr tx.ok.now C B'.1 60 0 rfl (by rwa [show T.st.now + ((0 : Nat) : Int) = T.st.now by omega])
      rw [show T.st.now + ((0 : Nat) : Int) = T.st.now by omega] at this
      rw [ey, tx.mr.td.1.1]
      exact this
  · cases es : Z.s with
    | none => unfold aWhen at hp; rw [es] at hp; exact hp
    | some T => rw [es, if_neg (by intro y; cases y)] at z; cases z
/-! bits of a small set -/
def bitsN (s : Int) : Nat → Int
  | 0 => 0
  | n + 1 => bitsN s n + bAnd (bShr s n) 1
def bitsF (s : Int) : Int := bitsN s 16
theorem bits_le (s : Int) (hs0 : ∀ k : Nat, k < 16 → 0 ≤ bAnd (bShr s k) 1 ∧ bAnd (bShr s k) 1 ≤ 1) : ∀ n : Nat, n ≤ 16 → 0 ≤ bitsN s n ∧ bitsN s n ≤ n
  | 0, _ => by show (0 : Int) ≤ 0 ∧ (0 : Int) ≤ ((0 : Nat) : Int); omega
  | n + 1, h => by
    have ih := bits_le s hs0 n (by omega)
    have := hs0 n (by omega)
    rw [bitsN]; omega
theorem and1 : ∀ x : Int, 0 ≤ bAnd x 1 ∧ bAnd x 1 ≤ 1 := by
  intro x
  unfold bAnd
  have e : Int32.ofInt x &&& Int32.ofInt 1 = 0 ∨ Int32.ofInt x &&& Int32.ofInt 1 = 1 := by
    generalize Int32.ofInt x = y
    have e1 : Int32.ofInt 1 = 1 := rfl
    rw [e1]
    have hb : (y &&& 1).toBitVec.toNat = y.toBitVec.toNat % 2 := by
      rw [Int32.toBitVec_and, BitVec.toNat_and]
      exact Nat.and_one_is_mod _
    rcases Nat.mod_two_eq_zero_or_one y.toBitVec.toNat with z | z
    · exact Or.inl (Int32.toBitVec_inj.mp (BitVec.eq_of_toNat_eq (by rw [hb, z]; rfl)))
    · exact Or.inr (Int32.toBitVec_inj.mp (BitVec.eq_of_toNat_eq (by rw [hb, z]; rfl)))
  rcases e with e | e <;> rw [e] <;> decide
theorem sX3_bits {s : Int} (hp : P (bitsF s) h) : kX3_bits G l s h P := by
  refine eX3_bits fun X C e B B' => ?_
  have loop : ∀ m k : Nat, k + m = 16 → V G X 3 0 0 (QF G X 0 0 0 (PI h P)) 4 [(0, iv s), (1, iv (bitsN s k)), (2, iv (k : Int))] [] h := by
    intro m
    induction m with
    | zero =>
      intro k hk
      have z := bits_le s (fun k _ => and1 _) k (by omega)
      refine wX3_bits_L4 C ⟨B'.1, B'.2.1, ⟨by omega, by omega⟩, ⟨by omega, by omega⟩⟩ ⟨fun _ => ?_, fun q => absurd q (by omega)⟩
      rw [show k = 16 by omega]; exact hp
    | succ m ih =>
      intro k hk
      have z := bits_le s (fun k _ => and1 _) k (by omega)
      have z1 := and1 (bShr s k)
      refine wX3_bits_L4 C ⟨B'.1, B'.2.1, ⟨by omega, by omega⟩, ⟨by omega, by omega⟩⟩ ⟨fun q => absurd q (by omega), fun _ => ⟨⟨by omega, by omega⟩, fun y ey => ⟨⟨by omega, by omega⟩, fun _ => ?_⟩⟩⟩
      have := ih (k + 1) (by omega)
      rw [ey]
      rwa [show ((k + 1 : Nat) : Int) = (k : Int) + 1 by omega] at this
  exact loop 16 0 rfl
def bcF (x : Int) : Int :=
  let y2 := x - bAnd (bUshr x 1) 1431655765
  let y4 := bAnd y2 858993459 + bAnd (bUshr y2 2) 858993459
  let y5 := bAnd (y4 + bUshr y4 4) 252645135
  let y7 := y5 + bUshr y5 8
  let y9 := y7 + bUshr y7 16
  bAnd y9 63
def bcOk (x : Int) : Bool :=
  let y2 := x - bAnd (bUshr x 1) 1431655765
  let y4 := bAnd y2 858993459 + bAnd (bUshr y2 2) 858993459
  let y5 := bAnd (y4 + bUshr y4 4) 252645135
  let y7 := y5 + bUshr y5 8
  let y9 := y7 + bUshr y7 16
  let r (z : Int) : Bool := decide (-2147483648 ≤ z) && decide (z < 2147483648)
  r y2 && r y4 && r y7 && r y9 && decide (bAnd y9 63 = bitsF x)
theorem bc_ok : ∀ k : Nat, k < 64 → bcOk (k : Int) = true := by decide +kernel
theorem sX_bitCount {s : Int} (h0 : 0 ≤ s) (h1 : s < 64) (hp : P (bitsF s) h) : kJ8_bitCount G l s h P := by
  have z := bc_ok s.toNat (by omega)
  rw [show ((s.toNat : Nat) : Int) = s by omega] at z
  unfold bcOk at z
  simp only [Bool.and_eq_true, decide_eq_true_eq] at z
  obtain ⟨⟨⟨⟨z1, z2⟩, z3⟩, z4⟩, z5⟩ := z
  refine eJ8_bitCount fun X C e B => ⟨z1, fun y2 e2 => ?_⟩
  subst e2
  refine ⟨z2, fun y4 e4 => ?_⟩
  subst e4
  intro y5 e5
  subst e5
  refine ⟨z3, fun y7 e7 => ?_⟩
  subst e7
  refine ⟨z4, fun y9 e9 => ?_⟩
  subst e9
  rw [z5]; exact hp
end
