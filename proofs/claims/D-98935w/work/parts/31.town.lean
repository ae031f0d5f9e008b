/-! A TOWN HOLDS A STREET; what its methods that only ask answer -/
set_option maxRecDepth 100000
def TE (h : Mem) (a : Int) (E : En) : Prop :=
  (h a 0 = E.dry ∧ h a 1 = E.part ∧ h a 2 = E.cost ∧ h a 3 = E.tm ∧ h a 4 = E.cm ∧ h a 5 = E.pm ∧ h a 6 = E.rm ∧ h a 7 = E.suit) ∧
  (∀ t : Int, 0 ≤ t → t < E.tm → h (a + 1) t = E.first t ∧ h (a + 2) t = E.first (t + 1) - E.first t ∧ h (a + 3) t = E.rent t) ∧
  (∀ c : Int, 0 ≤ c → c < E.cm → h (a + 4) c = E.thingOf c) ∧ (∀ p : Int, 0 ≤ p → p < E.pm → h (a + 5) p = E.colour p) ∧
  (∀ k : Int, 0 ≤ k → k < E.rm → h (a + 9) (2 * k) = E.rfr k ∧ h (a + 9) (2 * k + 1) = E.rto k)
def TD (h : Mem) (a : Int) (E : En) (S : St) : Prop :=
  (h a 11 = S.now ∧ h a 12 = S.bare) ∧ (∀ c : Int, 0 ≤ c → c < E.cm → h (a + 11) c = ((S.co c).length : Int) ∧ Col (h (a + 12)) (h (a + 13)) eX (5 * c) (S.co c)) ∧
  (∀ p : Int, 0 ≤ p → p < E.pm → h (a + 14) p = S.purse p)
def TR (h : Mem) (a : Int) (E : En) (S : St) : Prop := TownS h a ∧ EnOk E ∧ StOk E S ∧ TE h a E ∧ TD h a E S
theorem TR.tw {h : Mem} {a : Int} {E : En} {S : St} (T : TR h a E S) : TownS h a := T.1
theorem TR.en {h : Mem} {a : Int} {E : En} {S : St} (T : TR h a E S) : EnOk E := T.2.1
theorem TR.st {h : Mem} {a : Int} {E : En} {S : St} (T : TR h a E S) : StOk E S := T.2.2.1
theorem TR.te {h : Mem} {a : Int} {E : En} {S : St} (T : TR h a E S) : TE h a E := T.2.2.2.1
theorem TR.td {h : Mem} {a : Int} {E : En} {S : St} (T : TR h a E S) : TD h a E S := T.2.2.2.2
theorem TR.co {h : Mem} {a : Int} {E : En} {S : St} (T : TR h a E S) {c : Int} (h0 : 0 ≤ c) (h1 : c < E.cm) : h (a + 11) c = ((S.co c).length : Int) ∧ Col (h (a + 12)) (h (a + 13)) eX (5 * c) (S.co c) := T.td.2.1 c h0 h1
/-- the rows that a town's street stands in -/
def tIn (a b j : Int) : Prop := (b = a ∧ j ≠ 8 ∧ j ≠ 9 ∧ j ≠ 10) ∨ (a < b ∧ b ≤ a + 14 ∧ b ≠ a + 6 ∧ b ≠ a + 7 ∧ b ≠ a + 8 ∧ b ≠ a + 10)
theorem TR.keep {h h' : Mem} {a : Int} {E : En} {S : St} (T : TR h a E S) (e : Ext h h') (f : ∀ b j : Int, tIn a b j → h' b j = h b j) : TR h' a E S := by
  obtain ⟨t1, t2, t3, ⟨⟨a1, a2, a3, a4, a5, a6, a7, a8⟩, b, c, d, g⟩, ⟨k1, k2⟩, l, m⟩ := T
  have f0 : ∀ j : Int, j ≠ 8 ∧ j ≠ 9 ∧ j ≠ 10 → h' a j = h a j := fun j q => f a j (Or.inl ⟨rfl, q⟩)
  have f1 : ∀ i : Int, 0 < i ∧ i ≤ 14 ∧ i ≠ 6 ∧ i ≠ 7 ∧ i ≠ 8 ∧ i ≠ 10 → ∀ j, h' (a + i) j = h (a + i) j := fun i q j => f (a + i) j (Or.inr ⟨by omega, by omega, by omega, by omega, by omega, by omega⟩)
  refine ⟨t1.ext e, t2, t3, ⟨⟨?_, ?_, ?_, ?_, ?_, ?_, ?_, ?_⟩, ?_, ?_, ?_, ?_⟩, ⟨?_, ?_⟩, ?_, ?_⟩
  · rw [f0 0 (by omega)]; exact a1
  · rw [f0 1 (by omega)]; exact a2
  · rw [f0 2 (by omega)]; exact a3
  · rw [f0 3 (by omega)]; exact a4
  · rw [f0 4 (by omega)]; exact a5
  · rw [f0 5 (by omega)]; exact a6
  · rw [f0 6 (by omega)]; exact a7
  · rw [f0 7 (by omega)]; exact a8
  · intro t h0 h1; rw [f1 1 (by omega), f1 2 (by omega), f1 3 (by omega)]; exact b t h0 h1
  · intro t h0 h1; rw [f1 4 (by omega)]; exact c t h0 h1
  · intro t h0 h1; rw [f1 5 (by omega)]; exact d t h0 h1
  · intro t h0 h1; rw [f1 9 (by omega), f1 9 (by omega)]; exact g t h0 h1
  · rw [f0 11 (by omega)]; exact k1
  · rw [f0 12 (by omega)]; exact k2
  · intro t h0 h1
    rw [f1 11 (by omega)]
    exact ⟨(l t h0 h1).1, (l t h0 h1).2.mono fun i _ _ => ⟨f1 12 (by omega) i, f1 13 (by omega) i⟩⟩
  · intro t h0 h1; rw [f1 14 (by omega)]; exact m t h0 h1
/-- only these places differ -/
def Fr (s : Int → Int → Prop) (h h' : Mem) : Prop := ∀ b j : Int, ¬ s b j → h' b j = h b j
theorem Fr.rf (s : Int → Int → Prop) (h : Mem) : Fr s h h := fun _ _ _ => rfl
theorem Fr.tr {s : Int → Int → Prop} {h h1 h2 : Mem} (A : Fr s h h1) (B : Fr s h1 h2) : Fr s h h2 := fun b j q => (B b j q).trans (A b j q)
theorem Fr.up {s : Int → Int → Prop} {h h1 : Mem} (A : Fr s h h1) {b i v : Int} (q : s b i) : Fr s h (up h1 b i v) := fun c j n => (up_n (fun z => n (by rw [z.1, z.2]; exact q))).trans (A c j n)
theorem Fr.mono {s s' : Int → Int → Prop} {h h' : Mem} (A : Fr s h h') (q : ∀ b j, s b j → s' b j) : Fr s' h h' := fun b j n => A b j fun z => n (q b j z)
def ownB (E : En) (hour below : Int) : Co → Int
  | [] => -1
  | (b, w) :: r => if below ≤ eX w then ownB E hour below r else if w = -1 ∨ w + E.dry ≤ hour then b else if E.suit = 1 then -1 else ownB E hour below r
theorem ownB_ever {E : En} {now hour : Int} (hn : now ≤ 1000000) : ∀ {l : Co}, (∀ b w : Int, (b, w) ∈ l → 0 ≤ b ∧ b < E.pm ∧ -1 ≤ w ∧ w ≤ now) → ownB E hour 2147483647 l = ownL E hour l
  | [], _ => rfl
  | (b, w) :: r, h => by
    have q := h b w List.mem_cons_self
    rw [ownB, ownL, if_neg (by unfold eX; split <;> omega), ownB_ever hn fun b w q => h b w (List.mem_cons_of_mem _ q)]
theorem ownB_ahead {E : En} {hour : Int} (h0 : 0 ≤ hour) : ∀ {l : Co}, (l.Pairwise fun x y => y.2 ≤ x.2) → (∀ b w : Int, (b, w) ∈ l → -1 ≤ w) → ownB E hour hour l = ownL E hour (aheadL hour l)
  | [], _, _ => rfl
  | (b, w) :: r, hp, hw => by
    obtain ⟨h1, h2⟩ := List.pairwise_cons.mp hp
    rw [ownB, aheadL]
    by_cases c : hour ≤ w
    · rw [if_pos (by unfold eX; split <;> omega), if_pos c]
      exact ownB_ahead h0 h2 fun b w q => hw b w (List.mem_cons_of_mem _ q)
    · have := hw b w List.mem_cons_self
      rw [if_neg (by unfold eX; split <;> omega), if_neg c, ownL]
      have e : ownB E hour hour r = ownL E hour r := by
        have hall : ∀ b' w' : Int, (b', w') ∈ r → w' < hour ∧ -1 ≤ w' := fun b' w' q => ⟨by have := h1 (b', w') q; simp only at this; omega, hw b' w' (List.mem_cons_of_mem _ q)⟩
        clear hp hw h1 h2 this
        induction r with
        | nil => rfl
        | cons x r ih =>
          obtain ⟨b', w'⟩ := x
          have z := hall b' w' List.mem_cons_self
          rw [ownB, ownL, if_neg (by unfold eX; split <;> omega), ih fun b w q => hall b w (List.mem_cons_of_mem _ q)]
      rw [e]
section
variable {G : GT} {h : Mem} {a : Int} {E : En} {S : St} {P : Int → Mem → Prop} {l : Launch}
theorem sX0_has {s k : Int} (hp : P (if hs s k then 1 else 0) h) : kX0_has G l s k h P := by
  refine eX0_has fun X C e B => ⟨fun c => ?_, fun c => ?_⟩
  · rw [if_neg c] at hp; exact hp
  · rw [if_pos c] at hp; exact hp
theorem eX_rng {w now : Int} (h0 : -1 ≤ w) (h1 : w ≤ now) : eX w = -1000 ∧ w = -1 ∨ eX w = w ∧ 0 ≤ w ∧ w ≤ now := by
  unfold eX; split <;> omega
theorem l_ownerAt (T : TR h a E S) {X : MX} {h0 : Mem} (C : Cx G X cX1_ownerAt 6 RX1 0 0 0 (some .int) "ownerAt") (B : EX h0 h) {c hour below : Int} (c0 : 0 ≤ c) (c1 : c < E.cm) (hh : 0 ≤ hour) (R2 : R32 hour) (R3 : R32 below) :
    ∀ (l : Co), l.length ≤ 5 → (∀ b w : Int, (b, w) ∈ l → 0 ≤ b ∧ b < E.pm ∧ -1 ≤ w ∧ w ≤ S.now) → Col (h (a + 12)) (h (a + 13)) eX (5 * c) l → P (ownB E hour below l) h →
    V G X 6 0 0 (QF G X 0 0 0 (PI h0 P)) 10 [(0, rf a), (1, iv c), (2, iv hour), (3, iv below), (4, iv ((l.length : Int) - 1))] [] h
  | [], _, _, _, hp => by
    have K := T.en.cm
    refine wX1_ownerAt_L10 C ⟨B, ⟨by omega, by omega⟩, R2, R3, ⟨by decide, by decide⟩⟩ ⟨T.tw, fun _ => hp, fun q => ?_⟩
    have : (([] : Co).length : Int) = 0 := rfl
    omega
  | (b, w) :: r, hl, hr, ⟨g1, g2, g3⟩, hp => by
    have K := T.en.cm
    have Kd := T.en.dry
    have Kn := T.st.now
    have hw := hr b w List.mem_cons_self
    have hx := eX_rng hw.2.2.1 hw.2.2.2
    rw [List.length_cons] at hl
    have el : (((b, w) :: r).length : Int) - 1 = (r.length : Int) := by rw [List.length_cons]; omega
    have ih := l_ownerAt T C B c0 c1 hh R2 R3 r (by omega) (fun b w q => hr b w (List.mem_cons_of_mem _ q)) g3
    rw [el]
    rw [ownB] at hp
    have hdry := T.te.1.1
    have hsuit := T.te.1.2.2.2.2.2.2.2
    have go : P (ownB E hour below r) h → V G X 6 0 0 (QF G X 0 0 0 (PI h0 P)) 10 [(0, rf a), (1, iv c), (2, iv hour), (3, iv below), (4, iv ((r.length : Int) + (-1)))] [] h := fun z => by
      rw [show (r.length : Int) + (-1) = (r.length : Int) - 1 by omega]; exact ih z
    refine wX1_ownerAt_L10 C ⟨B, ⟨by omega, by omega⟩, R2, R3, ⟨by omega, by omega⟩⟩ ⟨T.tw, fun q => absurd q (by omega), fun _ => ⟨⟨by omega, by omega⟩, ?_⟩⟩
    intro y ey
    subst ey
    rw [g1, g2, hdry, hsuit]
    refine ⟨by omega, by omega, fun q1 => ⟨⟨by omega, by omega⟩, fun q2 => ⟨fun q3 => ?_, fun q3 => ?_⟩, fun q2 => ?_⟩, fun q1 => ?_⟩
    · rw [if_neg (by omega), if_neg (by omega), if_neg q3] at hp
      exact ⟨⟨by omega, by omega⟩, fun _ => go hp⟩
    · rw [if_neg (by omega), if_neg (by omega), if_pos q3] at hp
      exact hp
    · rw [if_neg (by omega), if_pos (by omega)] at hp
      exact hp
    · rw [if_pos (by omega)] at hp
      exact ⟨⟨by omega, by omega⟩, fun _ => go hp⟩
theorem sX1_ownerAt (T : TR h a E S) {c hour below : Int} (c0 : 0 ≤ c) (c1 : c < E.cm) (hh : 0 ≤ hour) (hp : P (ownB E hour below (S.co c)) h) : kX1_ownerAt G l a c hour below h P := by
  refine eX1_ownerAt fun X C e B => ?_
  have K := T.en.cm
  have Z := T.st.co c c0 c1
  have q := T.co c0 c1
  refine ⟨T.tw, c0, by omega, by rw [q.1]; exact ⟨by have := Z.1; omega, by have := Z.1; omega⟩, fun y ey => ?_⟩
  subst ey
  intro B'
  rw [q.1]
  exact l_ownerAt T C B'.1 c0 c1 hh B.2.2.1 B.2.2.2 _ Z.1 Z.2.1 q.2 hp
theorem sX1_ownerOf (T : TR h a E S) {c : Int} (c0 : 0 ≤ c) (c1 : c < E.cm) (hp : P (ownC E S S.now c) h) : kX1_ownerOf G l a c h P := by
  refine eX1_ownerOf fun X C e B => ⟨T.tw, ?_⟩
  have Z := T.st.co c c0 c1
  rw [T.td.1.1]
  refine sX1_ownerAt T c0 c1 T.st.now.1 fun _ => ?_
  rw [ownB_ever T.st.now.2 Z.2.1]
  exact hp
theorem sX1_top (T : TR h a E S) {c : Int} (c0 : 0 ≤ c) (c1 : c < E.cm) (hp : P (topL (S.co c)) h) : kX1_top G l a c h P := by
  refine eX1_top fun X C e B => ?_
  have K := T.en.cm
  have Z := T.st.co c c0 c1
  have q := T.co c0 c1
  rw [q.1]
  refine ⟨T.tw, c0, by omega, fun hn => ?_, fun hz => ?_⟩
  · cases hl : S.co c with
    | nil => rw [hl] at hn; exact absurd rfl hn
    | cons x r =>
      obtain ⟨b, w⟩ := x
      rw [hl] at q Z hp
      have zl := Z.1
      rw [List.length_cons] at zl
      rw [List.length_cons]
      refine ⟨by omega, by omega, ?_⟩
      rw [show 5 * c + ((r.length + 1 : Nat) : Int) - 1 = 5 * c + (r.length : Int) by omega, q.2.1]
      exact hp
  · have hl : S.co c = [] := List.length_eq_zero_iff.mp (by omega)
    rw [hl] at hp
    exact hp
theorem sX1_isWet (T : TR h a E S) {c : Int} (c0 : 0 ≤ c) (c1 : c < E.cm) (hp : P (if wetL E S.now (S.co c) = true then 1 else 0) h) : kX1_isWet G l a c h P := by
  refine eX1_isWet fun X C e B => ?_
  have K := T.en.cm
  have Kd := T.en.dry
  have Kn := T.st.now
  have Z := T.st.co c c0 c1
  have q := T.co c0 c1
  rw [q.1, T.te.1.1, T.td.1.1]
  refine ⟨T.tw, c0, by omega, fun hz => ?_, fun hn => ?_⟩
  · have hl : S.co c = [] := List.length_eq_zero_iff.mp (by omega)
    rw [hl, if_neg (by simp [wetL])] at hp
    exact hp
  · cases hl : S.co c with
    | nil => rw [hl] at hn; exact absurd hn (by decide)
    | cons x r =>
      obtain ⟨b, w⟩ := x
      rw [hl] at q Z hp
      have zl := Z.1
      rw [List.length_cons] at zl
      have hw := Z.2.1 b w List.mem_cons_self
      have hx := eX_rng hw.2.2.1 hw.2.2.2
      rw [List.length_cons]
      rw [show 5 * c + ((r.length + 1 : Nat) : Int) - 1 = 5 * c + (r.length : Int) by omega, q.2.2.1]
      refine ⟨by omega, by omega, ⟨by omega, by omega⟩, fun q2 => ?_, fun q2 => ?_⟩
      · rw [if_neg (by simp [wetL]; omega)] at hp
        exact hp
      · rw [if_pos (by simp [wetL]; omega)] at hp
        exact hp
theorem sX1_isBareCell (T : TR h a E S) {c : Int} (c0 : 0 ≤ c) (c1 : c < E.cm) (hp : P (if hs S.bare (E.thingOf c) then 1 else 0) h) : kX1_isBareCell G l a c h P := by
  refine eX1_isBareCell fun X C e B => ?_
  have K := T.en.cm
  refine ⟨T.tw, c0, by omega, ?_⟩
  rw [T.td.1.2, T.te.2.2.1 c c0 c1]
  exact sX0_has fun _ => hp
theorem l_isRain (T : TR h a E S) {X : MX} {h0 : Mem} (C : Cx G X cX1_isRain 3 RX1 0 0 0 (some .boolean) "isRain") (B : EX h0 h) {hour : Int} (R1 : R32 hour) :
    ∀ (n k : Nat), (k : Int) + n = E.rm → (rainN E hour k = false) → P (if rainF E hour = true then 1 else 0) h →
    V G X 3 0 0 (QF G X 0 0 0 (PZ h0 P)) 2 [(0, rf a), (1, iv hour), (2, iv (k : Int))] [] h := by
  intro n
  induction n with
  | zero =>
    intro k hk hz hp
    have K := T.en.rm
    refine wX1_isRain_L2 C ⟨B, R1, ⟨by omega, by omega⟩⟩ ?_
    rw [T.te.1.2.2.2.2.2.2.1]
    refine ⟨T.tw, fun _ => ?_, fun q => absurd q (by omega)⟩
    have e : E.rm.toNat = k := by omega
    rw [if_neg (by rw [rainF, e, hz]; decide)] at hp
    exact hp
  | succ n ih =>
    intro k hk hz hp
    have K := T.en.rm
    have r := T.te.2.2.2.2 k (by omega) (by omega)
    have nx : (rainN E hour (k + 1) = false) → V G X 3 0 0 (QF G X 0 0 0 (PZ h0 P)) 2 [(0, rf a), (1, iv hour), (2, iv ((k : Int) + 1))] [] h := fun z => by
      have := ih (k + 1) (by omega) z hp
      rwa [show ((k + 1 : Nat) : Int) = (k : Int) + 1 by omega] at this
    refine wX1_isRain_L2 C ⟨B, R1, ⟨by omega, by omega⟩⟩ ?_
    rw [T.te.1.2.2.2.2.2.2.1, r.1, r.2]
    refine ⟨T.tw, fun q => absurd q (by omega), fun _ => ⟨by omega, by omega, fun q => ⟨⟨by omega, by omega⟩, fun _ => nx ?_⟩, fun q => ⟨by omega, by omega, fun q2 => ⟨⟨by omega, by omega⟩, fun _ => nx ?_⟩, fun q2 => ?_⟩⟩⟩
    · rw [rainN, hz]; simp; omega
    · rw [rainN, hz]; simp; omega
    · have up1 : ∀ m : Nat, k + 1 ≤ m → rainN E hour m = true := by
        intro m hm
        induction m with
        | zero => omega
        | succ m ihm =>
          by_cases e : m = k
          · subst e; rw [rainN]; simp; right; omega
          · rw [rainN, ihm (by omega)]; rfl
      rw [if_pos (by rw [rainF]; exact up1 _ (by omega))] at hp
      exact hp
theorem sX1_isRain (T : TR h a E S) {hour : Int} (hp : P (if rainF E hour = true then 1 else 0) h) : kX1_isRain G l a hour h P := by
  refine eX1_isRain fun X C e B => ?_
  intro B'
  have K := T.en.rm
  exact l_isRain T C B'.1 B.2 E.rm.toNat 0 (by omega) rfl hp
end
