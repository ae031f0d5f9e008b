/-! a town begins as its text told -/
set_option maxRecDepth 100000
/-- the told rows hold a street at its start (nothing stripped of bare things) -/
def TT (h : Mem) (a : Int) (E : En) (S : St) : Prop :=
  (S.now = 0 ∧ h a 10 = S.bare) ∧ (∀ c : Int, 0 ≤ c → c < E.cm → h (a + 7) c = ((S.co c).length : Int) ∧ Col (h (a + 8)) (fun _ => -1000) eX (5 * c) (S.co c)) ∧ (∀ p : Int, 0 ≤ p → p < E.pm → h (a + 6) p = S.purse p)
def beginS (E : En) (S : St) : St := (0, S.bare, (fun c => if hs S.bare (E.thingOf c) then [] else S.co c), S.purse)
theorem StOk.begin {E : En} {S : St} (h : StOk E S) (h0 : S.now = 0) : StOk E (beginS E S) := by
  refine StOk.mk ⟨Int.le_refl _, by show (0 : Int) ≤ 1000000; decide⟩ h.bare (fun c c0 c1 => ?_) h.purse
  show CoOk E 0 (if hs S.bare (E.thingOf c) then [] else S.co c)
  split
  · exact ⟨by decide, fun b w q => (List.not_mem_nil q).elim, List.Pairwise.nil⟩
  · have := h.co c c0 c1
    rw [h0] at this
    exact this
section
variable {G : GT} {P : Int → Mem → Prop} {l : Launch} {a : Int} {E : En} {S : St}
/-- how far it has come: cells below n are set -/
def BI (h : Mem) (a : Int) (E : En) (S : St) (n : Int) : Prop := ∀ c : Int, 0 ≤ c → c < n → h (a + 11) c = (((beginS E S).co c).length : Int) ∧ ∀ i : Int, 5 * c ≤ i → i < 5 * c + 5 → h (a + 12) i = h (a + 8) i ∧ h (a + 13) i = -1000
def sBg (a : Int) : Int → Int → Prop := fun b _ => b = a + 11 ∨ b = a + 12 ∨ b = a + 13
theorem l_begin71 {X : MX} {h0 : Mem} (C : Cx G X cX1_begins 3 RX1 1 0 0 none "begins") {c : Int} (c0 : 0 ≤ c) (c1 : c < 16) (hs : Mem) :
    ∀ (m k : Nat) (h : Mem), k + m = 5 → EX h0 h → TownS h a → Fr (fun b j => (b = a + 12 ∨ b = a + 13) ∧ 5 * c ≤ j ∧ j < 5 * c + 5) hs h → EX hs h → (∀ i : Int, 5 * c ≤ i → i < 5 * c + k → h (a + 12) i = hs (a + 8) i ∧ h (a + 13) i = -1000) →
    (∀ h' : Mem, EX h0 h' → EX hs h' → Fr (fun b j => (b = a + 12 ∨ b = a + 13) ∧ 5 * c ≤ j ∧ j < 5 * c + 5) hs h' → (∀ i : Int, 5 * c ≤ i → i < 5 * c + 5 → h' (a + 12) i = hs (a + 8) i ∧ h' (a + 13) i = -1000) → V G X 3 0 0 (QF G X 3 0 0 (PR h0 P)) 29 [(0, rf a), (1, iv (c + 1))] [] h') →
    V G X 3 0 0 (QF G X 3 0 0 (PR h0 P)) 71 [(0, rf a), (1, iv c), (2, iv (k : Int))] [] h := by
  intro m
  induction m with
  | zero =>
    intro k h hk B A f e v go
    refine wX1_begins_L71 C ⟨B, ⟨by omega, by omega⟩, ⟨by omega, by omega⟩⟩ ⟨A, fun _ => ⟨⟨by omega, by omega⟩, fun B' => go h B'.1 e f fun i i0 i1 => v i i0 (by omega)⟩, fun q => absurd q (by omega)⟩
  | succ m ih =>
    intro k h hk B A f e v go
    refine wX1_begins_L71 C ⟨B, ⟨by omega, by omega⟩, ⟨by omega, by omega⟩⟩ ⟨A, fun q => absurd q (by omega), fun _ => ⟨by omega, by omega, fun h5 e5 h8 e8 => ⟨⟨by omega, by omega⟩, fun B' => ?_⟩⟩⟩
    have x5 : EX hs h5 := by rw [e5]; exact EX_up e A.k24 (by decide) rfl (by omega) (okI_a (Or.inl rfl) (EX.rI B A.k20 rfl))
    have x8 : EX hs h8 := by rw [e8]; exact EX_up x5 (by rw [e5, up_i (by omega)]; exact A.k25) (by decide) rfl (by omega) (okI_a (Or.inl rfl) ⟨by decide, by decide⟩)
    have f8 : Fr (fun b j => (b = a + 12 ∨ b = a + 13) ∧ 5 * c ≤ j ∧ j < 5 * c + 5) hs h8 := by rw [e8, e5]; exact (f.up ⟨Or.inl rfl, by omega, by omega⟩).up ⟨Or.inr rfl, by omega, by omega⟩
    have A8 : TownS h8 a := by
      have xx : EX h h8 := by
        rw [e8]; exact EX_up (by rw [e5]; exact EX_up (EX.rf B.2) A.k24 (by decide) rfl (by omega) (okI_a (Or.inl rfl) (EX.rI B A.k20 rfl))) (by rw [e5, up_i (by omega)]; exact A.k25) (by decide) rfl (by omega) (okI_a (Or.inl rfl) ⟨by decide, by decide⟩)
      exact A.ext xx.1
    have := ih (k + 1) h8 (by omega) B'.1 A8 f8 x8 (fun i i0 i1 => ?_) go
    · rwa [show ((k + 1 : Nat) : Int) = (k : Int) + 1 by omega] at this
    · by_cases q : i = 5 * c + k
      · rw [q, e8, up_a (by omega), e5, up_s, up_s]
        exact ⟨f (a + 8) _ (by omega), rfl⟩
      · have := v i i0 (by omega)
        rw [e8, up_a (by omega), e5, up_i q, up_i q, up_a (by omega)]
        exact this
theorem l_begin29 {X : MX} {h0 hs0 : Mem} (C : Cx G X cX1_begins 3 RX1 1 0 0 none "begins") (K : EnOk E) :
    ∀ (m n : Nat) (h : Mem), (n : Int) + m = E.cm → EX h0 h → TownS h a → TE h a E → h a 12 = S.bare → Fr (sBg a) hs0 h → EX hs0 h → (∀ c : Int, 0 ≤ c → c < E.cm → h (a + 7) c = ((S.co c).length : Int)) → BI h a E S n →
    (∀ h' : Mem, EX hs0 h' → Fr (sBg a) hs0 h' → BI h' a E S E.cm → P 0 h') →
    V G X 3 0 0 (QF G X 3 0 0 (PR h0 P)) 29 [(0, rf a), (1, iv (n : Int))] [] h := by
  intro m
  have Kc := K.cm
  induction m with
  | zero =>
    intro n h hn B A T hb f e tm bi hp
    refine wX1_begins_L29 C ⟨B, ⟨by omega, by omega⟩⟩ ⟨A, ?_⟩
    rw [T.1.2.2.2.2.1]
    refine ⟨fun _ => hp h e f ?_, fun q => absurd q (by omega)⟩
    rw [show E.cm = (n : Int) by omega]; exact bi
  | succ m ih =>
    intro n h hn B A T hb f e tm bi hp
    refine wX1_begins_L29 C ⟨B, ⟨by omega, by omega⟩⟩ ⟨A, ?_⟩
    rw [T.1.2.2.2.2.1, T.2.2.1 n (by omega) (by omega), hb]
    have go : ∀ (h11 : Mem) (v : Int), h11 = up h (a + 11) n v → v = (((beginS E S).co n).length : Int) → EX h0 h11 → V G X 3 0 0 (QF G X 3 0 0 (PR h0 P)) 71 [(0, rf a), (1, iv (n : Int)), (2, iv 0)] [] h11 := fun h11 v e11 ev B11 => by
      have f11 : Fr (fun b _ => b = a + 11) h h11 := by rw [e11]; exact (Fr.rf _ _).up rfl
      have hv : 0 ≤ v ∧ v < 2147483648 := by
        have : R32 (h11 (a + 11) n) := EX.rI B11 (K := 101) (by rw [e11, up_i (by omega)]; exact A.k23) rfl
        rw [e11, up_s] at this
        exact ⟨by rw [ev]; omega, this.2⟩
      have x11 : EX h h11 := by rw [e11]; exact EX_up (EX.rf B.2) A.k23 (by decide) rfl (by omega) (okI_a (Or.inl rfl) ⟨by omega, by omega⟩)
      have := l_begin71 (P := P) C (c := (n : Int)) (by omega) (by omega) h11 5 0 h11 rfl B11 (A.ext x11.1) (Fr.rf _ _) (EX.rf B11.2) (fun i i0 i1 => absurd i1 (by omega)) fun h' b3 e3 f3 v3 => ?_
      · exact this
      · have xx : EX h h' := x11.tr e3
        have fr : ∀ b j : Int, b ≠ a + 11 → b ≠ a + 12 → b ≠ a + 13 → h' b j = h b j := fun b j z1 z2 z3 => (f3 b j (by omega)).trans (f11 b j z1)
        have := ih (n + 1) h' (by omega) b3 (A.ext xx.1) (T.keep fun b j z => fr b j (by omega) (by omega) (by omega)) ((fr a 12 (by omega) (by omega) (by omega)).trans hb) (f.tr fun b j z => by unfold sBg at z; exact fr b j (by omega) (by omega) (by omega)) (e.tr xx) (fun c c0 c1 => (fr (a + 7) c (by omega) (by omega) (by omega)).trans (tm c c0 c1)) (fun c c0 c1 => ?_) hp
        · rwa [show ((n + 1 : Nat) : Int) = (n : Int) + 1 by omega] at this
        · by_cases q : c = n
          · rw [q, f3 (a + 11) n (by omega), e11, up_s]
            refine ⟨ev, fun i i0 i1 => ?_⟩
            have z := v3 i i0 i1
            rw [z.1, z.2, f3 (a + 8) i (by omega), e11, up_a (by omega)]
            exact ⟨rfl, rfl⟩
          · have z := bi c c0 (by omega)
            rw [f3 (a + 11) c (by omega), e11, up_i q]
            refine ⟨z.1, fun i i0 i1 => ?_⟩
            have z2 := z.2 i i0 i1
            rw [f3 (a + 12) i (by omega), f3 (a + 13) i (by omega), f3 (a + 8) i (by omega), e11, up_a (by omega), up_a (by omega), up_a (by omega)]
            exact z2
    refine ⟨fun q => absurd q (by omega), fun _ => ⟨by omega, by omega, sX0_has fun e5 => ⟨fun q h11 e11 B' => go h11 _ e11 ?_ B'.1, fun q h14 e14 B' => go h14 _ e14 ?_ B'.1⟩⟩⟩
    · have hn9 : ¬ hs S.bare (E.thingOf n) := fun z => by rw [if_pos z] at q; cases q
      rw [tm n (by omega) (by omega)]
      show _ = (((if hs S.bare (E.thingOf n) then [] else S.co n : Co)).length : Int)
      rw [if_neg hn9]
    · have hy : hs S.bare (E.thingOf n) := Classical.byContradiction fun z => by rw [if_neg z] at q; exact q rfl
      show (0 : Int) = (((if hs S.bare (E.thingOf n) then [] else S.co n : Co)).length : Int)
      rw [if_pos hy]; rfl
theorem sX1_begins {h : Mem} (A : TownS h a) (K : EnOk E) (T : TE h a E) (O : StOk E S) (tt : TT h a E S) (hp : ∀ h' : Mem, EX h h' → Fr (sSd a) h h' → TR h' a E (beginS E S) → P 0 h') : kX1_begins G l a h P := by
  refine eX1_begins fun X C e B => ⟨A, fun h1 e1 h4 e4 h7 e7 B' => ?_⟩
  have Kc := K.cm
  have Kp := K.pm
  have x1 : EX h h1 := by rw [e1]; exact EX_up (EX.rf B.2) A.k (by decide) rfl (by decide) (okI_i rfl ⟨by decide, by decide⟩)
  have x4 : EX h h4 := by rw [e4]; exact EX_up x1 (A.ext x1.1).k (by decide) rfl (by decide) (okI_i rfl (EX.rI B A.k rfl))
  have x7 : EX h h7 := by rw [e7]; exact EX_cpy x4 (A.ext x4.1).k18 (A.ext x4.1).k26 (by decide)
  have f7 : Fr (fun b j => (b = a ∧ (j = 11 ∨ j = 12)) ∨ (b = a + 14 ∧ 0 ≤ j ∧ j < 4)) h h7 := fun b j q => by
    rw [e7]
    by_cases c : b = a + 14
    · rw [cpy_o (by omega), e4, up_n (by omega), e1, up_n (by omega)]
    · rw [cpy_n c, e4, up_n (by omega), e1, up_n (by omega)]
  have b7 : h7 a 12 = S.bare := by rw [e7, cpy_n (by omega), e4, up_s]; exact tt.1.2
  have n7 : h7 a 11 = 0 := by rw [e7, cpy_n (by omega), e4, up_i (by decide), e1, up_s]
  have p7 : ∀ p : Int, 0 ≤ p → p < 4 → h7 (a + 14) p = h (a + 6) p := fun p p0 p1 => by
    rw [e7, cpy_s p0 p1, e4, up_a (by omega), e1, up_a (by omega)]
  refine l_begin29 (S := S) (hs0 := h7) C K E.cm.toNat 0 h7 (by omega) B'.1 (A.ext x7.1) (T.keep fun b j z => f7 b j (by omega)) b7 (Fr.rf _ _) (EX.rf x7.2) (fun c c0 c1 => (f7 (a + 7) c (by omega)).trans (tt.2.1 c c0 c1).1) (fun c c0 c1 => absurd c1 (by omega)) fun h' e' f' bi => ?_
  have ff : ∀ b j : Int, ¬ sBg a b j → ¬ ((b = a ∧ (j = 11 ∨ j = 12)) ∨ (b = a + 14 ∧ 0 ≤ j ∧ j < 4)) → h' b j = h b j := fun b j z1 z2 => (f' b j z1).trans (f7 b j z2)
  refine hp h' (x7.tr e') (fun b j z => ff b j (by unfold sBg; unfold sSd at z; omega) (by unfold sSd at z; omega)) ⟨(A.ext x7.1).ext e'.1, K, O.begin tt.1.1, T.keep fun b j z => ff b j (by unfold sBg; omega) (by omega), ⟨(f' a 11 (by unfold sBg; omega)).trans n7, (f' a 12 (by unfold sBg; omega)).trans b7⟩, fun c c0 c1 => ?_, fun p p0 p1 => ?_⟩
  · have z := bi c c0 c1
    refine ⟨z.1, ?_⟩
    show Col _ _ _ _ (if hs S.bare (E.thingOf c) then [] else S.co c)
    split
    · exact trivial
    · have Z := (O.co c c0 c1).1
      refine (tt.2.1 c c0 c1).2.mono fun i i0 i1 => ?_
      have z2 := z.2 i i0 (by omega)
      rw [z2.1, z2.2]
      exact ⟨ff (a + 8) i (by unfold sBg; omega) (by omega), rfl⟩
  · rw [f' (a + 14) p (by unfold sBg; omega), p7 p p0 (by omega)]
    exact tt.2.2 p p0 p1
end
