/-! a town: who owns a thing -/
set_option maxRecDepth 100000
def sOw (a : Int) : Int → Int → Prop := fun b _ => b = a + 17
theorem TR.ow {h h' : Mem} {a : Int} {E : En} {S : St} (T : TR h a E S) (e : Ext h h') (f : Fr (sOw a) h h') : TR h' a E S :=
  T.keep e fun b j q => f b j fun z => by unfold sOw at z; unfold tIn at q; omega
section
variable {G : GT} {h : Mem} {a : Int} {E : En} {S : St} {P : Int → Mem → Prop} {l : Launch}
def HI (w : Int → Int) (need k best one : Int) : Prop :=
  (best = -1 ∧ one = 0 ∧ ∀ q : Int, 0 ≤ q → q < k → 100 * w q < need) ∨
  (0 ≤ best ∧ best < k ∧ need ≤ 100 * w best ∧ (∀ q : Int, 0 ≤ q → q < k → w q ≤ w best) ∧ (one = 1 ∧ (∀ q : Int, 0 ≤ q → q < k → q ≠ best → w q < w best) ∨ one = 0 ∧ ∃ q : Int, 0 ≤ q ∧ q < k ∧ q ≠ best ∧ w q = w best))
theorem l_holder (T : TR h a E S) {X : MX} {h0 : Mem} (C : Cx G X cX1_holder 6 RX1 0 0 0 (some .int) "holder") (B : EX h0 h) {t share : Int} (t0 : 0 ≤ t) (t1 : t < E.tm) (sh : 1 ≤ share ∧ share ≤ 100)
    (hw : ∀ p : Int, 0 ≤ p → p < E.pm → 0 ≤ h (a + 17) p ∧ h (a + 17) p ≤ 16) :
    ∀ (n k : Nat) (best one : Int), (k : Int) + n = E.pm → HI (h (a + 17)) (share * (E.first (t + 1) - E.first t)) k best one → (∀ r : Int, Hold (h (a + 17)) E.pm (share * (E.first (t + 1) - E.first t)) r → P r h) →
    V G X 6 0 0 (QF G X 0 0 0 (PI h0 P)) 8 [(0, rf a), (1, iv t), (2, iv share), (3, iv best), (4, iv one), (5, iv (k : Int))] [] h := by
  intro n
  have Kf := T.en.fs t t0 t1
  have Kt := T.en.tm
  have K := T.en.pm
  obtain ⟨need, en⟩ : ∃ z : Int, z = share * (E.first (t + 1) - E.first t) := ⟨_, rfl⟩
  have hneed : 0 ≤ need ∧ need ≤ 600 := by
    have a1 : 0 ≤ share * (E.first (t + 1) - E.first t) := Int.mul_nonneg (by omega) (by omega)
    have a2 : share * (E.first (t + 1) - E.first t) ≤ 100 * 6 := Int.mul_le_mul sh.2 (by omega) (by omega) (by omega)
    omega
  rw [← en]
  induction n with
  | zero =>
    intro k best one hk hi hp
    refine wX1_holder_L8 C ⟨B, ⟨by omega, by omega⟩, ⟨by omega, by omega⟩, ?_, ?_, ⟨by omega, by omega⟩⟩ ?_
    · rcases hi with ⟨q, _⟩ | ⟨q1, q2, _⟩
      · rw [q]; exact ⟨by decide, by decide⟩
      · exact ⟨by omega, by omega⟩
    · rcases hi with ⟨_, q, _⟩ | ⟨_, _, _, _, ⟨q, _⟩ | ⟨q, _⟩⟩ <;> rw [q] <;> exact ⟨by decide, by decide⟩
    rw [T.te.1.2.2.2.2.2.1]
    refine ⟨T.tw, fun _ => ⟨fun z => hp _ ?_, fun z => hp _ ?_⟩, fun q => absurd q (by omega)⟩
    · refine Or.inr ⟨rfl, fun p p0 p1 p2 => ?_⟩
      rcases hi with ⟨_, _, q⟩ | ⟨q1, q2, q3, q4, ⟨q, _⟩ | ⟨_, q, q5, q6, q7, q8⟩⟩
      · have := q p p0 (by omega); omega
      · omega
      · by_cases e : p = best
        · subst e; exact ⟨q, q5, by omega, q7, by omega⟩
        · have := q4 p p0 (by omega)
          exact ⟨best, q1, by omega, fun z => e z.symm, this⟩
    · rcases hi with ⟨_, q, _⟩ | ⟨q1, q2, q3, q4, ⟨_, q⟩ | ⟨q, _⟩⟩
      · exact absurd q z
      · exact Or.inl ⟨q1, by omega, q3, fun r r0 r1 r2 => q r r0 (by omega) r2⟩
      · exact absurd q z
  | succ n ih =>
    intro k best one hk hi hp
    have hb : R32 best := by
      rcases hi with ⟨q, _⟩ | ⟨q1, q2, _⟩
      · rw [q]; exact ⟨by decide, by decide⟩
      · exact ⟨by omega, by omega⟩
    have ho : R32 one := by
      rcases hi with ⟨_, q, _⟩ | ⟨_, _, _, _, ⟨q, _⟩ | ⟨q, _⟩⟩ <;> rw [q] <;> exact ⟨by decide, by decide⟩
    have hk1 := hw k (by omega) (by omega)
    have nx : ∀ best' one' : Int, HI (h (a + 17)) need ((k : Int) + 1) best' one' → V G X 6 0 0 (QF G X 0 0 0 (PI h0 P)) 8 [(0, rf a), (1, iv t), (2, iv share), (3, iv best'), (4, iv one'), (5, iv ((k : Int) + 1))] [] h := fun b o z => by
      have := ih (k + 1) b o (by omega) (by rw [show ((k + 1 : Nat) : Int) = (k : Int) + 1 by omega]; exact z) hp
      rwa [show ((k + 1 : Nat) : Int) = (k : Int) + 1 by omega] at this
    have skip : 100 * h (a + 17) k < need ∨ (best ≠ -1 ∧ h (a + 17) k < h (a + 17) best) → HI (h (a + 17)) need ((k : Int) + 1) best one := fun z => by
      rcases hi with ⟨q1, q2, q3⟩ | ⟨q1, q2, q3, q4, q5⟩
      · refine Or.inl ⟨q1, q2, fun q c0 c1 => ?_⟩
        by_cases e : q = k
        · subst e; rcases z with z | z
          · exact z
          · exact absurd q1 z.1
        · exact q3 q c0 (by omega)
      · refine Or.inr ⟨q1, by omega, q3, fun q c0 c1 => ?_, ?_⟩
        · by_cases e : q = k
          · subst e; rcases z with z | z <;> omega
          · exact q4 q c0 (by omega)
        · rcases q5 with ⟨q5, q6⟩ | ⟨q5, q, q6, q7, q8, q9⟩
          · refine Or.inl ⟨q5, fun q c0 c1 c2 => ?_⟩
            by_cases e : q = k
            · subst e; rcases z with z | z <;> omega
            · exact q6 q c0 (by omega) c2
          · exact Or.inr ⟨q5, q, q6, by omega, q8, q9⟩
    have take1 : need ≤ 100 * h (a + 17) k → best = -1 ∨ h (a + 17) best < h (a + 17) k → HI (h (a + 17)) need ((k : Int) + 1) k 1 := fun z z2 => by
      refine Or.inr ⟨by omega, by omega, z, fun q c0 c1 => ?_, Or.inl ⟨rfl, fun q c0 c1 c2 => ?_⟩⟩
      · by_cases e : q = k
        · subst e; exact Int.le_refl _
        · rcases hi with ⟨q1, q2, q3⟩ | ⟨q1, q2, q3, q4, q5⟩
          · have := q3 q c0 (by omega); omega
          · have := q4 q c0 (by omega); rcases z2 with z2 | z2 <;> omega
      · rcases hi with ⟨q1, q2, q3⟩ | ⟨q1, q2, q3, q4, q5⟩
        · have := q3 q c0 (by omega); omega
        · have := q4 q c0 (by omega); rcases z2 with z2 | z2 <;> omega
    have take0 : best ≠ -1 → need ≤ 100 * h (a + 17) k → h (a + 17) best = h (a + 17) k → HI (h (a + 17)) need ((k : Int) + 1) k 0 := fun z0 z z2 => by
      rcases hi with ⟨q1, q2, q3⟩ | ⟨q1, q2, q3, q4, q5⟩
      · exact absurd q1 z0
      · refine Or.inr ⟨by omega, by omega, z, fun q c0 c1 => ?_, Or.inr ⟨rfl, best, q1, by omega, by omega, z2⟩⟩
        by_cases e : q = k
        · subst e; exact Int.le_refl _
        · have := q4 q c0 (by omega); omega
    have r1 : R32 ((k : Int) + 1) := ⟨by omega, by omega⟩
    have bb : best ≠ -1 → 0 ≤ best ∧ best < 4 := fun z => by
      rcases hi with ⟨q1, _⟩ | ⟨q1, q2, _⟩
      · exact absurd q1 z
      · omega
    refine wX1_holder_L8 C ⟨B, ⟨by omega, by omega⟩, ⟨by omega, by omega⟩, hb, ho, ⟨by omega, by omega⟩⟩ ?_
    rw [T.te.1.2.2.2.2.2.1, (T.te.2.1 t t0 t1).2.1, ← en]
    refine ⟨T.tw, fun q => absurd q (by omega), fun _ => ⟨by omega, by omega, t0, by omega, ⟨by omega, by omega⟩, ⟨by omega, by omega⟩, fun q => ⟨r1, fun _ => nx _ _ (skip (Or.inl (by omega)))⟩, fun q => ⟨fun q2 => ⟨fun _ => ⟨r1, fun _ => nx _ _ (take1 (by omega) (Or.inl q2))⟩, fun q3 => absurd q2 q3⟩, fun q2 => ⟨(bb q2).1, (bb q2).2, fun q3 => ⟨fun z => absurd z q2, fun _ => ⟨fun q4 => ⟨r1, fun _ => nx _ _ (take0 q2 (by omega) (by omega))⟩, fun q4 => ⟨r1, fun _ => nx _ _ (take1 (by omega) (Or.inr (by omega)))⟩⟩⟩, fun q3 => ⟨r1, fun _ => nx _ _ (skip (Or.inr ⟨q2, q3⟩))⟩⟩⟩⟩⟩
theorem sX1_holder (T : TR h a E S) {t share : Int} (t0 : 0 ≤ t) (t1 : t < E.tm) (sh : 1 ≤ share ∧ share ≤ 100)
    (hw : ∀ p : Int, 0 ≤ p → p < E.pm → 0 ≤ h (a + 17) p ∧ h (a + 17) p ≤ 16) (hp : ∀ r : Int, Hold (h (a + 17)) E.pm (share * (E.first (t + 1) - E.first t)) r → P r h) : kX1_holder G l a t share h P := by
  refine eX1_holder fun X C e B => fun B' => ?_
  have K := T.en.pm
  exact l_holder T C B'.1 t0 t1 sh hw E.pm.toNat 0 (-1) 0 (by omega) (Or.inl ⟨rfl, rfl, fun q c0 c1 => absurd c1 (by omega)⟩) hp
/-- of two rows that are alike among the first n -/
theorem Hold.congr {w w' : Int → Int} {n need r : Int} (h : Hold w n need r) (e : ∀ p : Int, 0 ≤ p → p < n → w' p = w p) : Hold w' n need r := by
  rcases h with ⟨q1, q2, q3, q4⟩ | ⟨q1, q2⟩
  · exact Or.inl ⟨q1, q2, by rw [e r q1 q2]; exact q3, fun q c0 c1 c2 => by rw [e q c0 c1, e r q1 q2]; exact q4 q c0 c1 c2⟩
  · refine Or.inr ⟨q1, fun p p0 p1 p2 => ?_⟩
    rw [e p p0 p1] at p2
    obtain ⟨q, c0, c1, c2, c3⟩ := q2 p p0 p1 p2
    exact ⟨q, c0, c1, c2, by rw [e p p0 p1, e q c0 c1]; exact c3⟩
theorem l_thingAt47 {t hour below share : Int} (t0 : 0 ≤ t) (t1 : t < E.tm) (sh : 1 ≤ share ∧ share ≤ 100) (hh : 0 ≤ hour) (R2 : R32 hour) (R3 : R32 below) {X : MX} {h0 : Mem} (C : Cx G X cX1_thingAt 7 RX1 1 0 0 (some .int) "thingAt") :
    ∀ (m n : Nat) (h : Mem), EX h0 h → TR h a E S → (n : Int) + m = E.first (t + 1) - E.first t → (∀ p : Int, 0 ≤ p → p < E.pm → h (a + 17) p = cnt (fun c => ownB E hour below (S.co c)) p (E.first t) n) →
    (∀ h' : Mem, EX h h' → Fr (sOw a) h h' → P (holdF (fun p => cells E (fun c => ownB E hour below (S.co c)) p t) E.pm (share * (E.first (t + 1) - E.first t))) h') →
    V G X 7 0 0 (QF G X 0 0 0 (PI h0 P)) 47 [(0, rf a), (1, iv t), (2, iv hour), (3, iv below), (4, iv share), (5, iv (E.first t + n))] [] h := by
  intro m
  induction m with
  | zero =>
    intro n h B T hn hc hp
    have Kf := T.en.fs t t0 t1
    have Kr := T.en.rng t0 t1
    have Kt := T.en.tm
    have Kc := T.en.cm
    have tt := T.te.2.1 t t0 t1
    refine wX1_thingAt_L47 C ⟨B, ⟨by omega, by omega⟩, R2, R3, ⟨by omega, by omega⟩, ⟨by omega, by omega⟩⟩ ?_
    rw [tt.1, tt.2.1]
    refine ⟨T.tw, t0, by omega, ⟨by omega, by omega⟩, fun _ => ?_, fun q => absurd q (by omega)⟩
    refine sX1_holder T t0 t1 sh (fun p p0 p1 => ?_) fun r hr e => ?_
    · rw [hc p p0 p1]
      have := cnt_rng (fun c => ownB E hour below (S.co c)) p (E.first t) n
      omega
    · have ee : r = holdF (fun p => cells E (fun c => ownB E hour below (S.co c)) p t) E.pm (share * (E.first (t + 1) - E.first t)) := by
        refine Hold.uniq (hr.congr fun p p0 p1 => ?_) (holdF_ok (fun k => (cnt_rng _ _ _ _).1) ?_)
        · rw [hc p p0 p1, cells, show (E.first (t + 1) - E.first t).toNat = n by omega]
        · have : 1 * 1 ≤ share * (E.first (t + 1) - E.first t) := Int.mul_le_mul sh.1 (by omega) (by omega) (by omega)
          omega
      rw [ee]
      exact hp _ e (Fr.rf _ _)
  | succ m ih =>
    intro n h B T hn hc hp
    have Kf := T.en.fs t t0 t1
    have Kr := T.en.rng t0 t1
    have Kt := T.en.tm
    have Kc := T.en.cm
    have Kp := T.en.pm
    have tt := T.te.2.1 t t0 t1
    have Z := T.st.co (E.first t + n) (by omega) (by omega)
    have r1 : R32 (E.first t + (n : Int) + 1) := ⟨by omega, by omega⟩
    have en : ∀ h' : Mem, EX h0 h' → TR h' a E S → (∀ p : Int, 0 ≤ p → p < E.pm → h' (a + 17) p = cnt (fun c => ownB E hour below (S.co c)) p (E.first t) (n + 1)) → (EX h h' ∧ Fr (sOw a) h h') → V G X 7 0 0 (QF G X 0 0 0 (PI h0 P)) 47 [(0, rf a), (1, iv t), (2, iv hour), (3, iv below), (4, iv share), (5, iv (E.first t + (n : Int) + 1))] [] h' := fun h' b2 t2 c2 f2 => by
      have := ih (n + 1) h' b2 t2 (by omega) c2 fun h'' e3 f3 => hp h'' (f2.1.tr e3) (f2.2.tr f3)
      rwa [show E.first t + ((n + 1 : Nat) : Int) = E.first t + (n : Int) + 1 by omega] at this
    refine wX1_thingAt_L47 C ⟨B, ⟨by omega, by omega⟩, R2, R3, ⟨by omega, by omega⟩, ⟨by omega, by omega⟩⟩ ?_
    rw [tt.1, tt.2.1]
    refine ⟨T.tw, t0, by omega, ⟨by omega, by omega⟩, fun q => absurd q (by omega), fun _ => ?_⟩
    refine sX1_ownerAt T (by omega) (by omega) hh fun e => ⟨fun q => ⟨r1, fun B' => en h B'.1 T (fun p p0 p1 => ?_) ⟨e, Fr.rf _ _⟩⟩, fun q => ?_⟩
    · rw [hc p p0 p1, cnt, if_neg (by omega)]; omega
    · have ob : ∀ (l : Co), (∀ b w : Int, (b, w) ∈ l → 0 ≤ b ∧ b < E.pm ∧ -1 ≤ w ∧ w ≤ S.now) → ownB E hour below l = -1 ∨ 0 ≤ ownB E hour below l ∧ ownB E hour below l < E.pm := by
        intro l
        induction l with
        | nil => intro _; exact Or.inl rfl
        | cons x r ihr =>
          intro hr
          obtain ⟨b, w⟩ := x
          have ih2 := ihr fun b w q => hr b w (List.mem_cons_of_mem _ q)
          have := hr b w List.mem_cons_self
          rw [ownB]
          split
          · exact ih2
          · split
            · exact Or.inr ⟨this.1, this.2.1⟩
            · split
              · exact Or.inl rfl
              · exact ih2
      have hob := (ob _ Z.2.1).resolve_left q
      have cr := cnt_rng (fun c => ownB E hour below (S.co c)) (ownB E hour below (S.co (E.first t + n))) (E.first t) n
      have hcc := hc _ hob.1 hob.2
      refine ⟨hob.1, by omega, by rw [hcc]; exact ⟨by omega, by omega⟩, fun h2 e2 => ⟨r1, fun B' => ?_⟩⟩
      have f2 : Fr (sOw a) h h2 := by rw [e2]; exact (Fr.rf _ _).up rfl
      have x2 : EX h h2 := by rw [e2]; exact EX_up e (T.tw.k29) (by decide) rfl hob.1 (okI_a (Or.inl rfl) (by rw [hcc]; exact ⟨by omega, by omega⟩))
      refine en h2 B'.1 (T.ow x2.1 f2) (fun p p0 p1 => ?_) ⟨x2, f2⟩
      rw [e2, cnt]
      by_cases c : p = ownB E hour below (S.co (E.first t + n))
      · rw [c, up_s, if_pos rfl, hcc]
      · rw [up_i c, if_neg (fun z => c z.symm), hc p p0 p1]; omega
theorem l_thingAt16 {t hour below share : Int} (t0 : 0 ≤ t) (t1 : t < E.tm) (sh : 1 ≤ share ∧ share ≤ 100) (hh : 0 ≤ hour) (R2 : R32 hour) (R3 : R32 below) {X : MX} {h0 : Mem} (C : Cx G X cX1_thingAt 7 RX1 1 0 0 (some .int) "thingAt") :
    ∀ (m n : Nat) (h : Mem), EX h0 h → TR h a E S → (n : Int) + m = E.pm → (∀ p : Int, 0 ≤ p → p < n → h (a + 17) p = 0) →
    (∀ h' : Mem, EX h h' → Fr (sOw a) h h' → P (holdF (fun p => cells E (fun c => ownB E hour below (S.co c)) p t) E.pm (share * (E.first (t + 1) - E.first t))) h') →
    V G X 7 0 0 (QF G X 0 0 0 (PI h0 P)) 16 [(0, rf a), (1, iv t), (2, iv hour), (3, iv below), (4, iv share), (5, iv (n : Int))] [] h := by
  intro m
  induction m with
  | zero =>
    intro n h B T hn hc hp
    have Kf := T.en.fs t t0 t1
    have Kr := T.en.rng t0 t1
    have Kt := T.en.tm
    have Kp := T.en.pm
    have tt := T.te.2.1 t t0 t1
    refine wX1_thingAt_L16 C ⟨B, ⟨by omega, by omega⟩, R2, R3, ⟨by omega, by omega⟩, ⟨by omega, by omega⟩⟩ ?_
    rw [T.te.1.2.2.2.2.2.1]
    refine ⟨T.tw, fun _ => ⟨t0, by omega, fun y ey B' => ?_⟩, fun q => absurd q (by omega)⟩
    rw [ey, tt.1]
    have := l_thingAt47 t0 t1 sh hh R2 R3 C (E.first (t + 1) - E.first t).toNat 0 h B T (by omega) (fun p p0 p1 => hc p p0 (by omega)) hp
    rwa [show E.first t + ((0 : Nat) : Int) = E.first t by omega] at this
  | succ m ih =>
    intro n h B T hn hc hp
    have Kt := T.en.tm
    have Kp := T.en.pm
    refine wX1_thingAt_L16 C ⟨B, ⟨by omega, by omega⟩, R2, R3, ⟨by omega, by omega⟩, ⟨by omega, by omega⟩⟩ ?_
    rw [T.te.1.2.2.2.2.2.1]
    refine ⟨T.tw, fun q => absurd q (by omega), fun _ => ⟨by omega, by omega, fun h2 e2 => ⟨⟨by omega, by omega⟩, fun B' => ?_⟩⟩⟩
    have f2 : Fr (sOw a) h h2 := by rw [e2]; exact (Fr.rf _ _).up rfl
    have x2 : EX h h2 := by rw [e2]; exact EX_up (EX.rf B.2) (T.tw.k29) (by decide) rfl (by omega) (okI_a (Or.inl rfl) ⟨by decide, by decide⟩)
    have := ih (n + 1) h2 B'.1 (T.ow x2.1 f2) (by omega) (fun p p0 p1 => ?_) fun h'' e3 f3 => hp h'' (x2.tr e3) (f2.tr f3)
    · rwa [show ((n + 1 : Nat) : Int) = (n : Int) + 1 by omega] at this
    · rw [e2]
      by_cases c : p = n
      · rw [c, up_s]
      · rw [up_i c]; exact hc p p0 (by omega)
theorem sX1_thingAt (T : TR h a E S) {t hour below share : Int} (t0 : 0 ≤ t) (t1 : t < E.tm) (sh : 1 ≤ share ∧ share ≤ 100) (hh : 0 ≤ hour)
    (hp : ∀ h' : Mem, EX h h' → Fr (sOw a) h h' → P (thingF E S.bare (fun c => ownB E hour below (S.co c)) share t) h') : kX1_thingAt G l a t hour below share h P := by
  refine eX1_thingAt fun X C e B => ⟨T.tw, ?_⟩
  have Kp := T.en.pm
  rw [T.td.1.2]
  unfold thingF at hp
  refine sX0_has fun ee => ⟨fun q B' => ?_, fun q => ?_⟩
  · have hn : ¬ hs S.bare t := fun z => by rw [if_pos z] at q; cases q
    refine l_thingAt16 t0 t1 sh hh B.2.2.1 B.2.2.2.1 C E.pm.toNat 0 h B'.1 T (by omega) (fun p p0 p1 => absurd p1 (by omega)) fun h' e2 f2 => ?_
    have := hp h' e2 f2
    rw [if_neg hn] at this
    exact this
  · have hy : hs S.bare t := Classical.byContradiction fun z => by rw [if_neg z] at q; exact q rfl
    have := hp h ee (Fr.rf _ _)
    rw [if_pos hy] at this
    exact this
theorem cnt_ever (T : TR h a E S) {t hour : Int} (t0 : 0 ≤ t) (t1 : t < E.tm) (p : Int) : cells E (fun c => ownB E hour 2147483647 (S.co c)) p t = cells E (ownC E S hour) p t := by
  have r := T.en.rng t0 t1
  exact cnt_congr fun c c0 c1 => ownB_ever T.st.now.2 (T.st.co c (by omega) (by omega)).2.1
theorem sX1_thingNow (T : TR h a E S) {t hour share : Int} (t0 : 0 ≤ t) (t1 : t < E.tm) (sh : 1 ≤ share ∧ share ≤ 100) (hh : 0 ≤ hour)
    (hp : ∀ h' : Mem, EX h h' → Fr (sOw a) h h' → P (thingF E S.bare (ownC E S hour) share t) h') : kX1_thingAt G l a t hour 2147483647 share h P := by
  refine sX1_thingAt T t0 t1 sh hh fun h' e f => ?_
  have := hp h' e f
  unfold thingF at this ⊢
  rw [show (fun p => cells E (fun c => ownB E hour 2147483647 (S.co c)) p t) = fun p => cells E (ownC E S hour) p t from funext fun p => cnt_ever T t0 t1 p]
  exact this
theorem sX1_whose (T : TR h a E S) {t : Int} (t0 : 0 ≤ t) (t1 : t < E.tm) (hp : ∀ h' : Mem, EX h h' → Fr (sOw a) h h' → P (whoF E S t) h') : kX1_whose G l a t h P := by
  refine eX1_whose fun X C e B => ⟨T.tw, ?_⟩
  rw [T.td.1.1, T.te.1.2.1]
  exact sX1_thingNow T t0 t1 T.en.part T.st.now.1 fun h' e2 f2 e3 => hp h' e2 f2
theorem l_cellsOf (T : TR h a E S) {p t : Int} (R1 : R32 p) (t0 : 0 ≤ t) (t1 : t < E.tm) {X : MX} {h0 : Mem} (C : Cx G X cX1_cellsOf 5 RX1 2 0 0 (some .int) "cellsOf") (B : EX h0 h) :
    ∀ (m n : Nat), (n : Int) + m = E.first (t + 1) - E.first t → P (cells E (ownC E S S.now) p t) h →
    V G X 5 0 0 (QF G X 0 0 0 (PI h0 P)) 10 [(0, rf a), (1, iv p), (2, iv t), (3, iv (cnt (ownC E S S.now) p (E.first t) n)), (4, iv (E.first t + n))] [] h := by
  intro m
  have Kf := T.en.fs t t0 t1
  have Kr := T.en.rng t0 t1
  have Kt := T.en.tm
  have Kc := T.en.cm
  have tt := T.te.2.1 t t0 t1
  induction m with
  | zero =>
    intro n hn hp
    have cr := cnt_rng (ownC E S S.now) p (E.first t) n
    refine wX1_cellsOf_L10 C ⟨B, R1, ⟨by omega, by omega⟩, ⟨by omega, by omega⟩, ⟨by omega, by omega⟩⟩ ?_
    rw [tt.1, tt.2.1]
    refine ⟨T.tw, t0, by omega, ⟨by omega, by omega⟩, fun _ => ?_, fun q => absurd q (by omega)⟩
    rw [cells, show (E.first (t + 1) - E.first t).toNat = n by omega] at hp
    exact hp
  | succ m ih =>
    intro n hn hp
    have cr := cnt_rng (ownC E S S.now) p (E.first t) n
    have hi := ih (n + 1) (by omega) hp
    rw [cnt, show E.first t + ((n + 1 : Nat) : Int) = E.first t + (n : Int) + 1 by omega] at hi
    refine wX1_cellsOf_L10 C ⟨B, R1, ⟨by omega, by omega⟩, ⟨by omega, by omega⟩, ⟨by omega, by omega⟩⟩ ?_
    rw [tt.1, tt.2.1]
    refine ⟨T.tw, t0, by omega, ⟨by omega, by omega⟩, fun q => absurd q (by omega), fun _ => ?_⟩
    refine sX1_ownerOf T (by omega) (by omega) fun e => ⟨fun q => ⟨⟨by omega, by omega⟩, fun y ey => ⟨⟨by omega, by omega⟩, fun _ => ?_⟩⟩, fun q => ⟨⟨by omega, by omega⟩, fun y ey => ⟨⟨by omega, by omega⟩, fun _ => ?_⟩⟩⟩
    · rw [if_neg q] at hi
      rw [ey]; exact hi
    · rw [if_pos q] at hi
      rw [ey]; exact hi
theorem sX1_cellsOf (T : TR h a E S) {p t : Int} (t0 : 0 ≤ t) (t1 : t < E.tm) (hp : P (cells E (ownC E S S.now) p t) h) : kX1_cellsOf G l a p t h P := by
  refine eX1_cellsOf fun X C e B => ?_
  have Kt := T.en.tm
  refine ⟨T.tw, t0, by omega, fun y ey B' => ?_⟩
  have Kr := T.en.rng t0 t1
  rw [ey, (T.te.2.1 t t0 t1).1]
  have := l_cellsOf T B.2.1 t0 t1 C B'.1 (E.first (t + 1) - E.first t).toNat 0 (by omega) hp
  rwa [show E.first t + ((0 : Nat) : Int) = E.first t by omega] at this
end
