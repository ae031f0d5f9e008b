/-! WHAT STAYS: kinds, lengths, final fields; the fixed cells -/
set_option maxRecDepth 100000
def cT : Nat → u_T := fun c => match c with
  | 0 => TX0
  | 1 => TX1
  | 2 => TX2
  | 3 => TX3
  | 4 => TX4
  | 5 => TX5
  | 6 => TX6
  | 7 => TX8
  | 8 => TX9
  | 9 => TX10
  | 10 => TX12
  | 11 => TX13
  | 12 => TX14
  | _ => TX15
/-- a place that no method but a constructor writes -/
def fin (K j : Int) : Bool := if 100 ≤ K then (K == 105 || K == 106) else if 1 ≤ K then (cT (K.toNat - 1) j.toNat).2.2.2 else false
def OkZ (h : Mem) : Prop := OkM h ∧ (∀ a : Int, h a (-1) ≠ 0 → 1 ≤ a ∧ a < h 0 0) ∧ 1 ≤ h 0 0 ∧ ∀ a : Int, 0 ≤ h a (-2) ∧ h a (-2) < 2147483648
def Ext (h h' : Mem) : Prop := h 0 0 ≤ h' 0 0 ∧ ∀ a : Int, 1 ≤ a → a < h 0 0 → h' a (-1) = h a (-1) ∧ h' a (-2) = h a (-2) ∧ ∀ j : Int, 0 ≤ j → fin (h a (-1)) j = true → h' a j = h a j
/-- h' comes behind h -/
def EX (h h' : Mem) : Prop := Ext h h' ∧ OkZ h'
theorem Ext.rf (h : Mem) : Ext h h := ⟨Int.le_refl _, fun _ _ _ => ⟨rfl, rfl, fun _ _ _ => rfl⟩⟩
theorem Ext.tr {h h1 h2 : Mem} (A : Ext h h1) (B : Ext h1 h2) : Ext h h2 := by
  refine ⟨Int.le_trans A.1 B.1, fun a a1 a2 => ?_⟩
  obtain ⟨p1, p2, p3⟩ := A.2 a a1 a2
  obtain ⟨q1, q2, q3⟩ := B.2 a a1 (Int.lt_of_lt_of_le a2 A.1)
  exact ⟨q1.trans p1, q2.trans p2, fun j j0 f => (q3 j j0 (by rw [p1]; exact f)).trans (p3 j j0 f)⟩
theorem EX.tr {h h1 h2 : Mem} (A : EX h h1) (B : EX h1 h2) : EX h h2 := ⟨A.1.tr B.1, B.2⟩
theorem EX.tr0 {h h1 h2 : Mem} (A : EX h h1) (B : Ext h1 h2) (O : OkZ h2) : EX h h2 := ⟨A.1.tr B, O⟩
theorem EX.rf {h : Mem} (O : OkZ h) : EX h h := ⟨Ext.rf h, O⟩
theorem EX.rI {h0 h : Mem} (B : EX h0 h) {a j K : Int} (hk : h a (-1) = K) (hI : isI K j = true) : R32 (h a j) := by
  have h1 : K ≠ 0 := fun q => by rw [q] at hI; cases hI
  exact (B.2.1 a j (B.2.2.1 a (by rw [hk]; exact h1)).1).1 (by rw [hk]; exact hI)
theorem EX.rJ {h0 h : Mem} (B : EX h0 h) {a j K : Int} (hk : h a (-1) = K) (hI : isJ K j = true) : R64 (h a j) := by
  have h1 : K ≠ 0 := fun q => by rw [q] at hI; cases hI
  exact (B.2.1 a j (B.2.2.1 a (by rw [hk]; exact h1)).1).2 (by rw [hk]; exact hI)
theorem isI_101 (j : Int) : isI 101 j = true := rfl
theorem isI_102 (j : Int) : isI 102 j = true := rfl
theorem isI_103 (j : Int) : isI 103 j = true := rfl
theorem isJ_104 (j : Int) : isJ 104 j = true := rfl
theorem OkZ_up {h : Mem} (O : OkZ h) {b i x : Int} (hb : h b (-1) ≠ 0) (hi : 0 ≤ i) (hx : okI (h b (-1)) i x) : OkZ (up h b i x) := by
  have hb1 := (O.2.1 b hb).1
  have e0 : up h b i x 0 0 = h 0 0 := up_a (by omega)
  refine ⟨OkM_up O.1 hi hx, fun a ha => ?_, by rw [e0]; exact O.2.2.1, fun a => by rw [up_i (by omega)]; exact O.2.2.2 a⟩
  rw [up_i (by omega)] at ha
  rw [e0]
  exact O.2.1 a ha
theorem EX_up {h0 h : Mem} (B : EX h0 h) {b i x K : Int} (hk : h b (-1) = K) (hK : K ≠ 0) (hf : fin K i = false) (hi : 0 ≤ i) (hx : okI K i x) : EX h0 (up h b i x) := by
  subst hk
  have hb1 := (B.2.2.1 b hK).1
  have e0 : up h b i x 0 0 = h 0 0 := up_a (by omega)
  refine B.tr0 ⟨by rw [e0]; exact Int.le_refl _, fun a a1 a2 => ⟨up_i (by omega), up_i (by omega), fun j j0 f => up_n fun q => ?_⟩⟩ (OkZ_up B.2 hK hi hx)
  rw [q.1, q.2] at f
  rw [f] at hf
  cases hf
theorem okI_a {K : Int} (hK : K = 101 ∨ K = 102 ∨ K = 103) {i x : Int} (hx : R32 x) : okI K i x := by
  rcases hK with q | q | q <;> subst q <;> exact ⟨fun _ => hx, fun z => by cases z⟩
theorem okI_l {i x : Int} (hx : R64 x) : okI 104 i x := ⟨fun z => (by cases z), fun _ => hx⟩
theorem okI_r {K i x : Int} (h1 : isI K i = false) (h2 : isJ K i = false) : okI K i x := ⟨fun z => (by rw [h1] at z; cases z), fun z => (by rw [h2] at z; cases z)⟩
theorem okI_i {K i x : Int} (h2 : isJ K i = false) (hx : R32 x) : okI K i x := ⟨fun _ => hx, fun z => (by rw [h2] at z; cases z)⟩
theorem okI_j {K i x : Int} (h1 : isI K i = false) (hx : R64 x) : okI K i x := ⟨fun z => (by rw [h1] at z; cases z), fun _ => hx⟩
theorem EX_cpy {h0 h : Mem} (B : EX h0 h) {src sp dst dp n : Int} (hks : h src (-1) = 101) (hkd : h dst (-1) = 101) (h2 : 0 ≤ dp) : EX h0 (cpy h src sp dst dp n) := by
  have d1 := (B.2.2.1 dst (by omega)).1
  have s1 := (B.2.2.1 src (by omega)).1
  have hq0 : ∀ b j, ¬ (b = dst ∧ dp ≤ j ∧ j < dp + n) → cpy h src sp dst dp n b j = h b j := fun b j q => if_neg q
  have e00 : cpy h src sp dst dp n 0 0 = h 0 0 := hq0 _ _ (by omega)
  have em : ∀ b j, j < 0 → cpy h src sp dst dp n b j = h b j := fun b j hj => hq0 _ _ (by omega)
  refine B.tr0 ⟨by rw [e00]; exact Int.le_refl _, fun a a1 a2 => ⟨em _ _ (by omega), em _ _ (by omega), fun j j0 f => hq0 _ _ fun q => ?_⟩⟩ ⟨fun b j hb => ?_, fun b hb => ?_, by rw [e00]; exact B.2.2.2.1, fun b => by rw [em _ _ (by omega)]; exact B.2.2.2.2 b⟩
  · rw [q.1, hkd] at f
    cases f
  · rw [em b (-1) (by omega)]
    by_cases q : b = dst ∧ dp ≤ j ∧ j < dp + n
    · have e9 : cpy h src sp dst dp n b j = h src (sp + (j - dp)) := if_pos q
      have e8 := B.2.1 src (sp + (j - dp)) s1
      rw [hks] at e8
      rw [e9, q.1, hkd]
      exact ⟨fun _ => e8.1 rfl, fun z => by cases z⟩
    · rw [hq0 b j q]
      exact B.2.1 b j hb
  · rw [em _ _ (by omega)] at hb
    rw [e00]
    exact B.2.2.1 b hb
theorem EX_alloc {h0 h : Mem} (B : EX h0 h) {k n : Int} (hk0 : 0 ≤ k) (hk1 : k < 1000) (hn0 : 0 ≤ n) (hn : n < 2147483648) : EX h0 (alloc h k n) := by
  have g0 := B.2.2.2.1
  refine B.tr0 ⟨by rw [alloc_0]; omega, fun a a1 a2 => ⟨alloc_old (by omega) (by omega), alloc_old (by omega) (by omega), fun j j0 f => alloc_old (by omega) (by omega)⟩⟩ ⟨fun a j ha => ?_, fun a ha => ?_, by rw [alloc_0]; omega, fun a => ?_⟩
  · by_cases hae : a = h 0 0
    · have e : R32 (alloc h k n a j) := by
        rw [hae, alloc_new g0]
        split
        · exact ⟨by omega, by omega⟩
        · split
          · exact ⟨by omega, by omega⟩
          · exact ⟨by omega, by omega⟩
      exact ⟨fun _ => e, fun _ => ⟨by have := e.1; omega, by have := e.2; omega⟩⟩
    · rw [alloc_old (by omega) hae, alloc_old (by omega) hae]
      exact B.2.1 a j ha
  · rw [alloc_0]
    by_cases hae : a = h 0 0
    · omega
    · rw [alloc_old (by omega) hae] at ha
      have := B.2.2.1 a ha
      omega
  · by_cases hae : a = h 0 0
    · rw [hae, alloc_new g0, if_neg (by omega), if_pos rfl]
      exact ⟨hn0, hn⟩
    · rw [alloc_old (by omega) hae]
      exact B.2.2.2.2 a
theorem alenR {h0 h : Mem} (B : EX h0 h) {a : Int} : R32 (h a (-2)) := ⟨by have := (B.2.2.2.2 a).1; omega, by have := (B.2.2.2.2 a).2; omega⟩
def townL : List Int := [4, 4, 4, 16, 4, 4, 16, 80, 10, 30, 16, 80, 80, 4, 3640, 13, 4]
/-- a Town at a: its arrays lie behind it -/
def TownS (h : Mem) (a : Int) : Prop := (1 ≤ a ∧ a + 17 < h 0 0 ∧ h a (-1) = 2) ∧ ∀ j : Nat, j < 17 → (h a ((j : Int) + 13) = a + ((j : Int) + 1) ∧ h (a + ((j : Int) + 1)) (-1) = (if j = 15 then 104 else 101) ∧ h (a + ((j : Int) + 1)) (-2) = townL.getD j 0)
theorem finTown : ∀ j : Nat, j < 17 → fin 2 ((j : Int) + 13) = true := by decide +kernel
theorem TownS.ext {h h' : Mem} {a : Int} (S : TownS h a) (E : Ext h h') : TownS h' a := by
  obtain ⟨⟨s1, s2, s3⟩, s4⟩ := S
  have e := E.2 a s1 (by omega)
  refine ⟨⟨s1, Int.lt_of_lt_of_le s2 E.1, e.1.trans s3⟩, fun j hj => ?_⟩
  obtain ⟨t1, t2, t3⟩ := s4 j hj
  have e2 := E.2 (a + ((j : Int) + 1)) (by omega) (by omega)
  exact ⟨(e.2.2 _ (by omega) (by rw [s3]; exact finTown j hj)).trans t1, e2.1.trans t2, e2.2.1.trans t3⟩
theorem TownS.k {h : Mem} {a : Int} (S : TownS h a) : h a (-1) = 2 := S.1.2.2
theorem TownS.lt {h : Mem} {a : Int} (S : TownS h a) : 1 ≤ a ∧ a + 17 < h 0 0 := ⟨S.1.1, S.1.2.1⟩
theorem TownS.f13 {h : Mem} {a : Int} (S : TownS h a) : h a 13 = a + 1 := (S.2 0 (by decide)).1
theorem TownS.k13 {h : Mem} {a : Int} (S : TownS h a) : h (a + 1) (-1) = 101 := (S.2 0 (by decide)).2.1
theorem TownS.l13 {h : Mem} {a : Int} (S : TownS h a) : h (a + 1) (-2) = 4 := (S.2 0 (by decide)).2.2
theorem TownS.f14 {h : Mem} {a : Int} (S : TownS h a) : h a 14 = a + 2 := (S.2 1 (by decide)).1
theorem TownS.k14 {h : Mem} {a : Int} (S : TownS h a) : h (a + 2) (-1) = 101 := (S.2 1 (by decide)).2.1
theorem TownS.l14 {h : Mem} {a : Int} (S : TownS h a) : h (a + 2) (-2) = 4 := (S.2 1 (by decide)).2.2
theorem TownS.f15 {h : Mem} {a : Int} (S : TownS h a) : h a 15 = a + 3 := (S.2 2 (by decide)).1
theorem TownS.k15 {h : Mem} {a : Int} (S : TownS h a) : h (a + 3) (-1) = 101 := (S.2 2 (by decide)).2.1
theorem TownS.l15 {h : Mem} {a : Int} (S : TownS h a) : h (a + 3) (-2) = 4 := (S.2 2 (by decide)).2.2
theorem TownS.f16 {h : Mem} {a : Int} (S : TownS h a) : h a 16 = a + 4 := (S.2 3 (by decide)).1
theorem TownS.k16 {h : Mem} {a : Int} (S : TownS h a) : h (a + 4) (-1) = 101 := (S.2 3 (by decide)).2.1
theorem TownS.l16 {h : Mem} {a : Int} (S : TownS h a) : h (a + 4) (-2) = 16 := (S.2 3 (by decide)).2.2
theorem TownS.f17 {h : Mem} {a : Int} (S : TownS h a) : h a 17 = a + 5 := (S.2 4 (by decide)).1
theorem TownS.k17 {h : Mem} {a : Int} (S : TownS h a) : h (a + 5) (-1) = 101 := (S.2 4 (by decide)).2.1
theorem TownS.l17 {h : Mem} {a : Int} (S : TownS h a) : h (a + 5) (-2) = 4 := (S.2 4 (by decide)).2.2
theorem TownS.f18 {h : Mem} {a : Int} (S : TownS h a) : h a 18 = a + 6 := (S.2 5 (by decide)).1
theorem TownS.k18 {h : Mem} {a : Int} (S : TownS h a) : h (a + 6) (-1) = 101 := (S.2 5 (by decide)).2.1
theorem TownS.l18 {h : Mem} {a : Int} (S : TownS h a) : h (a + 6) (-2) = 4 := (S.2 5 (by decide)).2.2
theorem TownS.f19 {h : Mem} {a : Int} (S : TownS h a) : h a 19 = a + 7 := (S.2 6 (by decide)).1
theorem TownS.k19 {h : Mem} {a : Int} (S : TownS h a) : h (a + 7) (-1) = 101 := (S.2 6 (by decide)).2.1
theorem TownS.l19 {h : Mem} {a : Int} (S : TownS h a) : h (a + 7) (-2) = 16 := (S.2 6 (by decide)).2.2
theorem TownS.f20 {h : Mem} {a : Int} (S : TownS h a) : h a 20 = a + 8 := (S.2 7 (by decide)).1
theorem TownS.k20 {h : Mem} {a : Int} (S : TownS h a) : h (a + 8) (-1) = 101 := (S.2 7 (by decide)).2.1
theorem TownS.l20 {h : Mem} {a : Int} (S : TownS h a) : h (a + 8) (-2) = 80 := (S.2 7 (by decide)).2.2
theorem TownS.f21 {h : Mem} {a : Int} (S : TownS h a) : h a 21 = a + 9 := (S.2 8 (by decide)).1
theorem TownS.k21 {h : Mem} {a : Int} (S : TownS h a) : h (a + 9) (-1) = 101 := (S.2 8 (by decide)).2.1
theorem TownS.l21 {h : Mem} {a : Int} (S : TownS h a) : h (a + 9) (-2) = 10 := (S.2 8 (by decide)).2.2
theorem TownS.f22 {h : Mem} {a : Int} (S : TownS h a) : h a 22 = a + 10 := (S.2 9 (by decide)).1
theorem TownS.k22 {h : Mem} {a : Int} (S : TownS h a) : h (a + 10) (-1) = 101 := (S.2 9 (by decide)).2.1
theorem TownS.l22 {h : Mem} {a : Int} (S : TownS h a) : h (a + 10) (-2) = 30 := (S.2 9 (by decide)).2.2
theorem TownS.f23 {h : Mem} {a : Int} (S : TownS h a) : h a 23 = a + 11 := (S.2 10 (by decide)).1
theorem TownS.k23 {h : Mem} {a : Int} (S : TownS h a) : h (a + 11) (-1) = 101 := (S.2 10 (by decide)).2.1
theorem TownS.l23 {h : Mem} {a : Int} (S : TownS h a) : h (a + 11) (-2) = 16 := (S.2 10 (by decide)).2.2
theorem TownS.f24 {h : Mem} {a : Int} (S : TownS h a) : h a 24 = a + 12 := (S.2 11 (by decide)).1
theorem TownS.k24 {h : Mem} {a : Int} (S : TownS h a) : h (a + 12) (-1) = 101 := (S.2 11 (by decide)).2.1
theorem TownS.l24 {h : Mem} {a : Int} (S : TownS h a) : h (a + 12) (-2) = 80 := (S.2 11 (by decide)).2.2
theorem TownS.f25 {h : Mem} {a : Int} (S : TownS h a) : h a 25 = a + 13 := (S.2 12 (by decide)).1
theorem TownS.k25 {h : Mem} {a : Int} (S : TownS h a) : h (a + 13) (-1) = 101 := (S.2 12 (by decide)).2.1
theorem TownS.l25 {h : Mem} {a : Int} (S : TownS h a) : h (a + 13) (-2) = 80 := (S.2 12 (by decide)).2.2
theorem TownS.f26 {h : Mem} {a : Int} (S : TownS h a) : h a 26 = a + 14 := (S.2 13 (by decide)).1
theorem TownS.k26 {h : Mem} {a : Int} (S : TownS h a) : h (a + 14) (-1) = 101 := (S.2 13 (by decide)).2.1
theorem TownS.l26 {h : Mem} {a : Int} (S : TownS h a) : h (a + 14) (-2) = 4 := (S.2 13 (by decide)).2.2
theorem TownS.f27 {h : Mem} {a : Int} (S : TownS h a) : h a 27 = a + 15 := (S.2 14 (by decide)).1
theorem TownS.k27 {h : Mem} {a : Int} (S : TownS h a) : h (a + 15) (-1) = 101 := (S.2 14 (by decide)).2.1
theorem TownS.l27 {h : Mem} {a : Int} (S : TownS h a) : h (a + 15) (-2) = 3640 := (S.2 14 (by decide)).2.2
theorem TownS.f28 {h : Mem} {a : Int} (S : TownS h a) : h a 28 = a + 16 := (S.2 15 (by decide)).1
theorem TownS.k28 {h : Mem} {a : Int} (S : TownS h a) : h (a + 16) (-1) = 104 := (S.2 15 (by decide)).2.1
theorem TownS.l28 {h : Mem} {a : Int} (S : TownS h a) : h (a + 16) (-2) = 13 := (S.2 15 (by decide)).2.2
theorem TownS.f29 {h : Mem} {a : Int} (S : TownS h a) : h a 29 = a + 17 := (S.2 16 (by decide)).1
theorem TownS.k29 {h : Mem} {a : Int} (S : TownS h a) : h (a + 17) (-1) = 101 := (S.2 16 (by decide)).2.1
theorem TownS.l29 {h : Mem} {a : Int} (S : TownS h a) : h (a + 17) (-2) = 4 := (S.2 16 (by decide)).2.2
def xT : List (Int × Int × Int) := [(1, -1, 1), (1, 1, 2), (1, 2, 20), (1, 3, 38), (1, 4, 129), (1, 5, 147), (1, 6, 165), (1, 9, 166), (1, 10, 167), (1, 12, 168), (1, 13, 169), (1, 14, 170), (1, 15, 171), (1, 17, 172), (1, 18, 173), (1, 21, 174), (1, 22, 175), (1, 24, 176), (38, -1, 106), (38, -2, 5), (38, 0, 39), (38, 1, 57), (38, 2, 75), (38, 3, 93), (38, 4, 111), (165, -1, 101), (165, -2, 4), (166, -1, 3), (167, -1, 102), (167, -2, 400), (168, -1, 105), (168, -2, 7), (168, 0, -4), (168, 1, -6), (168, 2, -8), (168, 3, -10), (168, 4, -12), (168, 5, -14), (168, 6, -16), (169, -1, 105), (169, -2, 1), (169, 0, -18), (170, -1, 105), (170, -2, 13), (170, 0, -8), (170, 1, -20), (170, 2, -6), (170, 3, -22), (170, 4, -24), (170, 5, -26), (170, 6, -28), (170, 7, -30), (170, 8, -32), (170, 9, -34), (170, 10, -36), (170, 11, -38), (170, 12, -14), (171, -1, 107), (171, -2, 6), (172, -1, 101), (172, -2, 6), (173, -1, 101), (173, -2, 6), (174, -1, 103), (174, -2, 7), (175, -1, 101), (175, -2, 28), (176, -1, 108), (176, -2, 4)]
def xK (a : Int) : Int := ((xT.find? fun q => q.1 == a && q.2.1 == -1).map fun q => q.2.2).getD 0
def XS (h : Mem) : Prop := 177 ≤ h 0 0 ∧ (∀ q ∈ xT, h q.1 q.2.1 = q.2.2) ∧ ∀ a ∈ ([2, 20, 39, 57, 75, 93, 111, 129, 147] : List Int), TownS h a
theorem xT_ok : ∀ q ∈ xT, 1 ≤ q.1 ∧ q.1 < 177 ∧ (q.1, -1, xK q.1) ∈ xT ∧ (q.2.1 = -1 ∨ q.2.1 = -2 ∨ (0 ≤ q.2.1 ∧ fin (xK q.1) q.2.1 = true)) := by decide +kernel
theorem XS.ext {h h' : Mem} (S : XS h) (E : Ext h h') : XS h' := by
  refine ⟨Int.le_trans S.1 E.1, fun q hq => ?_, fun a ha => (S.2.2 a ha).ext E⟩
  obtain ⟨q1, q2, q3, q4⟩ := xT_ok q hq
  have e := E.2 q.1 q1 (Int.lt_of_lt_of_le q2 S.1)
  have s := S.2.1 q hq
  have k := S.2.1 _ q3
  rcases q4 with z | z | ⟨z0, z⟩
  · rw [z] at s ⊢
    exact e.1.trans s
  · rw [z] at s ⊢
    exact e.2.1.trans s
  · exact (e.2.2 _ z0 (by rw [k]; exact z)).trans s
theorem XS.k1 {h : Mem} (S : XS h) : h 1 (-1) = 1 := S.2.1 (1, -1, 1) (List.mem_of_getElem? (i := 0) rfl)
theorem XS.f1 {h : Mem} (S : XS h) : h 1 1 = 2 := S.2.1 (1, 1, 2) (List.mem_of_getElem? (i := 1) rfl)
theorem XS.f2 {h : Mem} (S : XS h) : h 1 2 = 20 := S.2.1 (1, 2, 20) (List.mem_of_getElem? (i := 2) rfl)
theorem XS.f3 {h : Mem} (S : XS h) : h 1 3 = 38 := S.2.1 (1, 3, 38) (List.mem_of_getElem? (i := 3) rfl)
theorem XS.f4 {h : Mem} (S : XS h) : h 1 4 = 129 := S.2.1 (1, 4, 129) (List.mem_of_getElem? (i := 4) rfl)
theorem XS.f5 {h : Mem} (S : XS h) : h 1 5 = 147 := S.2.1 (1, 5, 147) (List.mem_of_getElem? (i := 5) rfl)
theorem XS.f6 {h : Mem} (S : XS h) : h 1 6 = 165 := S.2.1 (1, 6, 165) (List.mem_of_getElem? (i := 6) rfl)
theorem XS.f9 {h : Mem} (S : XS h) : h 1 9 = 166 := S.2.1 (1, 9, 166) (List.mem_of_getElem? (i := 7) rfl)
theorem XS.f10 {h : Mem} (S : XS h) : h 1 10 = 167 := S.2.1 (1, 10, 167) (List.mem_of_getElem? (i := 8) rfl)
theorem XS.f12 {h : Mem} (S : XS h) : h 1 12 = 168 := S.2.1 (1, 12, 168) (List.mem_of_getElem? (i := 9) rfl)
theorem XS.f13 {h : Mem} (S : XS h) : h 1 13 = 169 := S.2.1 (1, 13, 169) (List.mem_of_getElem? (i := 10) rfl)
theorem XS.f14 {h : Mem} (S : XS h) : h 1 14 = 170 := S.2.1 (1, 14, 170) (List.mem_of_getElem? (i := 11) rfl)
theorem XS.f15 {h : Mem} (S : XS h) : h 1 15 = 171 := S.2.1 (1, 15, 171) (List.mem_of_getElem? (i := 12) rfl)
theorem XS.f17 {h : Mem} (S : XS h) : h 1 17 = 172 := S.2.1 (1, 17, 172) (List.mem_of_getElem? (i := 13) rfl)
theorem XS.f18 {h : Mem} (S : XS h) : h 1 18 = 173 := S.2.1 (1, 18, 173) (List.mem_of_getElem? (i := 14) rfl)
theorem XS.f21 {h : Mem} (S : XS h) : h 1 21 = 174 := S.2.1 (1, 21, 174) (List.mem_of_getElem? (i := 15) rfl)
theorem XS.f22 {h : Mem} (S : XS h) : h 1 22 = 175 := S.2.1 (1, 22, 175) (List.mem_of_getElem? (i := 16) rfl)
theorem XS.f24 {h : Mem} (S : XS h) : h 1 24 = 176 := S.2.1 (1, 24, 176) (List.mem_of_getElem? (i := 17) rfl)
theorem XS.k38 {h : Mem} (S : XS h) : h 38 (-1) = 106 := S.2.1 (38, -1, 106) (List.mem_of_getElem? (i := 18) rfl)
theorem XS.l38 {h : Mem} (S : XS h) : h 38 (-2) = 5 := S.2.1 (38, -2, 5) (List.mem_of_getElem? (i := 19) rfl)
theorem XS.c38_0 {h : Mem} (S : XS h) : h 38 0 = 39 := S.2.1 (38, 0, 39) (List.mem_of_getElem? (i := 20) rfl)
theorem XS.c38_1 {h : Mem} (S : XS h) : h 38 1 = 57 := S.2.1 (38, 1, 57) (List.mem_of_getElem? (i := 21) rfl)
theorem XS.c38_2 {h : Mem} (S : XS h) : h 38 2 = 75 := S.2.1 (38, 2, 75) (List.mem_of_getElem? (i := 22) rfl)
theorem XS.c38_3 {h : Mem} (S : XS h) : h 38 3 = 93 := S.2.1 (38, 3, 93) (List.mem_of_getElem? (i := 23) rfl)
theorem XS.c38_4 {h : Mem} (S : XS h) : h 38 4 = 111 := S.2.1 (38, 4, 111) (List.mem_of_getElem? (i := 24) rfl)
theorem XS.k165 {h : Mem} (S : XS h) : h 165 (-1) = 101 := S.2.1 (165, -1, 101) (List.mem_of_getElem? (i := 25) rfl)
theorem XS.l165 {h : Mem} (S : XS h) : h 165 (-2) = 4 := S.2.1 (165, -2, 4) (List.mem_of_getElem? (i := 26) rfl)
theorem XS.k166 {h : Mem} (S : XS h) : h 166 (-1) = 3 := S.2.1 (166, -1, 3) (List.mem_of_getElem? (i := 27) rfl)
theorem XS.k167 {h : Mem} (S : XS h) : h 167 (-1) = 102 := S.2.1 (167, -1, 102) (List.mem_of_getElem? (i := 28) rfl)
theorem XS.l167 {h : Mem} (S : XS h) : h 167 (-2) = 400 := S.2.1 (167, -2, 400) (List.mem_of_getElem? (i := 29) rfl)
theorem XS.k168 {h : Mem} (S : XS h) : h 168 (-1) = 105 := S.2.1 (168, -1, 105) (List.mem_of_getElem? (i := 30) rfl)
theorem XS.l168 {h : Mem} (S : XS h) : h 168 (-2) = 7 := S.2.1 (168, -2, 7) (List.mem_of_getElem? (i := 31) rfl)
theorem XS.c168_0 {h : Mem} (S : XS h) : h 168 0 = (-4) := S.2.1 (168, 0, -4) (List.mem_of_getElem? (i := 32) rfl)
theorem XS.c168_1 {h : Mem} (S : XS h) : h 168 1 = (-6) := S.2.1 (168, 1, -6) (List.mem_of_getElem? (i := 33) rfl)
theorem XS.c168_2 {h : Mem} (S : XS h) : h 168 2 = (-8) := S.2.1 (168, 2, -8) (List.mem_of_getElem? (i := 34) rfl)
theorem XS.c168_3 {h : Mem} (S : XS h) : h 168 3 = (-10) := S.2.1 (168, 3, -10) (List.mem_of_getElem? (i := 35) rfl)
theorem XS.c168_4 {h : Mem} (S : XS h) : h 168 4 = (-12) := S.2.1 (168, 4, -12) (List.mem_of_getElem? (i := 36) rfl)
theorem XS.c168_5 {h : Mem} (S : XS h) : h 168 5 = (-14) := S.2.1 (168, 5, -14) (List.mem_of_getElem? (i := 37) rfl)
theorem XS.c168_6 {h : Mem} (S : XS h) : h 168 6 = (-16) := S.2.1 (168, 6, -16) (List.mem_of_getElem? (i := 38) rfl)
theorem XS.k169 {h : Mem} (S : XS h) : h 169 (-1) = 105 := S.2.1 (169, -1, 105) (List.mem_of_getElem? (i := 39) rfl)
theorem XS.l169 {h : Mem} (S : XS h) : h 169 (-2) = 1 := S.2.1 (169, -2, 1) (List.mem_of_getElem? (i := 40) rfl)
theorem XS.c169_0 {h : Mem} (S : XS h) : h 169 0 = (-18) := S.2.1 (169, 0, -18) (List.mem_of_getElem? (i := 41) rfl)
theorem XS.k170 {h : Mem} (S : XS h) : h 170 (-1) = 105 := S.2.1 (170, -1, 105) (List.mem_of_getElem? (i := 42) rfl)
theorem XS.l170 {h : Mem} (S : XS h) : h 170 (-2) = 13 := S.2.1 (170, -2, 13) (List.mem_of_getElem? (i := 43) rfl)
theorem XS.c170_0 {h : Mem} (S : XS h) : h 170 0 = (-8) := S.2.1 (170, 0, -8) (List.mem_of_getElem? (i := 44) rfl)
theorem XS.c170_1 {h : Mem} (S : XS h) : h 170 1 = (-20) := S.2.1 (170, 1, -20) (List.mem_of_getElem? (i := 45) rfl)
theorem XS.c170_2 {h : Mem} (S : XS h) : h 170 2 = (-6) := S.2.1 (170, 2, -6) (List.mem_of_getElem? (i := 46) rfl)
theorem XS.c170_3 {h : Mem} (S : XS h) : h 170 3 = (-22) := S.2.1 (170, 3, -22) (List.mem_of_getElem? (i := 47) rfl)
theorem XS.c170_4 {h : Mem} (S : XS h) : h 170 4 = (-24) := S.2.1 (170, 4, -24) (List.mem_of_getElem? (i := 48) rfl)
theorem XS.c170_5 {h : Mem} (S : XS h) : h 170 5 = (-26) := S.2.1 (170, 5, -26) (List.mem_of_getElem? (i := 49) rfl)
theorem XS.c170_6 {h : Mem} (S : XS h) : h 170 6 = (-28) := S.2.1 (170, 6, -28) (List.mem_of_getElem? (i := 50) rfl)
theorem XS.c170_7 {h : Mem} (S : XS h) : h 170 7 = (-30) := S.2.1 (170, 7, -30) (List.mem_of_getElem? (i := 51) rfl)
theorem XS.c170_8 {h : Mem} (S : XS h) : h 170 8 = (-32) := S.2.1 (170, 8, -32) (List.mem_of_getElem? (i := 52) rfl)
theorem XS.c170_9 {h : Mem} (S : XS h) : h 170 9 = (-34) := S.2.1 (170, 9, -34) (List.mem_of_getElem? (i := 53) rfl)
theorem XS.c170_10 {h : Mem} (S : XS h) : h 170 10 = (-36) := S.2.1 (170, 10, -36) (List.mem_of_getElem? (i := 54) rfl)
theorem XS.c170_11 {h : Mem} (S : XS h) : h 170 11 = (-38) := S.2.1 (170, 11, -38) (List.mem_of_getElem? (i := 55) rfl)
theorem XS.c170_12 {h : Mem} (S : XS h) : h 170 12 = (-14) := S.2.1 (170, 12, -14) (List.mem_of_getElem? (i := 56) rfl)
theorem XS.k171 {h : Mem} (S : XS h) : h 171 (-1) = 107 := S.2.1 (171, -1, 107) (List.mem_of_getElem? (i := 57) rfl)
theorem XS.l171 {h : Mem} (S : XS h) : h 171 (-2) = 6 := S.2.1 (171, -2, 6) (List.mem_of_getElem? (i := 58) rfl)
theorem XS.k172 {h : Mem} (S : XS h) : h 172 (-1) = 101 := S.2.1 (172, -1, 101) (List.mem_of_getElem? (i := 59) rfl)
theorem XS.l172 {h : Mem} (S : XS h) : h 172 (-2) = 6 := S.2.1 (172, -2, 6) (List.mem_of_getElem? (i := 60) rfl)
theorem XS.k173 {h : Mem} (S : XS h) : h 173 (-1) = 101 := S.2.1 (173, -1, 101) (List.mem_of_getElem? (i := 61) rfl)
theorem XS.l173 {h : Mem} (S : XS h) : h 173 (-2) = 6 := S.2.1 (173, -2, 6) (List.mem_of_getElem? (i := 62) rfl)
theorem XS.k174 {h : Mem} (S : XS h) : h 174 (-1) = 103 := S.2.1 (174, -1, 103) (List.mem_of_getElem? (i := 63) rfl)
theorem XS.l174 {h : Mem} (S : XS h) : h 174 (-2) = 7 := S.2.1 (174, -2, 7) (List.mem_of_getElem? (i := 64) rfl)
theorem XS.k175 {h : Mem} (S : XS h) : h 175 (-1) = 101 := S.2.1 (175, -1, 101) (List.mem_of_getElem? (i := 65) rfl)
theorem XS.l175 {h : Mem} (S : XS h) : h 175 (-2) = 28 := S.2.1 (175, -2, 28) (List.mem_of_getElem? (i := 66) rfl)
theorem XS.k176 {h : Mem} (S : XS h) : h 176 (-1) = 108 := S.2.1 (176, -1, 108) (List.mem_of_getElem? (i := 67) rfl)
theorem XS.l176 {h : Mem} (S : XS h) : h 176 (-2) = 4 := S.2.1 (176, -2, 4) (List.mem_of_getElem? (i := 68) rfl)
def mT : List (Int × Int × Int) := [(177, -1, 4), (177, 1, 178), (177, 2, 179), (177, 3, 180), (177, 4, 181), (177, 5, 182), (177, 6, 183), (177, 7, 184), (177, 8, 185), (177, 9, 186), (177, 10, 187), (177, 11, 188), (177, 12, 189), (177, 13, 190), (177, 14, 191), (177, 15, 192), (177, 16, 193), (177, 17, 194), (177, 18, 195), (177, 19, 196), (177, 20, 197), (177, 21, 198), (177, 22, 199), (177, 23, 200), (177, 24, 201), (177, 25, 202), (177, 26, 203), (177, 37, 204), (177, 38, 205), (177, 39, 206), (177, 40, 207), (177, 41, 208), (177, 42, 209), (177, 43, 210), (177, 44, 211), (177, 45, 212), (177, 46, 213), (177, 47, 214), (177, 48, 215), (177, 49, 216), (177, 50, 217), (177, 54, 218), (177, 55, 219), (177, 56, 220), (177, 57, 221), (177, 59, 222), (177, 60, 223), (177, 61, 224), (177, 62, 225), (178, -1, 101), (178, -2, 13), (179, -1, 101), (179, -2, 5), (180, -1, 101), (180, -2, 4), (181, -1, 101), (181, -2, 4), (182, -1, 101), (182, -2, 4), (183, -1, 101), (183, -2, 5), (184, -1, 101), (184, -2, 5), (185, -1, 101), (185, -2, 16), (186, -1, 101), (186, -2, 80), (187, -1, 101), (187, -2, 80), (188, -1, 101), (188, -2, 10), (189, -1, 101), (189, -2, 10), (190, -1, 101), (190, -2, 10), (191, -1, 101), (191, -2, 16), (192, -1, 101), (192, -2, 80), (193, -1, 101), (193, -2, 4), (194, -1, 101), (194, -2, 1), (195, -1, 101), (195, -2, 9), (196, -1, 101), (196, -2, 5), (197, -1, 101), (197, -2, 4), (198, -1, 101), (198, -2, 4), (199, -1, 101), (199, -2, 4), (200, -1, 101), (200, -2, 5), (201, -1, 101), (201, -2, 5), (202, -1, 101), (202, -2, 16), (203, -1, 101), (203, -2, 80), (204, -1, 102), (204, -2, 400), (205, -1, 101), (205, -2, 1800), (206, -1, 101), (206, -2, 1800), (207, -1, 101), (207, -2, 6), (208, -1, 101), (208, -2, 72), (209, -1, 101), (209, -2, 72), (210, -1, 101), (210, -2, 72), (211, -1, 101), (211, -2, 402), (212, -1, 104), (212, -2, 13), (213, -1, 104), (213, -2, 300), (214, -1, 101), (214, -2, 4), (215, -1, 101), (215, -2, 4), (216, -1, 101), (216, -2, 3640), (217, -1, 101), (217, -2, 1), (218, -1, 101), (218, -2, 6), (219, -1, 101), (219, -2, 6), (220, -1, 101), (220, -2, 5), (221, -1, 101), (221, -2, 5), (222, -1, 101), (222, -2, 4), (223, -1, 101), (223, -2, 20), (224, -1, 101), (224, -2, 20500), (225, -1, 103), (225, -2, 4)]
def mK (a : Int) : Int := ((mT.find? fun q => q.1 == a && q.2.1 == -1).map fun q => q.2.2).getD 0
def MS (h : Mem) : Prop := 226 ≤ h 0 0 ∧ (∀ q ∈ mT, h q.1 q.2.1 = q.2.2)
theorem mT_ok : ∀ q ∈ mT, 1 ≤ q.1 ∧ q.1 < 226 ∧ (q.1, -1, mK q.1) ∈ mT ∧ (q.2.1 = -1 ∨ q.2.1 = -2 ∨ (0 ≤ q.2.1 ∧ fin (mK q.1) q.2.1 = true)) := by decide +kernel
theorem MS.ext {h h' : Mem} (S : MS h) (E : Ext h h') : MS h' := by
  refine ⟨Int.le_trans S.1 E.1, fun q hq => ?_⟩
  obtain ⟨q1, q2, q3, q4⟩ := mT_ok q hq
  have e := E.2 q.1 q1 (Int.lt_of_lt_of_le q2 S.1)
  have s := S.2 q hq
  have k := S.2 _ q3
  rcases q4 with z | z | ⟨z0, z⟩
  · rw [z] at s ⊢
    exact e.1.trans s
  · rw [z] at s ⊢
    exact e.2.1.trans s
  · exact (e.2.2 _ z0 (by rw [k]; exact z)).trans s
theorem MS.k177 {h : Mem} (S : MS h) : h 177 (-1) = 4 := S.2 (177, -1, 4) (List.mem_of_getElem? (i := 0) rfl)
theorem MS.f1 {h : Mem} (S : MS h) : h 177 1 = 178 := S.2 (177, 1, 178) (List.mem_of_getElem? (i := 1) rfl)
theorem MS.f2 {h : Mem} (S : MS h) : h 177 2 = 179 := S.2 (177, 2, 179) (List.mem_of_getElem? (i := 2) rfl)
theorem MS.f3 {h : Mem} (S : MS h) : h 177 3 = 180 := S.2 (177, 3, 180) (List.mem_of_getElem? (i := 3) rfl)
theorem MS.f4 {h : Mem} (S : MS h) : h 177 4 = 181 := S.2 (177, 4, 181) (List.mem_of_getElem? (i := 4) rfl)
theorem MS.f5 {h : Mem} (S : MS h) : h 177 5 = 182 := S.2 (177, 5, 182) (List.mem_of_getElem? (i := 5) rfl)
theorem MS.f6 {h : Mem} (S : MS h) : h 177 6 = 183 := S.2 (177, 6, 183) (List.mem_of_getElem? (i := 6) rfl)
theorem MS.f7 {h : Mem} (S : MS h) : h 177 7 = 184 := S.2 (177, 7, 184) (List.mem_of_getElem? (i := 7) rfl)
theorem MS.f8 {h : Mem} (S : MS h) : h 177 8 = 185 := S.2 (177, 8, 185) (List.mem_of_getElem? (i := 8) rfl)
theorem MS.f9 {h : Mem} (S : MS h) : h 177 9 = 186 := S.2 (177, 9, 186) (List.mem_of_getElem? (i := 9) rfl)
theorem MS.f10 {h : Mem} (S : MS h) : h 177 10 = 187 := S.2 (177, 10, 187) (List.mem_of_getElem? (i := 10) rfl)
theorem MS.f11 {h : Mem} (S : MS h) : h 177 11 = 188 := S.2 (177, 11, 188) (List.mem_of_getElem? (i := 11) rfl)
theorem MS.f12 {h : Mem} (S : MS h) : h 177 12 = 189 := S.2 (177, 12, 189) (List.mem_of_getElem? (i := 12) rfl)
theorem MS.f13 {h : Mem} (S : MS h) : h 177 13 = 190 := S.2 (177, 13, 190) (List.mem_of_getElem? (i := 13) rfl)
theorem MS.f14 {h : Mem} (S : MS h) : h 177 14 = 191 := S.2 (177, 14, 191) (List.mem_of_getElem? (i := 14) rfl)
theorem MS.f15 {h : Mem} (S : MS h) : h 177 15 = 192 := S.2 (177, 15, 192) (List.mem_of_getElem? (i := 15) rfl)
theorem MS.f16 {h : Mem} (S : MS h) : h 177 16 = 193 := S.2 (177, 16, 193) (List.mem_of_getElem? (i := 16) rfl)
theorem MS.f17 {h : Mem} (S : MS h) : h 177 17 = 194 := S.2 (177, 17, 194) (List.mem_of_getElem? (i := 17) rfl)
theorem MS.f18 {h : Mem} (S : MS h) : h 177 18 = 195 := S.2 (177, 18, 195) (List.mem_of_getElem? (i := 18) rfl)
theorem MS.f19 {h : Mem} (S : MS h) : h 177 19 = 196 := S.2 (177, 19, 196) (List.mem_of_getElem? (i := 19) rfl)
theorem MS.f20 {h : Mem} (S : MS h) : h 177 20 = 197 := S.2 (177, 20, 197) (List.mem_of_getElem? (i := 20) rfl)
theorem MS.f21 {h : Mem} (S : MS h) : h 177 21 = 198 := S.2 (177, 21, 198) (List.mem_of_getElem? (i := 21) rfl)
theorem MS.f22 {h : Mem} (S : MS h) : h 177 22 = 199 := S.2 (177, 22, 199) (List.mem_of_getElem? (i := 22) rfl)
theorem MS.f23 {h : Mem} (S : MS h) : h 177 23 = 200 := S.2 (177, 23, 200) (List.mem_of_getElem? (i := 23) rfl)
theorem MS.f24 {h : Mem} (S : MS h) : h 177 24 = 201 := S.2 (177, 24, 201) (List.mem_of_getElem? (i := 24) rfl)
theorem MS.f25 {h : Mem} (S : MS h) : h 177 25 = 202 := S.2 (177, 25, 202) (List.mem_of_getElem? (i := 25) rfl)
theorem MS.f26 {h : Mem} (S : MS h) : h 177 26 = 203 := S.2 (177, 26, 203) (List.mem_of_getElem? (i := 26) rfl)
theorem MS.f37 {h : Mem} (S : MS h) : h 177 37 = 204 := S.2 (177, 37, 204) (List.mem_of_getElem? (i := 27) rfl)
theorem MS.f38 {h : Mem} (S : MS h) : h 177 38 = 205 := S.2 (177, 38, 205) (List.mem_of_getElem? (i := 28) rfl)
theorem MS.f39 {h : Mem} (S : MS h) : h 177 39 = 206 := S.2 (177, 39, 206) (List.mem_of_getElem? (i := 29) rfl)
theorem MS.f40 {h : Mem} (S : MS h) : h 177 40 = 207 := S.2 (177, 40, 207) (List.mem_of_getElem? (i := 30) rfl)
theorem MS.f41 {h : Mem} (S : MS h) : h 177 41 = 208 := S.2 (177, 41, 208) (List.mem_of_getElem? (i := 31) rfl)
theorem MS.f42 {h : Mem} (S : MS h) : h 177 42 = 209 := S.2 (177, 42, 209) (List.mem_of_getElem? (i := 32) rfl)
theorem MS.f43 {h : Mem} (S : MS h) : h 177 43 = 210 := S.2 (177, 43, 210) (List.mem_of_getElem? (i := 33) rfl)
theorem MS.f44 {h : Mem} (S : MS h) : h 177 44 = 211 := S.2 (177, 44, 211) (List.mem_of_getElem? (i := 34) rfl)
theorem MS.f45 {h : Mem} (S : MS h) : h 177 45 = 212 := S.2 (177, 45, 212) (List.mem_of_getElem? (i := 35) rfl)
theorem MS.f46 {h : Mem} (S : MS h) : h 177 46 = 213 := S.2 (177, 46, 213) (List.mem_of_getElem? (i := 36) rfl)
theorem MS.f47 {h : Mem} (S : MS h) : h 177 47 = 214 := S.2 (177, 47, 214) (List.mem_of_getElem? (i := 37) rfl)
theorem MS.f48 {h : Mem} (S : MS h) : h 177 48 = 215 := S.2 (177, 48, 215) (List.mem_of_getElem? (i := 38) rfl)
theorem MS.f49 {h : Mem} (S : MS h) : h 177 49 = 216 := S.2 (177, 49, 216) (List.mem_of_getElem? (i := 39) rfl)
theorem MS.f50 {h : Mem} (S : MS h) : h 177 50 = 217 := S.2 (177, 50, 217) (List.mem_of_getElem? (i := 40) rfl)
theorem MS.f54 {h : Mem} (S : MS h) : h 177 54 = 218 := S.2 (177, 54, 218) (List.mem_of_getElem? (i := 41) rfl)
theorem MS.f55 {h : Mem} (S : MS h) : h 177 55 = 219 := S.2 (177, 55, 219) (List.mem_of_getElem? (i := 42) rfl)
theorem MS.f56 {h : Mem} (S : MS h) : h 177 56 = 220 := S.2 (177, 56, 220) (List.mem_of_getElem? (i := 43) rfl)
theorem MS.f57 {h : Mem} (S : MS h) : h 177 57 = 221 := S.2 (177, 57, 221) (List.mem_of_getElem? (i := 44) rfl)
theorem MS.f59 {h : Mem} (S : MS h) : h 177 59 = 222 := S.2 (177, 59, 222) (List.mem_of_getElem? (i := 45) rfl)
theorem MS.f60 {h : Mem} (S : MS h) : h 177 60 = 223 := S.2 (177, 60, 223) (List.mem_of_getElem? (i := 46) rfl)
theorem MS.f61 {h : Mem} (S : MS h) : h 177 61 = 224 := S.2 (177, 61, 224) (List.mem_of_getElem? (i := 47) rfl)
theorem MS.f62 {h : Mem} (S : MS h) : h 177 62 = 225 := S.2 (177, 62, 225) (List.mem_of_getElem? (i := 48) rfl)
theorem MS.k178 {h : Mem} (S : MS h) : h 178 (-1) = 101 := S.2 (178, -1, 101) (List.mem_of_getElem? (i := 49) rfl)
theorem MS.l178 {h : Mem} (S : MS h) : h 178 (-2) = 13 := S.2 (178, -2, 13) (List.mem_of_getElem? (i := 50) rfl)
theorem MS.k179 {h : Mem} (S : MS h) : h 179 (-1) = 101 := S.2 (179, -1, 101) (List.mem_of_getElem? (i := 51) rfl)
theorem MS.l179 {h : Mem} (S : MS h) : h 179 (-2) = 5 := S.2 (179, -2, 5) (List.mem_of_getElem? (i := 52) rfl)
theorem MS.k180 {h : Mem} (S : MS h) : h 180 (-1) = 101 := S.2 (180, -1, 101) (List.mem_of_getElem? (i := 53) rfl)
theorem MS.l180 {h : Mem} (S : MS h) : h 180 (-2) = 4 := S.2 (180, -2, 4) (List.mem_of_getElem? (i := 54) rfl)
theorem MS.k181 {h : Mem} (S : MS h) : h 181 (-1) = 101 := S.2 (181, -1, 101) (List.mem_of_getElem? (i := 55) rfl)
theorem MS.l181 {h : Mem} (S : MS h) : h 181 (-2) = 4 := S.2 (181, -2, 4) (List.mem_of_getElem? (i := 56) rfl)
theorem MS.k182 {h : Mem} (S : MS h) : h 182 (-1) = 101 := S.2 (182, -1, 101) (List.mem_of_getElem? (i := 57) rfl)
theorem MS.l182 {h : Mem} (S : MS h) : h 182 (-2) = 4 := S.2 (182, -2, 4) (List.mem_of_getElem? (i := 58) rfl)
theorem MS.k183 {h : Mem} (S : MS h) : h 183 (-1) = 101 := S.2 (183, -1, 101) (List.mem_of_getElem? (i := 59) rfl)
theorem MS.l183 {h : Mem} (S : MS h) : h 183 (-2) = 5 := S.2 (183, -2, 5) (List.mem_of_getElem? (i := 60) rfl)
theorem MS.k184 {h : Mem} (S : MS h) : h 184 (-1) = 101 := S.2 (184, -1, 101) (List.mem_of_getElem? (i := 61) rfl)
theorem MS.l184 {h : Mem} (S : MS h) : h 184 (-2) = 5 := S.2 (184, -2, 5) (List.mem_of_getElem? (i := 62) rfl)
theorem MS.k185 {h : Mem} (S : MS h) : h 185 (-1) = 101 := S.2 (185, -1, 101) (List.mem_of_getElem? (i := 63) rfl)
theorem MS.l185 {h : Mem} (S : MS h) : h 185 (-2) = 16 := S.2 (185, -2, 16) (List.mem_of_getElem? (i := 64) rfl)
theorem MS.k186 {h : Mem} (S : MS h) : h 186 (-1) = 101 := S.2 (186, -1, 101) (List.mem_of_getElem? (i := 65) rfl)
theorem MS.l186 {h : Mem} (S : MS h) : h 186 (-2) = 80 := S.2 (186, -2, 80) (List.mem_of_getElem? (i := 66) rfl)
theorem MS.k187 {h : Mem} (S : MS h) : h 187 (-1) = 101 := S.2 (187, -1, 101) (List.mem_of_getElem? (i := 67) rfl)
theorem MS.l187 {h : Mem} (S : MS h) : h 187 (-2) = 80 := S.2 (187, -2, 80) (List.mem_of_getElem? (i := 68) rfl)
theorem MS.k188 {h : Mem} (S : MS h) : h 188 (-1) = 101 := S.2 (188, -1, 101) (List.mem_of_getElem? (i := 69) rfl)
theorem MS.l188 {h : Mem} (S : MS h) : h 188 (-2) = 10 := S.2 (188, -2, 10) (List.mem_of_getElem? (i := 70) rfl)
theorem MS.k189 {h : Mem} (S : MS h) : h 189 (-1) = 101 := S.2 (189, -1, 101) (List.mem_of_getElem? (i := 71) rfl)
theorem MS.l189 {h : Mem} (S : MS h) : h 189 (-2) = 10 := S.2 (189, -2, 10) (List.mem_of_getElem? (i := 72) rfl)
theorem MS.k190 {h : Mem} (S : MS h) : h 190 (-1) = 101 := S.2 (190, -1, 101) (List.mem_of_getElem? (i := 73) rfl)
theorem MS.l190 {h : Mem} (S : MS h) : h 190 (-2) = 10 := S.2 (190, -2, 10) (List.mem_of_getElem? (i := 74) rfl)
theorem MS.k191 {h : Mem} (S : MS h) : h 191 (-1) = 101 := S.2 (191, -1, 101) (List.mem_of_getElem? (i := 75) rfl)
theorem MS.l191 {h : Mem} (S : MS h) : h 191 (-2) = 16 := S.2 (191, -2, 16) (List.mem_of_getElem? (i := 76) rfl)
theorem MS.k192 {h : Mem} (S : MS h) : h 192 (-1) = 101 := S.2 (192, -1, 101) (List.mem_of_getElem? (i := 77) rfl)
theorem MS.l192 {h : Mem} (S : MS h) : h 192 (-2) = 80 := S.2 (192, -2, 80) (List.mem_of_getElem? (i := 78) rfl)
theorem MS.k193 {h : Mem} (S : MS h) : h 193 (-1) = 101 := S.2 (193, -1, 101) (List.mem_of_getElem? (i := 79) rfl)
theorem MS.l193 {h : Mem} (S : MS h) : h 193 (-2) = 4 := S.2 (193, -2, 4) (List.mem_of_getElem? (i := 80) rfl)
theorem MS.k194 {h : Mem} (S : MS h) : h 194 (-1) = 101 := S.2 (194, -1, 101) (List.mem_of_getElem? (i := 81) rfl)
theorem MS.l194 {h : Mem} (S : MS h) : h 194 (-2) = 1 := S.2 (194, -2, 1) (List.mem_of_getElem? (i := 82) rfl)
theorem MS.k195 {h : Mem} (S : MS h) : h 195 (-1) = 101 := S.2 (195, -1, 101) (List.mem_of_getElem? (i := 83) rfl)
theorem MS.l195 {h : Mem} (S : MS h) : h 195 (-2) = 9 := S.2 (195, -2, 9) (List.mem_of_getElem? (i := 84) rfl)
theorem MS.k196 {h : Mem} (S : MS h) : h 196 (-1) = 101 := S.2 (196, -1, 101) (List.mem_of_getElem? (i := 85) rfl)
theorem MS.l196 {h : Mem} (S : MS h) : h 196 (-2) = 5 := S.2 (196, -2, 5) (List.mem_of_getElem? (i := 86) rfl)
theorem MS.k197 {h : Mem} (S : MS h) : h 197 (-1) = 101 := S.2 (197, -1, 101) (List.mem_of_getElem? (i := 87) rfl)
theorem MS.l197 {h : Mem} (S : MS h) : h 197 (-2) = 4 := S.2 (197, -2, 4) (List.mem_of_getElem? (i := 88) rfl)
theorem MS.k198 {h : Mem} (S : MS h) : h 198 (-1) = 101 := S.2 (198, -1, 101) (List.mem_of_getElem? (i := 89) rfl)
theorem MS.l198 {h : Mem} (S : MS h) : h 198 (-2) = 4 := S.2 (198, -2, 4) (List.mem_of_getElem? (i := 90) rfl)
theorem MS.k199 {h : Mem} (S : MS h) : h 199 (-1) = 101 := S.2 (199, -1, 101) (List.mem_of_getElem? (i := 91) rfl)
theorem MS.l199 {h : Mem} (S : MS h) : h 199 (-2) = 4 := S.2 (199, -2, 4) (List.mem_of_getElem? (i := 92) rfl)
theorem MS.k200 {h : Mem} (S : MS h) : h 200 (-1) = 101 := S.2 (200, -1, 101) (List.mem_of_getElem? (i := 93) rfl)
theorem MS.l200 {h : Mem} (S : MS h) : h 200 (-2) = 5 := S.2 (200, -2, 5) (List.mem_of_getElem? (i := 94) rfl)
theorem MS.k201 {h : Mem} (S : MS h) : h 201 (-1) = 101 := S.2 (201, -1, 101) (List.mem_of_getElem? (i := 95) rfl)
theorem MS.l201 {h : Mem} (S : MS h) : h 201 (-2) = 5 := S.2 (201, -2, 5) (List.mem_of_getElem? (i := 96) rfl)
theorem MS.k202 {h : Mem} (S : MS h) : h 202 (-1) = 101 := S.2 (202, -1, 101) (List.mem_of_getElem? (i := 97) rfl)
theorem MS.l202 {h : Mem} (S : MS h) : h 202 (-2) = 16 := S.2 (202, -2, 16) (List.mem_of_getElem? (i := 98) rfl)
theorem MS.k203 {h : Mem} (S : MS h) : h 203 (-1) = 101 := S.2 (203, -1, 101) (List.mem_of_getElem? (i := 99) rfl)
theorem MS.l203 {h : Mem} (S : MS h) : h 203 (-2) = 80 := S.2 (203, -2, 80) (List.mem_of_getElem? (i := 100) rfl)
theorem MS.k204 {h : Mem} (S : MS h) : h 204 (-1) = 102 := S.2 (204, -1, 102) (List.mem_of_getElem? (i := 101) rfl)
theorem MS.l204 {h : Mem} (S : MS h) : h 204 (-2) = 400 := S.2 (204, -2, 400) (List.mem_of_getElem? (i := 102) rfl)
theorem MS.k205 {h : Mem} (S : MS h) : h 205 (-1) = 101 := S.2 (205, -1, 101) (List.mem_of_getElem? (i := 103) rfl)
theorem MS.l205 {h : Mem} (S : MS h) : h 205 (-2) = 1800 := S.2 (205, -2, 1800) (List.mem_of_getElem? (i := 104) rfl)
theorem MS.k206 {h : Mem} (S : MS h) : h 206 (-1) = 101 := S.2 (206, -1, 101) (List.mem_of_getElem? (i := 105) rfl)
theorem MS.l206 {h : Mem} (S : MS h) : h 206 (-2) = 1800 := S.2 (206, -2, 1800) (List.mem_of_getElem? (i := 106) rfl)
theorem MS.k207 {h : Mem} (S : MS h) : h 207 (-1) = 101 := S.2 (207, -1, 101) (List.mem_of_getElem? (i := 107) rfl)
theorem MS.l207 {h : Mem} (S : MS h) : h 207 (-2) = 6 := S.2 (207, -2, 6) (List.mem_of_getElem? (i := 108) rfl)
theorem MS.k208 {h : Mem} (S : MS h) : h 208 (-1) = 101 := S.2 (208, -1, 101) (List.mem_of_getElem? (i := 109) rfl)
theorem MS.l208 {h : Mem} (S : MS h) : h 208 (-2) = 72 := S.2 (208, -2, 72) (List.mem_of_getElem? (i := 110) rfl)
theorem MS.k209 {h : Mem} (S : MS h) : h 209 (-1) = 101 := S.2 (209, -1, 101) (List.mem_of_getElem? (i := 111) rfl)
theorem MS.l209 {h : Mem} (S : MS h) : h 209 (-2) = 72 := S.2 (209, -2, 72) (List.mem_of_getElem? (i := 112) rfl)
theorem MS.k210 {h : Mem} (S : MS h) : h 210 (-1) = 101 := S.2 (210, -1, 101) (List.mem_of_getElem? (i := 113) rfl)
theorem MS.l210 {h : Mem} (S : MS h) : h 210 (-2) = 72 := S.2 (210, -2, 72) (List.mem_of_getElem? (i := 114) rfl)
theorem MS.k211 {h : Mem} (S : MS h) : h 211 (-1) = 101 := S.2 (211, -1, 101) (List.mem_of_getElem? (i := 115) rfl)
theorem MS.l211 {h : Mem} (S : MS h) : h 211 (-2) = 402 := S.2 (211, -2, 402) (List.mem_of_getElem? (i := 116) rfl)
theorem MS.k212 {h : Mem} (S : MS h) : h 212 (-1) = 104 := S.2 (212, -1, 104) (List.mem_of_getElem? (i := 117) rfl)
theorem MS.l212 {h : Mem} (S : MS h) : h 212 (-2) = 13 := S.2 (212, -2, 13) (List.mem_of_getElem? (i := 118) rfl)
theorem MS.k213 {h : Mem} (S : MS h) : h 213 (-1) = 104 := S.2 (213, -1, 104) (List.mem_of_getElem? (i := 119) rfl)
theorem MS.l213 {h : Mem} (S : MS h) : h 213 (-2) = 300 := S.2 (213, -2, 300) (List.mem_of_getElem? (i := 120) rfl)
theorem MS.k214 {h : Mem} (S : MS h) : h 214 (-1) = 101 := S.2 (214, -1, 101) (List.mem_of_getElem? (i := 121) rfl)
theorem MS.l214 {h : Mem} (S : MS h) : h 214 (-2) = 4 := S.2 (214, -2, 4) (List.mem_of_getElem? (i := 122) rfl)
theorem MS.k215 {h : Mem} (S : MS h) : h 215 (-1) = 101 := S.2 (215, -1, 101) (List.mem_of_getElem? (i := 123) rfl)
theorem MS.l215 {h : Mem} (S : MS h) : h 215 (-2) = 4 := S.2 (215, -2, 4) (List.mem_of_getElem? (i := 124) rfl)
theorem MS.k216 {h : Mem} (S : MS h) : h 216 (-1) = 101 := S.2 (216, -1, 101) (List.mem_of_getElem? (i := 125) rfl)
theorem MS.l216 {h : Mem} (S : MS h) : h 216 (-2) = 3640 := S.2 (216, -2, 3640) (List.mem_of_getElem? (i := 126) rfl)
theorem MS.k217 {h : Mem} (S : MS h) : h 217 (-1) = 101 := S.2 (217, -1, 101) (List.mem_of_getElem? (i := 127) rfl)
theorem MS.l217 {h : Mem} (S : MS h) : h 217 (-2) = 1 := S.2 (217, -2, 1) (List.mem_of_getElem? (i := 128) rfl)
theorem MS.k218 {h : Mem} (S : MS h) : h 218 (-1) = 101 := S.2 (218, -1, 101) (List.mem_of_getElem? (i := 129) rfl)
theorem MS.l218 {h : Mem} (S : MS h) : h 218 (-2) = 6 := S.2 (218, -2, 6) (List.mem_of_getElem? (i := 130) rfl)
theorem MS.k219 {h : Mem} (S : MS h) : h 219 (-1) = 101 := S.2 (219, -1, 101) (List.mem_of_getElem? (i := 131) rfl)
theorem MS.l219 {h : Mem} (S : MS h) : h 219 (-2) = 6 := S.2 (219, -2, 6) (List.mem_of_getElem? (i := 132) rfl)
theorem MS.k220 {h : Mem} (S : MS h) : h 220 (-1) = 101 := S.2 (220, -1, 101) (List.mem_of_getElem? (i := 133) rfl)
theorem MS.l220 {h : Mem} (S : MS h) : h 220 (-2) = 5 := S.2 (220, -2, 5) (List.mem_of_getElem? (i := 134) rfl)
theorem MS.k221 {h : Mem} (S : MS h) : h 221 (-1) = 101 := S.2 (221, -1, 101) (List.mem_of_getElem? (i := 135) rfl)
theorem MS.l221 {h : Mem} (S : MS h) : h 221 (-2) = 5 := S.2 (221, -2, 5) (List.mem_of_getElem? (i := 136) rfl)
theorem MS.k222 {h : Mem} (S : MS h) : h 222 (-1) = 101 := S.2 (222, -1, 101) (List.mem_of_getElem? (i := 137) rfl)
theorem MS.l222 {h : Mem} (S : MS h) : h 222 (-2) = 4 := S.2 (222, -2, 4) (List.mem_of_getElem? (i := 138) rfl)
theorem MS.k223 {h : Mem} (S : MS h) : h 223 (-1) = 101 := S.2 (223, -1, 101) (List.mem_of_getElem? (i := 139) rfl)
theorem MS.l223 {h : Mem} (S : MS h) : h 223 (-2) = 20 := S.2 (223, -2, 20) (List.mem_of_getElem? (i := 140) rfl)
theorem MS.k224 {h : Mem} (S : MS h) : h 224 (-1) = 101 := S.2 (224, -1, 101) (List.mem_of_getElem? (i := 141) rfl)
theorem MS.l224 {h : Mem} (S : MS h) : h 224 (-2) = 20500 := S.2 (224, -2, 20500) (List.mem_of_getElem? (i := 142) rfl)
theorem MS.k225 {h : Mem} (S : MS h) : h 225 (-1) = 103 := S.2 (225, -1, 103) (List.mem_of_getElem? (i := 143) rfl)
theorem MS.l225 {h : Mem} (S : MS h) : h 225 (-2) = 4 := S.2 (225, -2, 4) (List.mem_of_getElem? (i := 144) rfl)
theorem XS.t2 {h : Mem} (S : XS h) : TownS h 2 := S.2.2 _ (List.mem_of_getElem? (i := 0) rfl)
theorem XS.t20 {h : Mem} (S : XS h) : TownS h 20 := S.2.2 _ (List.mem_of_getElem? (i := 1) rfl)
theorem XS.t39 {h : Mem} (S : XS h) : TownS h 39 := S.2.2 _ (List.mem_of_getElem? (i := 2) rfl)
theorem XS.t57 {h : Mem} (S : XS h) : TownS h 57 := S.2.2 _ (List.mem_of_getElem? (i := 3) rfl)
theorem XS.t75 {h : Mem} (S : XS h) : TownS h 75 := S.2.2 _ (List.mem_of_getElem? (i := 4) rfl)
theorem XS.t93 {h : Mem} (S : XS h) : TownS h 93 := S.2.2 _ (List.mem_of_getElem? (i := 5) rfl)
theorem XS.t111 {h : Mem} (S : XS h) : TownS h 111 := S.2.2 _ (List.mem_of_getElem? (i := 6) rfl)
theorem XS.t129 {h : Mem} (S : XS h) : TownS h 129 := S.2.2 _ (List.mem_of_getElem? (i := 7) rfl)
theorem XS.t147 {h : Mem} (S : XS h) : TownS h 147 := S.2.2 _ (List.mem_of_getElem? (i := 8) rfl)
def TextS (h : Mem) (t : Int) : Prop := (1 ≤ t ∧ t < h 0 0) ∧ h t (-1) = 5 ∧ h t 0 = 170 ∧ h t 1 = 129 ∧ h t 6 = 1
theorem TextS.ext {h h' : Mem} {t : Int} (S : TextS h t) (E : Ext h h') : TextS h' t := by
  obtain ⟨⟨s1, s2⟩, s3, s4, s5, s6⟩ := S
  have e := E.2 t s1 s2
  exact ⟨⟨s1, Int.lt_of_lt_of_le s2 E.1⟩, e.1.trans s3, (e.2.2 0 (by decide) (by rw [s3]; rfl)).trans s4, (e.2.2 1 (by decide) (by rw [s3]; rfl)).trans s5, (e.2.2 6 (by decide) (by rw [s3]; rfl)).trans s6⟩
theorem TextS.k {h : Mem} {t : Int} (S : TextS h t) : h t (-1) = 5 := S.2.1
theorem TextS.f0 {h : Mem} {t : Int} (S : TextS h t) : h t 0 = 170 := S.2.2.1
theorem TextS.f1 {h : Mem} {t : Int} (S : TextS h t) : h t 1 = 129 := S.2.2.2.1
theorem TextS.f6 {h : Mem} {t : Int} (S : TextS h t) : h t 6 = 1 := S.2.2.2.2
def RuleS (h : Mem) (r : Int) : Prop := (1 ≤ r ∧ r + 1 < h 0 0) ∧ h r (-1) = 6 ∧ h r 0 = r + 1 ∧ h (r + 1) (-1) = 109 ∧ h (r + 1) (-2) = 12
theorem RuleS.ext {h h' : Mem} {r : Int} (S : RuleS h r) (E : Ext h h') : RuleS h' r := by
  obtain ⟨⟨s1, s2⟩, s3, s4, s5, s6⟩ := S
  have e := E.2 r s1 (by omega)
  have e2 := E.2 (r + 1) (by omega) s2
  exact ⟨⟨s1, Int.lt_of_lt_of_le s2 E.1⟩, e.1.trans s3, (e.2.2 0 (by decide) (by rw [s3]; rfl)).trans s4, e2.1.trans s5, e2.2.1.trans s6⟩
theorem RuleS.k {h : Mem} {r : Int} (S : RuleS h r) : h r (-1) = 6 := S.2.1
theorem RuleS.f0 {h : Mem} {r : Int} (S : RuleS h r) : h r 0 = r + 1 := S.2.2.1
theorem RuleS.k0 {h : Mem} {r : Int} (S : RuleS h r) : h (r + 1) (-1) = 109 := S.2.2.2.1
theorem RuleS.l0 {h : Mem} {r : Int} (S : RuleS h r) : h (r + 1) (-2) = 12 := S.2.2.2.2
abbrev PI (h0 : Mem) (P : Int → Mem → Prop) : Int → Mem → Prop := fun r h => EX h0 h ∧ R32 r ∧ P r h
abbrev PZ (h0 : Mem) (P : Int → Mem → Prop) : Int → Mem → Prop := fun r h => EX h0 h ∧ (r = 0 ∨ r = 1) ∧ P r h
abbrev PJ (h0 : Mem) (P : Int → Mem → Prop) : Int → Mem → Prop := fun r h => EX h0 h ∧ R64 r ∧ P r h
abbrev PR (h0 : Mem) (P : Int → Mem → Prop) : Int → Mem → Prop := fun r h => EX h0 h ∧ P r h
section VOK
variable {G : GT} {X : MX} {nL uc us : Nat} {Q : State → Prop} {pc : Nat} {lv : List (Nat × AV)} {st : List AV} {h : Mem}
theorem v_okz (kk : OkZ h → V G X nL uc us Q pc lv st h) : V G X nL uc us Q pc lv st h := fun H locs ls hH hL hl => kk ⟨hH.2.2.2.2.2, hH.2.2.2.1, hH.1.2, hH.2.2.2.2.1⟩ H locs ls hH hL hl
end VOK
