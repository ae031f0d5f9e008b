/-! what keeps the whole state -/
set_option maxRecDepth 100000
theorem TownS.kd {h : Mem} {a : Int} (A : TownS h a) {b : Int} (b0 : a ≤ b) (b1 : b ≤ a + 17) : h b (-1) = 2 ∨ h b (-1) = 101 ∨ h b (-1) = 104 := by
  by_cases q : b = a
  · rw [q]; exact Or.inl A.k
  · have z := (A.2 (b - a - 1).toNat (by omega)).2.1
    rw [show a + (((b - a - 1).toNat : Int) + 1) = b by omega] at z
    rw [z]
    split
    · exact Or.inr (Or.inr rfl)
    · exact Or.inr (Or.inl rfl)
theorem mT_kd : ∀ k : Nat, k < 49 → ((177 : Int) + k, (-1 : Int), mK (177 + k)) ∈ mT ∧ (mK (177 + k) = 4 ∨ mK (177 + k) = 101 ∨ mK (177 + k) = 102 ∨ mK (177 + k) = 103 ∨ mK (177 + k) = 104) := by decide +kernel
theorem MS.kd {h : Mem} (M : MS h) {b : Int} (b0 : 177 ≤ b) (b1 : b ≤ 225) : h b (-1) = 4 ∨ h b (-1) = 101 ∨ h b (-1) = 102 ∨ h b (-1) = 103 ∨ h b (-1) = 104 := by
  have z := mT_kd (b - 177).toNat (by omega)
  have e : (177 : Int) + ((b - 177).toNat : Int) = b := by omega
  rw [e] at z
  have w := M.2 _ z.1
  dsimp only at w
  rw [w]
  exact z.2
/-- cells of the two objects are none of a rule -/
theorem Fix.nK {h : Mem} (F : Fix h) {b : Int} (b0 : 1 ≤ b) (b1 : b ≤ 225) : ¬ aK (h b (-1)) ∧ h b (-1) ≠ 14 := by
  have A := F.1
  have tw : ∀ a : Int, TownS h a → a ≤ b → b ≤ a + 17 → ¬ aK (h b (-1)) ∧ h b (-1) ≠ 14 := fun a T p q => by
    have := T.kd p q
    unfold aK; omega
  have M := F.2.1
  by_cases c : 177 ≤ b
  · have := M.kd c b1
    unfold aK; omega
  by_cases c1 : b = 1
  · rw [c1, A.k1]; unfold aK; omega
  by_cases c2 : b ≤ 19
  · exact tw 2 A.t2 (by omega) (by omega)
  by_cases c3 : b ≤ 37
  · exact tw 20 A.t20 (by omega) (by omega)
  by_cases c4 : b = 38
  · rw [c4, A.k38]; unfold aK; omega
  by_cases c5 : b ≤ 56
  · exact tw 39 A.t39 (by omega) (by omega)
  by_cases c6 : b ≤ 74
  · exact tw 57 A.t57 (by omega) (by omega)
  by_cases c7 : b ≤ 92
  · exact tw 75 A.t75 (by omega) (by omega)
  by_cases c8 : b ≤ 110
  · exact tw 93 A.t93 (by omega) (by omega)
  by_cases c9 : b ≤ 128
  · exact tw 111 A.t111 (by omega) (by omega)
  by_cases c10 : b ≤ 146
  · exact tw 129 A.t129 (by omega) (by omega)
  by_cases c11 : b ≤ 164
  · exact tw 147 A.t147 (by omega) (by omega)
  have e : b = 165 ∨ b = 166 ∨ b = 167 ∨ b = 168 ∨ b = 169 ∨ b = 170 ∨ b = 171 ∨ b = 172 ∨ b = 173 ∨ b = 174 ∨ b = 175 ∨ b = 176 := by omega
  rcases e with e | e | e | e | e | e | e | e | e | e | e | e
  · rw [e, A.k165]; unfold aK; omega
  · rw [e, A.k166]; unfold aK; omega
  · rw [e, A.k167]; unfold aK; omega
  · rw [e, A.k168]; unfold aK; omega
  · rw [e, A.k169]; unfold aK; omega
  · rw [e, A.k170]; unfold aK; omega
  · rw [e, A.k171]; unfold aK; omega
  · rw [e, A.k172]; unfold aK; omega
  · rw [e, A.k173]; unfold aK; omega
  · rw [e, A.k174]; unfold aK; omega
  · rw [e, A.k175]; unfold aK; omega
  · rw [e, A.k176]; unfold aK; omega
/-- X's rows that asking writes -/
def sQx : Int → Int → Prop := fun b j => (b = 1 ∧ (j = 19 ∨ j = 20 ∨ j = 23)) ∨ (18 ≤ b ∧ b ≤ 37) ∨ (39 ≤ b ∧ b ≤ 146) ∨ (165 ≤ b ∧ b ≤ 166) ∨ (172 ≤ b ∧ b ≤ 175)
def sQX : Int → Int → Prop := fun b j => sQx b j ∨ (177 ≤ b ∧ b ≤ 225)
/-- rules' objects stand where nothing of the two is written -/
theorem Fix.kf {h h' : Mem} (F : Fix h) (f : ∀ b j : Int, 226 ≤ b → b < h 0 0 → h' b j = h b j) : KF h h' := fun b j q => by
  have k0 : h b (-1) ≠ 0 := fun z => by rw [z] at q; unfold aK at q; omega
  have w := F.2.2.2.1 b k0
  by_cases c : 226 ≤ b
  · exact f b j c w.2
  · exact absurd q (F.nK w.1 (by omega)).1
theorem ImX.keep {h h' : Mem} {q : Int} {I : Im} (w : ImX h q I) (e : Ext h h') (f : ∀ b j : Int, q ≤ b → b ≤ q + 18 → h' b j = h b j) : ImX h' q I := by
  obtain ⟨a1, a2, a3, a4, a5, a6, a7⟩ := w
  refine ⟨a1, (f q _ (by omega) (by omega)).trans a2, (f q _ (by omega) (by omega)).trans a3, a4.ext e, (f q _ (by omega) (by omega)).trans a5, (f q _ (by omega) (by omega)).trans a6, ?_⟩
  obtain ⟨s, x, g⟩ := I
  cases s with
  | none => exact (f q _ (by omega) (by omega)).trans a7
  | some T => exact ⟨(f q _ (by omega) (by omega)).trans a7.1, a7.2.keep e fun b j b0 b1 => f b j (by omega) (by omega)⟩
theorem ImX.lt {h : Mem} {q : Int} {I : Im} (w : ImX h q I) : 226 ≤ q ∧ q + 18 < h 0 0 := ⟨w.1, by have := w.2.2.2.1.lt; omega⟩
theorem RlX.keep {h h' : Mem} {rl : List Cl} (r : RlX h rl) (k : KF h h') (e : Ext h h') (e1 : h' 1 16 = h 1 16) (e2 : ∀ j : Int, h' 171 j = h 171 j) : RlX h' rl :=
  ⟨e1.trans r.1, fun i cl hi => by rw [e2]; exact ⟨(r.2 i cl hi).1, (r.2 i cl hi).2.keep k e⟩⟩
theorem XStr.keep {h h' : Mem} {s : Option Tn} (q : XStr h s) (e : Ext h h') (e0 : h' 1 0 = h 1 0) (f : ∀ b j : Int, 2 ≤ b → b ≤ 17 → h' b j = h b j) : XStr h' s := by
  cases s with
  | none => exact e0.trans q
  | some T => exact ⟨e0.trans q.1, q.2.keep e fun b j b0 b1 => f b j (by omega) (by omega)⟩
theorem IX.keep {h h' : Mem} {Z : Zt} (I : IX h Z) (e : EX h h') (f : ∀ b j : Int, 1 ≤ b → b < h 0 0 → ¬ sQX b j → h' b j = h b j) : IX h' Z := by
  have A := I.xs
  have hb := A.1
  have f1 : ∀ j : Int, j ≠ 19 → j ≠ 20 → j ≠ 23 → h' 1 j = h 1 j := fun j n1 n2 n3 => f 1 j (by omega) (by omega) (by unfold sQX sQx; omega)
  have ff : ∀ b j : Int, (2 ≤ b ∧ b ≤ 17) ∨ (147 ≤ b ∧ b ≤ 164) ∨ (167 ≤ b ∧ b ≤ 171) ∨ b = 176 → h' b j = h b j := fun b j z => f b j (by omega) (by omega) (by unfold sQX sQx; omega)
  have k : KF h h' := I.fx.kf fun b j b0 b1 => f b j (by omega) b1 (by unfold sQX sQx; omega)
  refine ⟨I.fx.ext e, I.ok, I.str.keep e.1 (f1 0 (by omega) (by omega) (by omega)) fun b j b0 b1 => ff b j (by omega), ⟨(f1 7 (by omega) (by omega) (by omega)).trans I.e7, (f1 8 (by omega) (by omega) (by omega)).trans I.e8⟩, I.rl.keep k e.1 (f1 16 (by omega) (by omega) (by omega)) fun j => ff 171 j (by omega), ⟨(f1 11 (by omega) (by omega) (by omega)).trans I.tp.1, fun i i0 i1 => (ff 167 i (by omega)).trans (I.tp.2 i i0 i1)⟩, fun q q0 q1 => ?_, fun i q i0 i1 q0 q1 n z => ?_, ⟨fun j j0 j1 => (ff 147 j (by omega)).trans (I.bl.1 j j0 j1), fun q q0 q1 x x0 x1 => (ff (147 + q) x (by omega)).trans (I.bl.2 q q0 q1 x x0 x1)⟩⟩
  · have z := I.im q q0 q1
    cases hq : Z.im q with
    | none => rw [hq] at z; exact (ff 176 q (by omega)).trans z
    | some J =>
      rw [hq] at z
      have w := z.2.lt
      show h' 176 q ≠ 0 ∧ ImX h' (h' 176 q) J
      rw [ff 176 q (by omega)]
      exact ⟨z.1, z.2.keep e.1 fun b j b0 b1 => f b j (by omega) (by omega) (by unfold sQX sQx; omega)⟩
  · rw [ff 176 i (by omega)] at z ⊢
    rw [ff 176 q (by omega)]
    exact I.ap i q i0 i1 q0 q1 n z
/-- the model's rows that asking writes (and lays back) -/
def sQm : Int → Int → Prop := fun b j => (b = 177 ∧ (j = 28 ∨ j = 29 ∨ j = 30 ∨ j = 32 ∨ j = 33 ∨ j = 34 ∨ j = 35 ∨ j = 52 ∨ j = 53 ∨ j = 58 ∨ j = 63 ∨ j = 64)) ∨ b = 178 ∨ b = 182 ∨ (185 ≤ b ∧ b ≤ 187) ∨ (195 ≤ b ∧ b ≤ 203) ∨ (211 ≤ b ∧ b ≤ 215) ∨ (217 ≤ b ∧ b ≤ 223) ∨ (b = 224 ∧ 16400 ≤ j)
theorem Back9.rf (h : Mem) : Back9 h h := ⟨fun _ _ _ => rfl, fun _ _ _ => rfl, fun _ _ _ => rfl, fun _ _ _ => rfl, fun _ _ _ => rfl⟩
theorem Back9.tr {h h1 h2 : Mem} (A : Back9 h1 h) (B : Back9 h2 h1) : Back9 h2 h := ⟨fun i a b => (B.1 i a b).trans (A.1 i a b), fun i a b => (B.2.1 i a b).trans (A.2.1 i a b), fun i a b => (B.2.2.1 i a b).trans (A.2.2.1 i a b), fun i a b => (B.2.2.2.1 i a b).trans (A.2.2.2.1 i a b), fun i a b => (B.2.2.2.2 i a b).trans (A.2.2.2.2 i a b)⟩
theorem Back9.of {h h' : Mem} (f : ∀ b j : Int, b = 178 ∨ b = 182 ∨ (185 ≤ b ∧ b ≤ 187) → h' b j = h b j) : Back9 h' h := ⟨fun i _ _ => f _ i (by omega), fun i _ _ => f _ i (by omega), fun i _ _ => f _ i (by omega), fun i _ _ => f _ i (by omega), fun i _ _ => f _ i (by omega)⟩
theorem MLike.back {h h' : Mem} (f : ∀ b j : Int, 177 ≤ b → b ≤ 225 → ¬ sQm b j → h' b j = h b j) (k : Back9 h' h) : MLike h' h := by
  refine ⟨fun q hq i i0 i1 => ?_, f 177 51 (by omega) (by omega) (by unfold sQm; omega)⟩
  have z := carR_ok q hq
  obtain ⟨b, n, o⟩ := q
  dsimp only at z i1 ⊢
  by_cases c : b = 178
  · subst c; exact k.1 i i0 (by omega)
  by_cases c : b = 182
  · subst c; exact k.2.1 i i0 (by omega)
  by_cases c : b = 185
  · subst c; exact k.2.2.1 i i0 (by omega)
  by_cases c : b = 186
  · subst c; exact k.2.2.2.1 i i0 (by omega)
  by_cases c : b = 187
  · subst c; exact k.2.2.2.2 i i0 (by omega)
  exact f b i (by omega) (by omega) (by unfold sQm; omega)
theorem CarM.keep {h h' h0 : Mem} {k : Int} (c : CarM h k h0) (k0 : 0 ≤ k) (k1 : k < 4) (f : ∀ j : Int, j < 16400 → h' 224 j = h 224 j) : CarM h' k h0 :=
  ⟨fun q hq i i0 i1 => by have z := carR_ok q hq; exact (f _ (by omega)).trans (c.1 q hq i i0 i1), (f _ (by omega)).trans c.2⟩
theorem IM.back {h h' : Mem} {Z : Zt} (I : IM h Z) (e : EX h h') (f : ∀ b j : Int, 177 ≤ b → b ≤ 225 → ¬ sQm b j → h' b j = h b j) (k : Back9 h' h) : IM h' Z := by
  have f7 : ∀ j : Int, j = 27 ∨ j = 31 ∨ j = 36 → h' 177 j = h 177 j := fun j z => f 177 j (by omega) (by omega) (by unfold sQm; omega)
  have ff : ∀ b j : Int, (204 ≤ b ∧ b ≤ 210) ∨ b = 225 → h' b j = h b j := fun b j z => f b j (by omega) (by omega) (by unfold sQm; omega)
  refine ⟨I.fx.ext e, I.ok, I.str.like (I.ms.ext e.1) (MLike.back f k), ⟨(k.1 11 (by omega) (by omega)).trans I.e11, (k.1 12 (by omega) (by omega)).trans I.e12⟩, ⟨(f7 31 (by omega)).trans I.rl.1, fun i cl hi => (I.rl.2 i cl hi).keep fun b j z => ff b j (by unfold rIn at z; omega)⟩, ⟨(f7 27 (by omega)).trans I.tp.1, fun i i0 i1 => (ff 204 i (by omega)).trans (I.tp.2 i i0 i1)⟩, fun q q0 q1 => ?_, (f7 36 (by omega)).trans I.w13⟩
  have z := I.im q q0 q1
  cases hq : Z.im q with
  | none => rw [hq] at z; exact (ff 225 q (by omega)).trans z
  | some J =>
    rw [hq] at z
    obtain ⟨z1, h0, z2, z3, z4, z5⟩ := z
    exact ⟨(ff 225 q (by omega)).trans z1, h0, z2, z3, z4, z5.keep q0 q1 fun j j1 => f 224 j (by omega) (by omega) (by unfold sQm; omega)⟩
/-- both sides -/
def IZ (h : Mem) (Z : Zt) : Prop := IX h Z ∧ IM h Z
/-- X's steps leave the model's cells alone, the model's steps X's -/
def FrX (h h' : Mem) : Prop := ∀ b j : Int, 177 ≤ b → b ≤ 225 → h' b j = h b j
def FrM (h h' : Mem) : Prop := ∀ b j : Int, b < 177 ∨ 225 < b → h' b j = h b j
theorem IM.frx {h h' : Mem} {Z : Zt} (I : IM h Z) (e : EX h h') (f : FrX h h') : IM h' Z :=
  I.back e (fun b j b0 b1 _ => f b j b0 b1) (Back9.of fun b j z => f b j (by omega) (by omega))
theorem IX.frm {h h' : Mem} {Z : Zt} (I : IX h Z) (e : EX h h') (f : FrM h h') : IX h' Z :=
  I.keep e fun b j _ _ n => f b j (by unfold sQX at n; omega)
/-- asking: X's side -/
theorem IX.q {h h' : Mem} {Z : Zt} (I : IX h Z) (e : EX h h') (f : Fr sQx h h') : IX h' Z := I.keep e fun b j _ _ n => f b j fun z => n (Or.inl z)
theorem Fr.qx {h h' : Mem} (f : Fr sQx h h') : FrX h h' := fun b j b0 b1 => f b j (by unfold sQx; omega)
def QM (h h' : Mem) : Prop := Fr sQm h h' ∧ Back9 h' h
theorem IM.q {h h' : Mem} {Z : Zt} (I : IM h Z) (e : EX h h') (f : QM h h') : IM h' Z := I.back e (fun b j _ _ n => f.1 b j n) f.2
theorem QM.fm {h h' : Mem} (f : QM h h') : FrM h h' := fun b j z => f.1 b j (by unfold sQm; omega)
theorem QM.rf (h : Mem) : QM h h := ⟨Fr.rf _ _, Back9.rf h⟩
theorem QM.tr {h h1 h2 : Mem} (A : QM h h1) (B : QM h1 h2) : QM h h2 := ⟨A.1.tr B.1, A.2.tr B.2⟩
theorem QM.of {s : Int → Int → Prop} {h h' : Mem} (f : Fr s h h') (a : ∀ b j : Int, s b j → sQm b j) (n : ∀ b j : Int, s b j → b ≠ 178 ∧ b ≠ 182 ∧ ¬ (185 ≤ b ∧ b ≤ 187)) : QM h h' :=
  ⟨f.mono a, Back9.of fun b j z => f b j fun w => by have := n b j w; omega⟩
theorem QM.cn {h h' : Mem} (f : Fr sCn h h') : QM h h' := QM.of f (fun b j z => by unfold sCn at z; unfold sQm; omega) fun b j z => by unfold sCn at z; omega
/-- the law in force -/
def lawZ (Z : Zt) : Option Vf := if Z.f = -1 then none else (Z.rl[Z.f.toNat]?).map sumF
theorem IX.law {h : Mem} {Z : Zt} (I : IX h Z) : XLaw h (lawZ Z) := by
  have K := I.ok.f
  have r6 := I.ok.r6
  unfold XLaw lawZ
  rw [I.e8]
  by_cases c : Z.f = -1
  · rw [if_pos c]; exact Or.inl ⟨c, rfl⟩
  · rw [if_neg c]
    have hn : Z.f.toNat < Z.rl.length := by omega
    have g : Z.rl[Z.f.toNat]? = some Z.rl[Z.f.toNat] := List.getElem?_eq_getElem hn
    have w := I.rl.2 _ _ g
    rw [show ((Z.f.toNat : Nat) : Int) = Z.f by omega] at w
    have ok := I.ok.cl _ (List.getElem_mem hn)
    rw [g]
    exact Or.inr ⟨by omega, by omega, w.1, Or.inr ⟨w.1, Z.rl[Z.f.toNat], w.2, ok.1, ok.2, rfl⟩⟩
theorem IM.law {h : Mem} {Z : Zt} (I : IM h Z) : LawM h (lawZ Z) := by
  have K := I.ok.f
  unfold LawM lawZ
  rw [I.e12]
  by_cases c : Z.f = -1
  · rw [if_pos c]; exact Or.inl ⟨c, rfl⟩
  · rw [if_neg c]
    have hn : Z.f.toNat < Z.rl.length := by omega
    have g : Z.rl[Z.f.toNat]? = some Z.rl[Z.f.toNat] := List.getElem?_eq_getElem hn
    have w := I.rl.2 _ _ g
    rw [show ((Z.f.toNat : Nat) : Int) = Z.f by omega] at w
    have ok := I.ok.cl _ (List.getElem_mem hn)
    rw [g]
    exact Or.inr ⟨Z.rl[Z.f.toNat], w, ok.1, ok.2, rfl⟩
theorem IX.xt {h : Mem} {Z : Zt} (I : IX h Z) : XT h := by
  have z := I.str
  cases hs : Z.s with
  | none => rw [hs] at z; exact Or.inl z
  | some T => rw [hs] at z; exact Or.inr z.1
