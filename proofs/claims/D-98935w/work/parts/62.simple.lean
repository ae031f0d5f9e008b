/-! feed, end, force, seed, log -/
set_option maxRecDepth 100000
def sHotX : Int → Int → Prop := fun b j => (b = 1 ∧ (j = 0 ∨ j = 7 ∨ j = 8 ∨ j = 11)) ∨ (2 ≤ b ∧ b ≤ 17) ∨ b = 167
theorem IX.part {h h' : Mem} {Z Z' : Zt} (I : IX h Z) (e : EX h h') (f : ∀ b j : Int, 1 ≤ b → b < h 0 0 → ¬ sQX b j → ¬ sHotX b j → h' b j = h b j) (K : ZOk Z') (st : XStr h' Z'.s) (hx : h' 1 7 = Z'.x) (hf : h' 1 8 = Z'.f) (tp : TpX h' Z') (er : Z'.rl = Z.rl) (ei : Z'.im = Z.im) : IX h' Z' := by
  have A := I.xs
  have hb := A.1
  have f16 : h' 1 16 = h 1 16 := f 1 16 (by omega) (by omega) (by unfold sQX sQx; omega) (by unfold sHotX; omega)
  have ff : ∀ b j : Int, (147 ≤ b ∧ b ≤ 164) ∨ (168 ≤ b ∧ b ≤ 171) ∨ b = 176 → h' b j = h b j := fun b j z => f b j (by omega) (by omega) (by unfold sQX sQx; omega) (by unfold sHotX; omega)
  have k : KF h h' := I.fx.kf fun b j b0 b1 => f b j (by omega) b1 (by unfold sQX sQx; omega) (by unfold sHotX; omega)
  refine ⟨I.fx.ext e, K, st, ⟨hx, hf⟩, ?_, tp, fun q q0 q1 => ?_, fun i q i0 i1 q0 q1 n z => ?_, ⟨fun j j0 j1 => (ff 147 j (by omega)).trans (I.bl.1 j j0 j1), fun q q0 q1 x x0 x1 => (ff (147 + q) x (by omega)).trans (I.bl.2 q q0 q1 x x0 x1)⟩⟩
  · rw [er]; exact I.rl.keep k e.1 f16 fun j => ff 171 j (by omega)
  · rw [ei]
    have z := I.im q q0 q1
    cases hq : Z.im q with
    | none => rw [hq] at z; exact (ff 176 q (by omega)).trans z
    | some J =>
      rw [hq] at z
      have w := z.2.lt
      show h' 176 q ≠ 0 ∧ ImX h' (h' 176 q) J
      rw [ff 176 q (by omega)]
      exact ⟨z.1, z.2.keep e.1 fun b j b0 b1 => f b j (by omega) (by omega) (by unfold sQX sQx; omega) (by unfold sHotX; omega)⟩
  · rw [ff 176 i (by omega)] at z ⊢
    rw [ff 176 q (by omega)]
    exact I.ap i q i0 i1 q0 q1 n z
def sHotM : Int → Int → Prop := fun b j => (b = 177 ∧ (j = 27 ∨ j = 51)) ∨ (179 ≤ b ∧ b ≤ 194) ∨ b = 204 ∨ b = 216
theorem IM.part {h h' : Mem} {Z Z' : Zt} (I : IM h Z) (e : EX h h') (f : ∀ b j : Int, 177 ≤ b → b ≤ 225 → ¬ sQm b j → ¬ sHotM b j → h' b j = h b j) (K : ZOk Z') (st : StrM h' Z'.s) (hx : h' 178 11 = Z'.x) (hf : h' 178 12 = Z'.f) (tp : TpM h' Z') (er : Z'.rl = Z.rl) (ei : Z'.im = Z.im) : IM h' Z' := by
  have f7 : ∀ j : Int, j = 31 ∨ j = 36 → h' 177 j = h 177 j := fun j z => f 177 j (by omega) (by omega) (by unfold sQm; omega) (by unfold sHotM; omega)
  have ff : ∀ b j : Int, (205 ≤ b ∧ b ≤ 210) ∨ b = 225 → h' b j = h b j := fun b j z => f b j (by omega) (by omega) (by unfold sQm; omega) (by unfold sHotM; omega)
  refine ⟨I.fx.ext e, K, st, ⟨hx, hf⟩, ?_, tp, fun q q0 q1 => ?_, (f7 36 (by omega)).trans I.w13⟩
  · rw [er]
    exact ⟨(f7 31 (by omega)).trans I.rl.1, fun i cl hi => (I.rl.2 i cl hi).keep fun b j z => ff b j (by unfold rIn at z; omega)⟩
  · rw [ei]
    have z := I.im q q0 q1
    cases hq : Z.im q with
    | none => rw [hq] at z; exact (ff 225 q (by omega)).trans z
    | some J =>
      rw [hq] at z
      obtain ⟨z1, h0, z2, z3, z4, z5⟩ := z
      exact ⟨(ff 225 q (by omega)).trans z1, h0, z2, z3, z4, z5.keep q0 q1 fun j j1 => f 224 j (by omega) (by omega) (by unfold sQm; omega) (by unfold sHotM; omega)⟩
theorem StrM.keep {h h' : Mem} {s : Option Tn} (q : StrM h s) (e : Ext h h') (M : MS h) (f : ∀ b j : Int, (b = 178 ∧ 0 ≤ j ∧ j ≤ 10) ∨ (179 ≤ b ∧ b ≤ 194) ∨ b = 216 ∨ (b = 177 ∧ j = 51) → h' b j = h b j) : StrM h' s := by
  cases s with
  | none => exact ⟨fun j j0 j1 => (f 178 j (by omega)).trans (q.1 j j0 j1), (f 177 51 (by omega)).trans q.2⟩
  | some T =>
    have w : TownM h T := q
    have Kc := w.mr.en.cm
    have Kp := w.mr.en.pm
    exact ⟨w.1, w.mr.keep e fun b j z => f b j (by unfold mIn at z; omega), w.td.like (by omega) (by omega) w.ok.told (f 194 0 (by omega)) (fun i _ _ => f 191 i (by omega)) (fun i _ _ => f 192 i (by omega)) (fun i _ _ => f 193 i (by omega)), w.un.like (by omega) (by omega) w.ok.un w.ok.uns (f 177 51 (by omega)) (fun j _ _ => f 216 j (by omega)), w.lg.like w.ok.lg (f 178 10 (by omega)) fun j _ _ => ⟨f 188 j (by omega), f 189 j (by omega), f 190 j (by omega)⟩⟩
def zS (Z : Zt) (s : Option Tn) : Zt := (s, Z.x, Z.f, Z.rl, (Z.tn, Z.tp), Z.im)
def zX (Z : Zt) (x : Int) : Zt := (Z.s, x, Z.f, Z.rl, (Z.tn, Z.tp), Z.im)
def zF (Z : Zt) (f : Int) : Zt := (Z.s, Z.x, f, Z.rl, (Z.tn, Z.tp), Z.im)
def zT (Z : Zt) (t : Int × (Int → Int)) : Zt := (Z.s, Z.x, Z.f, Z.rl, t, Z.im)
theorem ZOk.zS {Z : Zt} (K : ZOk Z) (s : Option Tn) : ZOk (zS Z s) := K
theorem ZOk.zX {Z : Zt} (K : ZOk Z) {x : Int} (hx : 0 ≤ x ∧ R32 x) : ZOk (zX Z x) := ⟨hx, K.2⟩
theorem ZOk.zF {Z : Zt} (K : ZOk Z) {f : Int} (hf : -1 ≤ f ∧ f < Z.rl.length) : ZOk (zF Z f) := ⟨K.1, hf, K.2.2⟩
theorem ZOk.zT {Z : Zt} (K : ZOk Z) {t : Int × (Int → Int)} (h1 : 0 ≤ t.1 ∧ t.1 ≤ 400) (h2 : ∀ i : Int, 0 ≤ i → i < t.1 → -128 ≤ t.2 i ∧ t.2 i < 128) : ZOk (zT Z t) := ⟨K.1, K.2.1, K.2.2.1, K.2.2.2.1, h1, h2, K.2.2.2.2.2.2⟩
section
variable {G : GT} {h : Mem} {Z : Zt} {P : Int → Mem → Prop} {l : Launch}
/-! the tape -/
def byT (v : Int) (t : Int × (Int → Int)) (k : Int) : Int × (Int → Int) := (t.1 + 1, fu t.2 t.1 (w8 (bShr v k)))
def fourT (t : Int × (Int → Int)) (v : Int) : Int × (Int → Int) := byT v (byT v (byT v (byT v t 24) 16) 8) 0
def ByOk (t : Int × (Int → Int)) : Prop := 0 ≤ t.1 ∧ ∀ i : Int, 0 ≤ i → i < t.1 → -128 ≤ t.2 i ∧ t.2 i < 128
theorem w8_rng (x : Int) : -128 ≤ w8 x ∧ w8 x < 128 := by unfold w8; omega
theorem ByOk.by {t : Int × (Int → Int)} (K : ByOk t) (v k : Int) : ByOk (byT v t k) := by
  refine ⟨by have := K.1; show 0 ≤ t.1 + 1; omega, fun i i0 i1 => ?_⟩
  show -128 ≤ fu t.2 t.1 (w8 (bShr v k)) i ∧ fu t.2 t.1 (w8 (bShr v k)) i < 128
  by_cases q : i = t.1
  · rw [q, fu_s]; exact w8_rng _
  · rw [fu_n q]; exact K.2 i i0 (by have : i < t.1 + 1 := i1; omega)
theorem ByOk.four {t : Int × (Int → Int)} (K : ByOk t) (v : Int) : ByOk (fourT t v) := (((K.by v 24).by v 16).by v 8).by v 0
theorem fourT_1 (t : Int × (Int → Int)) (v : Int) : (fourT t v).1 = t.1 + 4 := by
  show t.1 + 1 + 1 + 1 + 1 = t.1 + 4; omega
def TXp (h : Mem) (t : Int × (Int → Int)) : Prop := h 1 11 = t.1 ∧ ∀ i : Int, 0 ≤ i → i < t.1 → h 167 i = t.2 i
def TMp (h : Mem) (t : Int × (Int → Int)) : Prop := h 177 27 = t.1 ∧ ∀ i : Int, 0 ≤ i → i < t.1 → h 204 i = t.2 i
def sTpX : Int → Int → Prop := fun b j => (b = 1 ∧ j = 11) ∨ b = 167
def sTpM : Int → Int → Prop := fun b j => (b = 177 ∧ j = 27) ∨ b = 204
theorem l_four1 {X : MX} {h0 : Mem} (C : Cx G X cX0_four 3 RX0 0 0 0 none "four") {v k : Int} (Rv : R32 v) (k0 : 0 ≤ k) (k1 : k ≤ 24) {t : Int × (Int → Int)} (K : ByOk t) (n : t.1 < 400) (A : XS h) (B : EX h0 h) (tp : TXp h t)
    (go : ∀ h' : Mem, EX h h' → Fr sTpX h h' → TXp h' (byT v t k) → EX h0 h' → V G X 3 0 0 (QF G X 3 0 0 (PR h0 P)) 3 [(0, rf 1), (1, iv v), (2, iv (k + -8))] [] h') :
    V G X 3 0 0 (QF G X 3 0 0 (PR h0 P)) 3 [(0, rf 1), (1, iv v), (2, iv k)] [] h := by
  have K1 := K.1
  refine wX0_four_L3 C ⟨B, Rv, ⟨by omega, by omega⟩⟩ ⟨A, fun z => absurd z (by omega), fun _ => ?_⟩
  rw [tp.1]
  refine ⟨by omega, n, fun h4 e4 => ⟨⟨by omega, by omega⟩, fun h8 e8 => ⟨⟨by omega, by omega⟩, fun B' => ?_⟩⟩⟩
  have w := w8_rng (bShr v k)
  have x4 : EX h h4 := by rw [e4]; exact EX_up (EX.rf B.2) A.k167 (by decide) rfl (by omega) (okI_a (Or.inr (Or.inl rfl)) ⟨by omega, by omega⟩)
  have x8 : EX h h8 := by rw [e8]; exact EX_up x4 (A.ext x4.1).k1 (by decide) rfl (by decide) (okI_i rfl ⟨by omega, by omega⟩)
  refine go h8 x8 (by rw [e8, e4]; exact ((Fr.rf _ _).up (Or.inr rfl)).up (Or.inl ⟨rfl, rfl⟩)) ⟨by rw [e8, up_s]; rfl, fun i i0 i1 => ?_⟩ B'.1
  have i1' : i < t.1 + 1 := i1
  rw [e8, up_a (by decide), e4]
  show _ = fu t.2 t.1 (w8 (bShr v k)) i
  by_cases q : i = t.1
  · rw [q, up_s, fu_s]
  · rw [up_i q, fu_n q]; exact tp.2 i i0 (by omega)
theorem sX0_four (A : XS h) {v : Int} {t : Int × (Int → Int)} (K : ByOk t) (n : t.1 + 4 ≤ 400) (tp : TXp h t) (hp : ∀ h' : Mem, EX h h' → Fr sTpX h h' → TXp h' (fourT t v) → P 0 h') : kX0_four G l v h P := by
  refine eX0_four fun X C e B => fun B' => ?_
  have t1 : ∀ (s : Int × (Int → Int)) (k : Int), (byT v s k).1 = s.1 + 1 := fun s k => rfl
  refine l_four1 C B'.2.1 (by decide) (by decide) K (by omega) A B'.1 tp fun h1 e1 f1 p1 b1 => ?_
  refine l_four1 C B'.2.1 (by decide) (by decide) (K.by v _) (by rw [t1]; omega) (A.ext e1.1) b1 p1 fun h2 e2 f2 p2 b2 => ?_
  refine l_four1 C B'.2.1 (by decide) (by decide) ((K.by v _).by v _) (by rw [t1, t1]; omega) ((A.ext e1.1).ext e2.1) b2 p2 fun h3 e3 f3 p3 b3 => ?_
  refine l_four1 C B'.2.1 (by decide) (by decide) (((K.by v _).by v _).by v _) (by rw [t1, t1, t1]; omega) (((A.ext e1.1).ext e2.1).ext e3.1) b3 p3 fun h4 e4 f4 p4 b4 => ?_
  refine wX0_four_L3 C ⟨b4, B'.2.1, ⟨by decide, by decide⟩⟩ ⟨(((A.ext e1.1).ext e2.1).ext e3.1).ext e4.1, fun _ => ?_, fun z => absurd z (by decide)⟩
  exact hp h4 (((e1.tr e2).tr e3).tr e4) (((f1.tr f2).tr f3).tr f4) p4
theorem l_put1 {X : MX} {h0 : Mem} (C : Cx G X cX3_put 3 RX3 0 0 0 none "put") {v k : Int} (Rv : R32 v) (k0 : 0 ≤ k) (k1 : k ≤ 24) {t : Int × (Int → Int)} (K : ByOk t) (n : t.1 < 400) (A : MS h) (B : EX h0 h) (tp : TMp h t)
    (go : ∀ h' : Mem, EX h h' → Fr sTpM h h' → TMp h' (byT v t k) → EX h0 h' → V G X 3 0 0 (QF G X 3 0 0 (PR h0 P)) 3 [(0, rf 177), (1, iv v), (2, iv (k + -8))] [] h') :
    V G X 3 0 0 (QF G X 3 0 0 (PR h0 P)) 3 [(0, rf 177), (1, iv v), (2, iv k)] [] h := by
  have K1 := K.1
  refine wX3_put_L3 C ⟨B, Rv, ⟨by omega, by omega⟩⟩ ⟨A, fun z => absurd z (by omega), fun _ => ?_⟩
  rw [tp.1]
  refine ⟨by omega, n, fun h4 e4 => ⟨⟨by omega, by omega⟩, fun h8 e8 => ⟨⟨by omega, by omega⟩, fun B' => ?_⟩⟩⟩
  have w := w8_rng (bShr v k)
  have x4 : EX h h4 := by rw [e4]; exact EX_up (EX.rf B.2) A.k204 (by decide) rfl (by omega) (okI_a (Or.inr (Or.inl rfl)) ⟨by omega, by omega⟩)
  have x8 : EX h h8 := by rw [e8]; exact EX_up x4 (A.ext x4.1).k177 (by decide) rfl (by decide) (okI_i rfl ⟨by omega, by omega⟩)
  refine go h8 x8 (by rw [e8, e4]; exact ((Fr.rf _ _).up (Or.inr rfl)).up (Or.inl ⟨rfl, rfl⟩)) ⟨by rw [e8, up_s]; rfl, fun i i0 i1 => ?_⟩ B'.1
  have i1' : i < t.1 + 1 := i1
  rw [e8, up_a (by decide), e4]
  show _ = fu t.2 t.1 (w8 (bShr v k)) i
  by_cases q : i = t.1
  · rw [q, up_s, fu_s]
  · rw [up_i q, fu_n q]; exact tp.2 i i0 (by omega)
theorem sX3_put (A : MS h) {v : Int} {t : Int × (Int → Int)} (K : ByOk t) (n : t.1 + 4 ≤ 400) (tp : TMp h t) (hp : ∀ h' : Mem, EX h h' → Fr sTpM h h' → TMp h' (fourT t v) → P 0 h') : kX3_put G l v h P := by
  refine eX3_put fun X C e B => fun B' => ?_
  have t1 : ∀ (s : Int × (Int → Int)) (k : Int), (byT v s k).1 = s.1 + 1 := fun s k => rfl
  refine l_put1 C B'.2.1 (by decide) (by decide) K (by omega) A B'.1 tp fun h1 e1 f1 p1 b1 => ?_
  refine l_put1 C B'.2.1 (by decide) (by decide) (K.by v _) (by rw [t1]; omega) (A.ext e1.1) b1 p1 fun h2 e2 f2 p2 b2 => ?_
  refine l_put1 C B'.2.1 (by decide) (by decide) ((K.by v _).by v _) (by rw [t1, t1]; omega) ((A.ext e1.1).ext e2.1) b2 p2 fun h3 e3 f3 p3 b3 => ?_
  refine l_put1 C B'.2.1 (by decide) (by decide) (((K.by v _).by v _).by v _) (by rw [t1, t1, t1]; omega) (((A.ext e1.1).ext e2.1).ext e3.1) b3 p3 fun h4 e4 f4 p4 b4 => ?_
  refine wX3_put_L3 C ⟨b4, B'.2.1, ⟨by decide, by decide⟩⟩ ⟨(((A.ext e1.1).ext e2.1).ext e3.1).ext e4.1, fun _ => ?_, fun z => absurd z (by decide)⟩
  exact hp h4 (((e1.tr e2).tr e3).tr e4) (((f1.tr f2).tr f3).tr f4) p4
theorem IX.tape {h h' : Mem} (I : IX h Z) (e : EX h h') (f : Fr sTpX h h') {t : Int × (Int → Int)} (tp : TXp h' t) (K : ByOk t) (n : t.1 ≤ 400) : IX h' (zT Z t) :=
  I.part e (fun b j _ _ _ q => f b j (by unfold sTpX; unfold sHotX at q; omega)) (I.ok.zT ⟨K.1, n⟩ K.2) (I.str.keep e.1 (f 1 0 (by unfold sTpX; omega)) fun b j b0 b1 => f b j (by unfold sTpX; omega)) ((f 1 7 (by unfold sTpX; omega)).trans I.e7) ((f 1 8 (by unfold sTpX; omega)).trans I.e8) tp rfl rfl
theorem IM.tape {h h' : Mem} (I : IM h Z) (e : EX h h') (f : Fr sTpM h h') {t : Int × (Int → Int)} (tp : TMp h' t) (K : ByOk t) (n : t.1 ≤ 400) : IM h' (zT Z t) :=
  I.part e (fun b j _ _ _ q => f b j (by unfold sTpM; unfold sHotM at q; omega)) (I.ok.zT ⟨K.1, n⟩ K.2) (I.str.keep e.1 I.ms fun b j z => f b j (by unfold sTpM; omega)) ((f 178 11 (by unfold sTpM; omega)).trans I.e11) ((f 178 12 (by unfold sTpM; omega)).trans I.e12) tp rfl rfl
theorem IX.txp (I : IX h Z) : TXp h (Z.tn, Z.tp) := I.tp
theorem IM.tmp (I : IM h Z) : TMp h (Z.tn, Z.tp) := I.tp
theorem ZOk.by {Z : Zt} (K : ZOk Z) : ByOk (Z.tn, Z.tp) := ⟨K.tn.1, K.tp⟩
def zFeed (Z : Zt) (a b c d e : Int) : Zt := if Z.tn + 20 ≤ 400 then zT Z (fourT (fourT (fourT (fourT (fourT (Z.tn, Z.tp) a) b) c) d) e) else Z
def aFeed (Z : Zt) : Int := if Z.tn + 20 ≤ 400 then Z.tn + 20 else -1
theorem oX_feed (I : IX h Z) {a b c d e : Int} (hp : ∀ h' : Mem, EX h h' → FrX h h' → IX h' (zFeed Z a b c d e) → P (aFeed Z) h') : kX0_feed G l a b c d e h P := by
  refine eX0_feed fun X C e9 B => ⟨I.xs, ?_⟩
  have K := I.ok.tn
  have Kb := I.ok.by
  have p0 := I.txp
  rw [p0.1]
  refine ⟨⟨by show -2147483648 ≤ Z.tn + 20; omega, by show Z.tn + 20 < 2147483648; omega⟩, fun n => ?_, fun n => ?_⟩
  · have n : Z.tn + 20 ≤ 400 := n
    have z0 : (Z.tn, Z.tp).1 = Z.tn := rfl
    refine sX0_four I.xs Kb (by omega) p0 fun h1 e1 f1 p1 _ => ?_
    have A1 := I.xs.ext e1.1
    refine sX0_four A1 (Kb.four a) (by rw [fourT_1]; omega) p1 fun h2 e2 f2 p2 _ => ?_
    have A2 := A1.ext e2.1
    refine sX0_four A2 ((Kb.four a).four b) (by rw [fourT_1, fourT_1]; omega) p2 fun h3 e3 f3 p3 _ => ?_
    have A3 := A2.ext e3.1
    refine sX0_four A3 (((Kb.four a).four b).four c) (by rw [fourT_1, fourT_1, fourT_1]; omega) p3 fun h4 e4 f4 p4 _ => ?_
    have A4 := A3.ext e4.1
    refine sX0_four A4 ((((Kb.four a).four b).four c).four d) (by rw [fourT_1, fourT_1, fourT_1, fourT_1]; omega) p4 fun h5 e5 f5 p5 _ => ?_
    have ee := (((e1.tr e2).tr e3).tr e4).tr e5
    have ff := (((f1.tr f2).tr f3).tr f4).tr f5
    have hz : (fourT (fourT (fourT (fourT (fourT (Z.tn, Z.tp) a) b) c) d) e).1 = Z.tn + 20 := by rw [fourT_1, fourT_1, fourT_1, fourT_1, fourT_1]; omega
    have := hp h5 ee (fun b j b0 b1 => ff b j (by unfold sTpX; omega)) (by rw [zFeed, if_pos n]; exact I.tape ee ff p5 (((((Kb.four a).four b).four c).four d).four e) (by rw [hz]; exact n))
    rw [aFeed, if_pos n] at this
    rw [p5.1, hz]
    exact this
  · have n : Z.tn + 20 > 400 := n
    have := hp h (EX.rf I.oz) (fun _ _ _ _ => rfl) (by rw [zFeed, if_neg (by omega)]; exact I)
    rw [aFeed, if_neg (by omega)] at this
    exact this
theorem oM_feed (I : IM h Z) {a b c d e : Int} (hp : ∀ h' : Mem, EX h h' → FrM h h' → IM h' (zFeed Z a b c d e) → P (aFeed Z) h') : kX3_feed G l a b c d e h P := by
  refine eX3_feed fun X C e9 B => ⟨I.ms, ?_⟩
  have K := I.ok.tn
  have Kb := I.ok.by
  have p0 := I.tmp
  rw [p0.1]
  refine ⟨⟨by show -2147483648 ≤ Z.tn + 20; omega, by show Z.tn + 20 < 2147483648; omega⟩, fun n => ?_, fun n => ?_⟩
  · have n : Z.tn + 20 ≤ 400 := n
    have z0 : (Z.tn, Z.tp).1 = Z.tn := rfl
    refine sX3_put I.ms Kb (by omega) p0 fun h1 e1 f1 p1 _ => ?_
    have A1 := I.ms.ext e1.1
    refine sX3_put A1 (Kb.four a) (by rw [fourT_1]; omega) p1 fun h2 e2 f2 p2 _ => ?_
    have A2 := A1.ext e2.1
    refine sX3_put A2 ((Kb.four a).four b) (by rw [fourT_1, fourT_1]; omega) p2 fun h3 e3 f3 p3 _ => ?_
    have A3 := A2.ext e3.1
    refine sX3_put A3 (((Kb.four a).four b).four c) (by rw [fourT_1, fourT_1, fourT_1]; omega) p3 fun h4 e4 f4 p4 _ => ?_
    have A4 := A3.ext e4.1
    refine sX3_put A4 ((((Kb.four a).four b).four c).four d) (by rw [fourT_1, fourT_1, fourT_1, fourT_1]; omega) p4 fun h5 e5 f5 p5 _ => ?_
    have ee := (((e1.tr e2).tr e3).tr e4).tr e5
    have ff := (((f1.tr f2).tr f3).tr f4).tr f5
    have hz : (fourT (fourT (fourT (fourT (fourT (Z.tn, Z.tp) a) b) c) d) e).1 = Z.tn + 20 := by rw [fourT_1, fourT_1, fourT_1, fourT_1, fourT_1]; omega
    have := hp h5 ee (fun b j z => ff b j (by unfold sTpM; omega)) (by rw [zFeed, if_pos n]; exact I.tape ee ff p5 (((((Kb.four a).four b).four c).four d).four e) (by rw [hz]; exact n))
    rw [aFeed, if_pos n] at this
    rw [p5.1, hz]
    exact this
  · have n : Z.tn + 20 > 400 := n
    have := hp h (EX.rf I.oz) (fun _ _ _ => rfl) (by rw [zFeed, if_neg (by omega)]; exact I)
    rw [aFeed, if_neg (by omega)] at this
    exact this
def zEnd (Z : Zt) (n : Int) : Zt := if 0 ≤ n ∧ n ≤ Z.tn then zT Z (n, Z.tp) else Z
def aEnd (Z : Zt) (n : Int) : Int := if 0 ≤ n ∧ n ≤ Z.tn then n else -1
theorem oX_end (I : IX h Z) {n : Int} (hp : ∀ h' : Mem, EX h h' → FrX h h' → IX h' (zEnd Z n) → P (aEnd Z n) h') : kX0_end G l n h P := by
  refine eX0_end fun X C e9 B => ⟨I.xs, ?_⟩
  have K := I.ok.tn
  have no : ¬ (0 ≤ n ∧ n ≤ Z.tn) → P (-1) h := fun q => by
    have := hp h (EX.rf I.oz) (fun _ _ _ _ => rfl) (by rw [zEnd, if_neg q]; exact I)
    rw [aEnd, if_neg q] at this
    exact this
  rw [I.tp.1]
  refine ⟨fun q => no (by omega), fun q => ⟨fun q2 h3 e3 => ?_, fun q2 => no (by omega)⟩⟩
  have hy : 0 ≤ n ∧ n ≤ Z.tn := ⟨q, q2⟩
  have x3 : EX h h3 := by rw [e3]; exact EX_up (EX.rf I.oz) I.xs.k1 (by decide) rfl (by decide) (okI_i rfl ⟨by omega, by omega⟩)
  have f3 : Fr sTpX h h3 := by rw [e3]; exact (Fr.rf _ _).up (Or.inl ⟨rfl, rfl⟩)
  have := hp h3 x3 (fun b j b0 b1 => f3 b j (by unfold sTpX; omega)) (by
    rw [zEnd, if_pos hy]
    exact I.tape x3 f3 (t := (n, Z.tp)) ⟨by rw [e3, up_s], fun i i0 i1 => by rw [e3, up_a (by decide)]; exact I.tp.2 i i0 (by have : i < n := i1; omega)⟩ ⟨q, fun i i0 i1 => I.ok.tp i i0 (by have : i < n := i1; omega)⟩ (by show n ≤ 400; omega))
  rw [aEnd, if_pos hy] at this
  exact this
theorem oM_end (I : IM h Z) {n : Int} (hp : ∀ h' : Mem, EX h h' → FrM h h' → IM h' (zEnd Z n) → P (aEnd Z n) h') : kX3_end G l n h P := by
  refine eX3_end fun X C e9 B => ⟨I.ms, ?_⟩
  have K := I.ok.tn
  have no : ¬ (0 ≤ n ∧ n ≤ Z.tn) → P (-1) h := fun q => by
    have := hp h (EX.rf I.oz) (fun _ _ _ => rfl) (by rw [zEnd, if_neg q]; exact I)
    rw [aEnd, if_neg q] at this
    exact this
  rw [I.tp.1]
  refine ⟨fun q => no (by omega), fun q => ⟨fun q2 h3 e3 => ?_, fun q2 => no (by omega)⟩⟩
  have hy : 0 ≤ n ∧ n ≤ Z.tn := ⟨q, q2⟩
  have x3 : EX h h3 := by rw [e3]; exact EX_up (EX.rf I.oz) I.ms.k177 (by decide) rfl (by decide) (okI_i rfl ⟨by omega, by omega⟩)
  have f3 : Fr sTpM h h3 := by rw [e3]; exact (Fr.rf _ _).up (Or.inl ⟨rfl, rfl⟩)
  have := hp h3 x3 (fun b j z => f3 b j (by unfold sTpM; omega)) (by
    rw [zEnd, if_pos hy]
    exact I.tape x3 f3 (t := (n, Z.tp)) ⟨by rw [e3, up_s], fun i i0 i1 => by rw [e3, up_a (by decide)]; exact I.tp.2 i i0 (by have : i < n := i1; omega)⟩ ⟨q, fun i i0 i1 => I.ok.tp i i0 (by have : i < n := i1; omega)⟩ (by show n ≤ 400; omega))
  rw [aEnd, if_pos hy] at this
  exact this
/-! the rule in force, the seed -/
def zForce (Z : Zt) (n : Int) : Zt := if -1 ≤ n ∧ n < (Z.rl.length : Int) then zF Z n else Z
def aForce (Z : Zt) (n : Int) : Int := if -1 ≤ n ∧ n < (Z.rl.length : Int) then Z.f else -2
theorem oX_force (I : IX h Z) {n : Int} (hp : ∀ h' : Mem, EX h h' → FrX h h' → IX h' (zForce Z n) → P (aForce Z n) h') : kX0_force G l n h P := by
  refine eX0_force fun X C e9 B => ⟨I.xs, ?_⟩
  have K := I.ok.r6
  have no : ¬ (-1 ≤ n ∧ n < (Z.rl.length : Int)) → P (-2) h := fun q => by
    have := hp h (EX.rf I.oz) (fun _ _ _ _ => rfl) (by rw [zForce, if_neg q]; exact I)
    rw [aForce, if_neg q] at this
    exact this
  have yes : (-1 ≤ n ∧ n < (Z.rl.length : Int)) → ∀ h3 : Mem, h3 = up h 1 8 n → P Z.f h3 := fun hy h3 e3 => by
    have x3 : EX h h3 := by rw [e3]; exact EX_up (EX.rf I.oz) I.xs.k1 (by decide) rfl (by decide) (okI_i rfl ⟨by omega, by omega⟩)
    have f3 : ∀ b j : Int, ¬ (b = 1 ∧ j = 8) → h3 b j = h b j := fun b j z => by rw [e3, up_n z]
    have := hp h3 x3 (fun b j b0 b1 => f3 b j (by omega)) (by
      rw [zForce, if_pos hy]
      exact I.part x3 (fun b j _ _ _ z => f3 b j (by unfold sHotX at z; omega)) (I.ok.zF hy) (I.str.keep x3.1 (f3 1 0 (by omega)) fun b j b0 b1 => f3 b j (by omega)) ((f3 1 7 (by omega)).trans I.e7) (by rw [e3, up_s]; rfl) ⟨(f3 1 11 (by omega)).trans I.tp.1, fun i i0 i1 => (f3 167 i (by omega)).trans (I.tp.2 i i0 i1)⟩ rfl rfl)
    rw [aForce, if_pos hy] at this
    exact this
  rw [I.rl.1, I.e8]
  refine ⟨fun q y ey h3 e3 => by rw [ey]; exact yes (by omega) h3 e3, fun q => ⟨fun q2 => no (by omega), fun q2 => ⟨fun q3 y ey h3 e3 => by rw [ey]; exact yes (by omega) h3 e3, fun q3 => no (by omega)⟩⟩⟩
theorem oM_force (I : IM h Z) {n : Int} (hp : ∀ h' : Mem, EX h h' → FrM h h' → IM h' (zForce Z n) → P (aForce Z n) h') : kX3_force G l n h P := by
  refine eX3_force fun X C e9 B => ⟨I.ms, ?_⟩
  have K := I.ok.r6
  rw [I.rl.1]
  refine ⟨⟨by omega, by omega⟩, sX3_in fun _ => ?_⟩
  by_cases hy : -1 ≤ n ∧ n < (Z.rl.length : Int)
  · rw [if_pos (by omega), I.e12]
    refine ⟨fun _ y ey h3 e3 => ?_, fun z => by cases z⟩
    have x3 : EX h h3 := by rw [e3]; exact EX_up (EX.rf I.oz) I.ms.k178 (by decide) rfl (by decide) (okI_a (Or.inl rfl) ⟨by omega, by omega⟩)
    have f3 : ∀ b j : Int, ¬ (b = 178 ∧ j = 12) → h3 b j = h b j := fun b j z => by rw [e3, up_n z]
    have := hp h3 x3 (fun b j z => f3 b j (by omega)) (by
      rw [zForce, if_pos hy]
      exact I.part x3 (fun b j _ _ z _ => f3 b j (by unfold sQm at z; omega)) (I.ok.zF hy) (I.str.keep x3.1 I.ms fun b j z => f3 b j (by omega)) ((f3 178 11 (by omega)).trans I.e11) (by rw [e3, up_s]; rfl) ⟨(f3 177 27 (by omega)).trans I.tp.1, fun i i0 i1 => (f3 204 i (by omega)).trans (I.tp.2 i i0 i1)⟩ rfl rfl)
    rw [aForce, if_pos hy] at this
    rw [ey]; exact this
  · rw [if_neg (by omega)]
    refine ⟨fun z => absurd rfl z, fun _ => ?_⟩
    have := hp h (EX.rf I.oz) (fun _ _ _ => rfl) (by rw [zForce, if_neg hy]; exact I)
    rw [aForce, if_neg hy] at this
    exact this
def zSeed (Z : Zt) (n : Int) : Zt := if 0 ≤ n then zX Z n else Z
def aSeed (Z : Zt) (n : Int) : Int := if 0 ≤ n then Z.x else -1
theorem oX_seed (I : IX h Z) {n : Int} (hp : ∀ h' : Mem, EX h h' → FrX h h' → IX h' (zSeed Z n) → P (aSeed Z n) h') : kX0_seed G l n h P := by
  refine eX0_seed fun X C e9 B => ⟨I.xs, fun hy y ey h3 e3 => ?_, fun q => ?_⟩
  · have x3 : EX h h3 := by rw [e3]; exact EX_up (EX.rf I.oz) I.xs.k1 (by decide) rfl (by decide) (okI_i rfl B.2)
    have f3 : ∀ b j : Int, ¬ (b = 1 ∧ j = 7) → h3 b j = h b j := fun b j z => by rw [e3, up_n z]
    have := hp h3 x3 (fun b j b0 b1 => f3 b j (by omega)) (by
      rw [zSeed, if_pos hy]
      exact I.part x3 (fun b j _ _ _ z => f3 b j (by unfold sHotX at z; omega)) (I.ok.zX ⟨hy, B.2⟩) (I.str.keep x3.1 (f3 1 0 (by omega)) fun b j b0 b1 => f3 b j (by omega)) (by rw [e3, up_s]; rfl) ((f3 1 8 (by omega)).trans I.e8) ⟨(f3 1 11 (by omega)).trans I.tp.1, fun i i0 i1 => (f3 167 i (by omega)).trans (I.tp.2 i i0 i1)⟩ rfl rfl)
    rw [aSeed, if_pos hy] at this
    rw [ey, I.e7]; exact this
  · have := hp h (EX.rf I.oz) (fun _ _ _ _ => rfl) (by rw [zSeed, if_neg (by omega)]; exact I)
    rw [aSeed, if_neg (by omega)] at this
    exact this
theorem oM_seed (I : IM h Z) {n : Int} (hp : ∀ h' : Mem, EX h h' → FrM h h' → IM h' (zSeed Z n) → P (aSeed Z n) h') : kX3_seed G l n h P := by
  refine eX3_seed fun X C e9 B => ⟨I.ms, fun hy y ey h3 e3 => ?_, fun q => ?_⟩
  · have x3 : EX h h3 := by rw [e3]; exact EX_up (EX.rf I.oz) I.ms.k178 (by decide) rfl (by decide) (okI_a (Or.inl rfl) B.2)
    have f3 : ∀ b j : Int, ¬ (b = 178 ∧ j = 11) → h3 b j = h b j := fun b j z => by rw [e3, up_n z]
    have := hp h3 x3 (fun b j z => f3 b j (by omega)) (by
      rw [zSeed, if_pos hy]
      exact I.part x3 (fun b j _ _ z _ => f3 b j (by unfold sQm at z; omega)) (I.ok.zX ⟨hy, B.2⟩) (I.str.keep x3.1 I.ms fun b j z => f3 b j (by omega)) (by rw [e3, up_s]; rfl) ((f3 178 12 (by omega)).trans I.e12) ⟨(f3 177 27 (by omega)).trans I.tp.1, fun i i0 i1 => (f3 204 i (by omega)).trans (I.tp.2 i i0 i1)⟩ rfl rfl)
    rw [aSeed, if_pos hy] at this
    rw [ey, I.e11]; exact this
  · have := hp h (EX.rf I.oz) (fun _ _ _ => rfl) (by rw [zSeed, if_neg (by omega)]; exact I)
    rw [aSeed, if_neg (by omega)] at this
    exact this
end
