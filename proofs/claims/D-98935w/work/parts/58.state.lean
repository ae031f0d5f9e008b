/-! THE WHOLE STATE: a street with its past, rules, tape, images; X holds it, the model holds it -/
set_option maxRecDepth 100000
abbrev Lg : Type := List (Int × Int × Int)
/-- told numbers, what goes on, as told, the past, logs -/
def Tn : Type := En × St × St × List St × Lg
def Tn.en (T : Tn) : En := T.1
def Tn.st (T : Tn) : St := T.2.1
def Tn.told (T : Tn) : St := T.2.2.1
def Tn.un (T : Tn) : List St := T.2.2.2.1
def Tn.lg (T : Tn) : Lg := T.2.2.2.2
def LgOk (E : En) (x : Int × Int × Int) : Prop := (0 ≤ x.1 ∧ x.1 ≤ 99) ∧ (0 ≤ x.2.1 ∧ x.2.1 < E.tm) ∧ -1 ≤ x.2.2 ∧ x.2.2 < E.pm
def TnOk (T : Tn) : Prop := T.un.length ≤ 20 ∧ T.lg.length ≤ 10 ∧ StOk T.en T.told ∧ T.st.now ≤ 999 ∧ (∀ S ∈ T.un, StOk T.en S ∧ S.now ≤ 999) ∧ ∀ x ∈ T.lg, LgOk T.en x
def UnX (h : Mem) (a : Int) (E : En) (u : List St) : Prop := h a 9 = (u.length : Int) ∧ ∀ (k : Nat) (S : St), u[k]? = some S → RowX h a k E S
def LgX (h : Mem) (a : Int) (q : Lg) : Prop := h a 8 = (q.length : Int) ∧ ∀ (k : Nat) (x : Int × Int × Int), q[k]? = some x → h (a + 10) (3 * k) = x.1 ∧ h (a + 10) (3 * k + 1) = x.2.1 ∧ h (a + 10) (3 * k + 2) = x.2.2
def TownX (h : Mem) (a : Int) (T : Tn) : Prop := TnOk T ∧ TR h a T.en T.st ∧ TT h a T.en T.told ∧ UnX h a T.en T.un ∧ LgX h a T.lg
def TDm (h : Mem) (E : En) (S : St) : Prop :=
  (S.now = 0 ∧ h 194 0 = S.bare) ∧ (∀ c : Int, 0 ≤ c → c < E.cm → h 191 c = ((S.co c).length : Int) ∧ Col (h 192) (fun _ => -1) eM (5 * c) (S.co c)) ∧ (∀ p : Int, 0 ≤ p → p < E.pm → h 193 p = S.purse p)
def UnM (h : Mem) (E : En) (u : List St) : Prop := h 177 51 = (u.length : Int) ∧ ∀ (k : Nat) (S : St), u[k]? = some S → RowM h k E S
def LgM (h : Mem) (q : Lg) : Prop := h 178 10 = (q.length : Int) ∧ ∀ (k : Nat) (x : Int × Int × Int), q[k]? = some x → h 188 k = x.1 ∧ h 189 k = x.2.1 ∧ h 190 k = x.2.2
def TownM (h : Mem) (T : Tn) : Prop := TnOk T ∧ MR h T.en T.st ∧ TDm h T.en T.told ∧ UnM h T.en T.un ∧ LgM h T.lg
def NoM (h : Mem) : Prop := (∀ j : Int, 0 ≤ j → j ≤ 10 → h 178 j = 0) ∧ h 177 51 = 0
def XStr (h : Mem) : Option Tn → Prop
  | none => h 1 0 = 0
  | some T => h 1 0 = 2 ∧ TownX h 2 T
def StrM (h : Mem) : Option Tn → Prop
  | none => NoM h
  | some T => TownM h T
/-- the model's rows that an image holds: cell, length, place -/
def carR : List (Int × Int × Int) := [(178, 13, 0), (182, 4, 13), (185, 16, 17), (186, 80, 33), (187, 80, 113), (179, 5, 194), (180, 4, 199), (181, 4, 203), (183, 5, 207), (184, 5, 212), (188, 10, 217), (189, 10, 227), (190, 10, 237), (191, 16, 247), (192, 80, 263), (193, 4, 343), (194, 1, 347), (216, 3640, 348)]
def MLike (h h0 : Mem) : Prop := (∀ q ∈ carR, ∀ i : Int, 0 ≤ i → i < q.2.1 → h q.1 i = h0 q.1 i) ∧ h 177 51 = h0 177 51
def CarM (h : Mem) (k : Int) (h0 : Mem) : Prop := (∀ q ∈ carR, ∀ i : Int, 0 ≤ i → i < q.2.1 → h 224 (4100 * k + q.2.2 + i) = h0 q.1 i) ∧ h 224 (4100 * k + 193) = h0 177 51
abbrev Im : Type := Option Tn × Int × Int
/-- street, seed, rule in force, rules, tape, images -/
def Zt : Type := Option Tn × Int × Int × List Cl × (Int × (Int → Int)) × (Int → Option Im)
def Zt.s (Z : Zt) : Option Tn := Z.1
def Zt.x (Z : Zt) : Int := Z.2.1
def Zt.f (Z : Zt) : Int := Z.2.2.1
def Zt.rl (Z : Zt) : List Cl := Z.2.2.2.1
def Zt.tn (Z : Zt) : Int := Z.2.2.2.2.1.1
def Zt.tp (Z : Zt) : Int → Int := Z.2.2.2.2.1.2
def Zt.im (Z : Zt) : Int → Option Im := Z.2.2.2.2.2
def ClOk (cl : Cl) : Prop := okL (sumF cl) ∧ ∀ w, R64 (sumF cl w)
def ZOk (Z : Zt) : Prop := (0 ≤ Z.x ∧ R32 Z.x) ∧ (-1 ≤ Z.f ∧ Z.f < Z.rl.length) ∧ Z.rl.length ≤ 6 ∧ (∀ cl ∈ Z.rl, ClOk cl) ∧ (0 ≤ Z.tn ∧ Z.tn ≤ 400) ∧ (∀ i : Int, 0 ≤ i → i < Z.tn → -128 ≤ Z.tp i ∧ Z.tp i < 128) ∧
  ∀ (k : Int) (I : Im), Z.im k = some I → (0 ≤ I.2.1 ∧ R32 I.2.1) ∧ -1 ≤ I.2.2 ∧ I.2.2 < Z.rl.length
def ImT (h : Mem) (q : Int) : Option Tn → Prop
  | none => h q 1 = 0
  | some T => h q 1 = 1 ∧ TownX h (q + 1) T
def ImX (h : Mem) (q : Int) (I : Im) : Prop := 226 ≤ q ∧ h q (-1) = 14 ∧ h q 0 = q + 1 ∧ TownS h (q + 1) ∧ h q 2 = I.2.1 ∧ h q 3 = I.2.2 ∧ ImT h q I.1
def ImsX (h : Mem) (k : Int) : Option Im → Prop
  | none => h 176 k = 0
  | some I => h 176 k ≠ 0 ∧ ImX h (h 176 k) I
def ImsM (h : Mem) (k : Int) : Option Im → Prop
  | none => h 225 k = 0
  | some I => h 225 k = 1 ∧ ∃ h0 : Mem, StrM h0 I.1 ∧ h0 178 11 = I.2.1 ∧ h0 178 12 = I.2.2 ∧ CarM h k h0
def Blank (h : Mem) : Prop := (∀ j : Int, 0 ≤ j → j ≤ 12 → h 147 j = 0) ∧ ∀ k : Int, 1 ≤ k → k ≤ 15 → ∀ x : Int, 0 ≤ x → x < tLen k → h (147 + k) x = 0
def RlX (h : Mem) (rl : List Cl) : Prop := h 1 16 = (rl.length : Int) ∧ ∀ (k : Nat) (cl : Cl), rl[k]? = some cl → h 171 k ≠ 0 ∧ RuleX h (h 171 k) cl
def RlM (h : Mem) (rl : List Cl) : Prop := h 177 31 = (rl.length : Int) ∧ ∀ (k : Nat) (cl : Cl), rl[k]? = some cl → RuleM h k cl
def TpX (h : Mem) (Z : Zt) : Prop := h 1 11 = Z.tn ∧ ∀ i : Int, 0 ≤ i → i < Z.tn → h 167 i = Z.tp i
def TpM (h : Mem) (Z : Zt) : Prop := h 177 27 = Z.tn ∧ ∀ i : Int, 0 ≤ i → i < Z.tn → h 204 i = Z.tp i
def Fix (h : Mem) : Prop := XS h ∧ MS h ∧ OkZ h
def IX (h : Mem) (Z : Zt) : Prop := Fix h ∧ ZOk Z ∧ XStr h Z.s ∧ (h 1 7 = Z.x ∧ h 1 8 = Z.f) ∧ RlX h Z.rl ∧ TpX h Z ∧ (∀ k : Int, 0 ≤ k → k < 4 → ImsX h k (Z.im k)) ∧
  (∀ i k : Int, 0 ≤ i → i < 4 → 0 ≤ k → k < 4 → i ≠ k → h 176 i ≠ 0 → h 176 i ≠ h 176 k) ∧ Blank h
def IM (h : Mem) (Z : Zt) : Prop := Fix h ∧ ZOk Z ∧ StrM h Z.s ∧ (h 178 11 = Z.x ∧ h 178 12 = Z.f) ∧ RlM h Z.rl ∧ TpM h Z ∧ (∀ k : Int, 0 ≤ k → k < 4 → ImsM h k (Z.im k)) ∧ h 177 36 = 13
theorem IX.fx {h : Mem} {Z : Zt} (I : IX h Z) : Fix h := I.1
theorem IX.xs {h : Mem} {Z : Zt} (I : IX h Z) : XS h := I.1.1
theorem IX.ok {h : Mem} {Z : Zt} (I : IX h Z) : ZOk Z := I.2.1
theorem IX.str {h : Mem} {Z : Zt} (I : IX h Z) : XStr h Z.s := I.2.2.1
theorem IX.e7 {h : Mem} {Z : Zt} (I : IX h Z) : h 1 7 = Z.x := I.2.2.2.1.1
theorem IX.e8 {h : Mem} {Z : Zt} (I : IX h Z) : h 1 8 = Z.f := I.2.2.2.1.2
theorem IX.rl {h : Mem} {Z : Zt} (I : IX h Z) : RlX h Z.rl := I.2.2.2.2.1
theorem IX.tp {h : Mem} {Z : Zt} (I : IX h Z) : TpX h Z := I.2.2.2.2.2.1
theorem IX.im {h : Mem} {Z : Zt} (I : IX h Z) : ∀ k : Int, 0 ≤ k → k < 4 → ImsX h k (Z.im k) := I.2.2.2.2.2.2.1
theorem IX.ap {h : Mem} {Z : Zt} (I : IX h Z) : ∀ i k : Int, 0 ≤ i → i < 4 → 0 ≤ k → k < 4 → i ≠ k → h 176 i ≠ 0 → h 176 i ≠ h 176 k := I.2.2.2.2.2.2.2.1
theorem IX.bl {h : Mem} {Z : Zt} (I : IX h Z) : Blank h := I.2.2.2.2.2.2.2.2
theorem IM.fx {h : Mem} {Z : Zt} (I : IM h Z) : Fix h := I.1
theorem IM.ms {h : Mem} {Z : Zt} (I : IM h Z) : MS h := I.1.2.1
theorem IM.ok {h : Mem} {Z : Zt} (I : IM h Z) : ZOk Z := I.2.1
theorem IM.str {h : Mem} {Z : Zt} (I : IM h Z) : StrM h Z.s := I.2.2.1
theorem IM.e11 {h : Mem} {Z : Zt} (I : IM h Z) : h 178 11 = Z.x := I.2.2.2.1.1
theorem IM.e12 {h : Mem} {Z : Zt} (I : IM h Z) : h 178 12 = Z.f := I.2.2.2.1.2
theorem IM.rl {h : Mem} {Z : Zt} (I : IM h Z) : RlM h Z.rl := I.2.2.2.2.1
theorem IM.tp {h : Mem} {Z : Zt} (I : IM h Z) : TpM h Z := I.2.2.2.2.2.1
theorem IM.im {h : Mem} {Z : Zt} (I : IM h Z) : ∀ k : Int, 0 ≤ k → k < 4 → ImsM h k (Z.im k) := I.2.2.2.2.2.2.1
theorem IM.w13 {h : Mem} {Z : Zt} (I : IM h Z) : h 177 36 = 13 := I.2.2.2.2.2.2.2
theorem Fix.ext {h h' : Mem} (F : Fix h) (e : EX h h') : Fix h' := ⟨F.1.ext e.1, F.2.1.ext e.1, e.2⟩
theorem ZOk.x {Z : Zt} (K : ZOk Z) : 0 ≤ Z.x ∧ R32 Z.x := K.1
theorem ZOk.f {Z : Zt} (K : ZOk Z) : -1 ≤ Z.f ∧ Z.f < Z.rl.length := K.2.1
theorem ZOk.r6 {Z : Zt} (K : ZOk Z) : Z.rl.length ≤ 6 := K.2.2.1
theorem ZOk.cl {Z : Zt} (K : ZOk Z) : ∀ cl ∈ Z.rl, ClOk cl := K.2.2.2.1
theorem ZOk.tn {Z : Zt} (K : ZOk Z) : 0 ≤ Z.tn ∧ Z.tn ≤ 400 := K.2.2.2.2.1
theorem ZOk.tp {Z : Zt} (K : ZOk Z) : ∀ i : Int, 0 ≤ i → i < Z.tn → -128 ≤ Z.tp i ∧ Z.tp i < 128 := K.2.2.2.2.2.1
theorem ZOk.im {Z : Zt} (K : ZOk Z) : ∀ (k : Int) (I : Im), Z.im k = some I → (0 ≤ I.2.1 ∧ R32 I.2.1) ∧ -1 ≤ I.2.2 ∧ I.2.2 < Z.rl.length := K.2.2.2.2.2.2
theorem TownX.ok {h : Mem} {a : Int} {T : Tn} (q : TownX h a T) : TnOk T := q.1
theorem TownX.tr {h : Mem} {a : Int} {T : Tn} (q : TownX h a T) : TR h a T.en T.st := q.2.1
theorem TownX.tt {h : Mem} {a : Int} {T : Tn} (q : TownX h a T) : TT h a T.en T.told := q.2.2.1
theorem TownX.un {h : Mem} {a : Int} {T : Tn} (q : TownX h a T) : UnX h a T.en T.un := q.2.2.2.1
theorem TownX.lg {h : Mem} {a : Int} {T : Tn} (q : TownX h a T) : LgX h a T.lg := q.2.2.2.2
theorem TownM.ok {h : Mem} {T : Tn} (q : TownM h T) : TnOk T := q.1
theorem TownM.mr {h : Mem} {T : Tn} (q : TownM h T) : MR h T.en T.st := q.2.1
theorem TownM.td {h : Mem} {T : Tn} (q : TownM h T) : TDm h T.en T.told := q.2.2.1
theorem TownM.un {h : Mem} {T : Tn} (q : TownM h T) : UnM h T.en T.un := q.2.2.2.1
theorem TownM.lg {h : Mem} {T : Tn} (q : TownM h T) : LgM h T.lg := q.2.2.2.2
theorem TnOk.un {T : Tn} (q : TnOk T) : T.un.length ≤ 20 := q.1
theorem TnOk.lg {T : Tn} (q : TnOk T) : T.lg.length ≤ 10 := q.2.1
theorem TnOk.told {T : Tn} (q : TnOk T) : StOk T.en T.told := q.2.2.1
theorem TnOk.now {T : Tn} (q : TnOk T) : T.st.now ≤ 999 := q.2.2.2.1
theorem TnOk.uns {T : Tn} (q : TnOk T) : ∀ S ∈ T.un, StOk T.en S ∧ S.now ≤ 999 := q.2.2.2.2.1
theorem TnOk.lgs {T : Tn} (q : TnOk T) : ∀ x ∈ T.lg, LgOk T.en x := q.2.2.2.2.2
/-! rows of the past, told rows: kept by what doesn't touch them -/
theorem RowX.like {h h' : Mem} {a o k : Int} {E : En} {S : St} (r : RowX h o k E S) (Kc : E.cm ≤ 16) (Kp : E.pm ≤ 4) (O : StOk E S) (f : ∀ j : Int, 182 * k ≤ j → j < 182 * k + 182 → h' (a + 15) j = h (o + 15) j) : RowX h' a k E S := by
  refine ⟨⟨(f _ (by omega) (by omega)).trans r.1.1, (f _ (by omega) (by omega)).trans r.1.2⟩, fun c c0 c1 => ?_, fun p p0 p1 => (f _ (by omega) (by omega)).trans (r.2.2 p p0 p1)⟩
  have Z := (O.co c c0 c1).1
  exact ⟨(f _ (by omega) (by omega)).trans (r.2.1 c c0 c1).1, (r.2.1 c c0 c1).2.mono fun i i0 i1 => ⟨f _ (by omega) (by omega), f _ (by omega) (by omega)⟩⟩
theorem RowM.like {h h' : Mem} {k : Int} {E : En} {S : St} (r : RowM h k E S) (Kc : E.cm ≤ 16) (Kp : E.pm ≤ 4) (O : StOk E S) (f : ∀ j : Int, 182 * k ≤ j → j < 182 * k + 182 → h' 216 j = h 216 j) : RowM h' k E S := by
  refine ⟨⟨(f _ (by omega) (by omega)).trans r.1.1, (f _ (by omega) (by omega)).trans r.1.2⟩, fun c c0 c1 => ?_, fun p p0 p1 => (f _ (by omega) (by omega)).trans (r.2.2 p p0 p1)⟩
  have Z := (O.co c c0 c1).1
  exact ⟨(f _ (by omega) (by omega)).trans (r.2.1 c c0 c1).1, (r.2.1 c c0 c1).2.mono fun i i0 i1 => ⟨f _ (by omega) (by omega), f _ (by omega) (by omega)⟩⟩
theorem TT.like {h h' : Mem} {a o : Int} {E : En} {S : St} (r : TT h o E S) (Kc : E.cm ≤ 16) (Kp : E.pm ≤ 4) (O : StOk E S) (q : h' a 10 = h o 10) (f : ∀ k x : Int, 6 ≤ k → k ≤ 8 → 0 ≤ x → x < tLen k → h' (a + k) x = h (o + k) x) : TT h' a E S := by
  have t6 : tLen 6 = 4 := rfl
  have t7 : tLen 7 = 16 := rfl
  have t8 : tLen 8 = 80 := rfl
  refine ⟨⟨r.1.1, q.trans r.1.2⟩, fun c c0 c1 => ?_, fun p p0 p1 => (f 6 p (by omega) (by omega) p0 (by omega)).trans (r.2.2 p p0 p1)⟩
  have Z := (O.co c c0 c1).1
  exact ⟨(f 7 c (by omega) (by omega) c0 (by omega)).trans (r.2.1 c c0 c1).1, (r.2.1 c c0 c1).2.mono fun i i0 i1 => ⟨f 8 i (by omega) (by omega) (by omega) (by omega), rfl⟩⟩
theorem TDm.like {h h' : Mem} {E : En} {S : St} (r : TDm h E S) (Kc : E.cm ≤ 16) (Kp : E.pm ≤ 4) (O : StOk E S) (q : h' 194 0 = h 194 0) (f1 : ∀ i : Int, 0 ≤ i → i < 16 → h' 191 i = h 191 i) (f2 : ∀ i : Int, 0 ≤ i → i < 80 → h' 192 i = h 192 i) (f3 : ∀ i : Int, 0 ≤ i → i < 4 → h' 193 i = h 193 i) : TDm h' E S := by
  refine ⟨⟨r.1.1, q.trans r.1.2⟩, fun c c0 c1 => ?_, fun p p0 p1 => (f3 p p0 (by omega)).trans (r.2.2 p p0 p1)⟩
  have Z := (O.co c c0 c1).1
  exact ⟨(f1 c c0 (by omega)).trans (r.2.1 c c0 c1).1, (r.2.1 c c0 c1).2.mono fun i i0 i1 => ⟨f2 i (by omega) (by omega), rfl⟩⟩
theorem getq {α : Type} {l : List α} {k : Nat} {x : α} (h : l[k]? = some x) : k < l.length ∧ x ∈ l := ⟨(List.getElem?_eq_some_iff.mp h).1, List.mem_of_getElem? h⟩
theorem UnX.like {h h' : Mem} {a o : Int} {E : En} {u : List St} (r : UnX h o E u) (Kc : E.cm ≤ 16) (Kp : E.pm ≤ 4) (hu : u.length ≤ 20) (O : ∀ S ∈ u, StOk E S ∧ S.now ≤ 999) (q : h' a 9 = h o 9) (f : ∀ j : Int, 0 ≤ j → j < 3640 → h' (a + 15) j = h (o + 15) j) : UnX h' a E u :=
  ⟨q.trans r.1, fun k S hk => (r.2 k S hk).like Kc Kp (O S (getq hk).2).1 fun j j0 j1 => f j (by omega) (by have := (getq hk).1; omega)⟩
theorem UnM.like {h h' : Mem} {E : En} {u : List St} (r : UnM h E u) (Kc : E.cm ≤ 16) (Kp : E.pm ≤ 4) (hu : u.length ≤ 20) (O : ∀ S ∈ u, StOk E S ∧ S.now ≤ 999) (q : h' 177 51 = h 177 51) (f : ∀ j : Int, 0 ≤ j → j < 3640 → h' 216 j = h 216 j) : UnM h' E u :=
  ⟨q.trans r.1, fun k S hk => (r.2 k S hk).like Kc Kp (O S (getq hk).2).1 fun j j0 j1 => f j (by omega) (by have := (getq hk).1; omega)⟩
theorem LgX.like {h h' : Mem} {a o : Int} {q : Lg} (r : LgX h o q) (hq : q.length ≤ 10) (e : h' a 8 = h o 8) (f : ∀ j : Int, 0 ≤ j → j < 30 → h' (a + 10) j = h (o + 10) j) : LgX h' a q :=
  ⟨e.trans r.1, fun k x hk => by
    have z := (getq hk).1
    have w := r.2 k x hk
    exact ⟨(f _ (by omega) (by omega)).trans w.1, (f _ (by omega) (by omega)).trans w.2.1, (f _ (by omega) (by omega)).trans w.2.2⟩⟩
theorem LgM.like {h h' : Mem} {q : Lg} (r : LgM h q) (hq : q.length ≤ 10) (e : h' 178 10 = h 178 10) (f : ∀ j : Int, 0 ≤ j → j < 10 → h' 188 j = h 188 j ∧ h' 189 j = h 189 j ∧ h' 190 j = h 190 j) : LgM h' q :=
  ⟨e.trans r.1, fun k x hk => by
    have z := (getq hk).1
    have w := r.2 k x hk
    have g := f k (by omega) (by omega)
    exact ⟨g.1.trans w.1, g.2.1.trans w.2.1, g.2.2.trans w.2.2⟩⟩
theorem TownX.keep {h h' : Mem} {a : Int} {T : Tn} (q : TownX h a T) (e : Ext h h') (f : ∀ b j : Int, a ≤ b → b ≤ a + 15 → h' b j = h b j) : TownX h' a T := by
  have Kc := q.tr.en.cm
  have Kp := q.tr.en.pm
  refine ⟨q.1, q.tr.keep e fun b j z => f b j (by unfold tIn at z; omega) (by unfold tIn at z; omega), q.tt.like (by omega) (by omega) q.ok.told (f a 10 (by omega) (by omega)) (fun k x k0 k1 _ _ => f (a + k) x (by omega) (by omega)), q.un.like (by omega) (by omega) q.ok.un q.ok.uns (f a 9 (by omega) (by omega)) (fun j _ _ => f (a + 15) j (by omega) (by omega)), q.lg.like q.ok.lg (f a 8 (by omega) (by omega)) (fun j _ _ => f (a + 10) j (by omega) (by omega))⟩
/-- a copy of a street -/
theorem TownX.like {h h' : Mem} {a o : Int} {T : Tn} (q : TownX h o T) (A : TownS h a) (e : Ext h h') (f : ∀ j : Int, 0 ≤ j → j ≤ 12 → h' a j = h o j) (lk : Like h' a h o 1 15) : TownX h' a T := by
  have Kc := q.tr.en.cm
  have Kp := q.tr.en.pm
  refine ⟨q.1, q.tr.like A e f lk, q.tt.like (by omega) (by omega) q.ok.told (f 10 (by omega) (by omega)) (fun k x k0 k1 x0 x1 => lk k (by omega) (by omega) x x0 x1), q.un.like (by omega) (by omega) q.ok.un q.ok.uns (f 9 (by omega) (by omega)) (fun j j0 j1 => lk 15 (by omega) (by omega) j j0 j1), q.lg.like q.ok.lg (f 8 (by omega) (by omega)) (fun j j0 j1 => lk 10 (by omega) (by omega) j j0 j1)⟩
theorem MLike.r {h h0 : Mem} (k : MLike h h0) (b n o : Int) (m : (b, n, o) ∈ carR) : ∀ i : Int, 0 ≤ i → i < n → h b i = h0 b i := k.1 (b, n, o) m
theorem MR.like {h h0 : Mem} {E : En} {S : St} (T : MR h0 E S) (M : MS h) (k : MLike h h0) : MR h E S := by
  obtain ⟨t1, t2, t3, ⟨⟨a1, a2, a3, a4, a5, a6, a7, a8⟩, b, c, d, g⟩, ⟨k1, k2⟩, l, m⟩ := T
  have Kt := t2.tm
  have Kc := t2.cm
  have Kp := t2.pm
  have Kr := t2.rm
  have f0 := k.r 178 13 0 (by decide)
  refine ⟨M, t2, t3, ⟨⟨?_, ?_, ?_, ?_, ?_, ?_, ?_, ?_⟩, ?_, ?_, ?_, ?_⟩, ⟨?_, ?_⟩, ?_, ?_⟩
  · rw [f0 0 (by omega) (by omega)]; exact a1
  · rw [f0 1 (by omega) (by omega)]; exact a2
  · rw [f0 2 (by omega) (by omega)]; exact a3
  · rw [f0 3 (by omega) (by omega)]; exact a4
  · rw [f0 4 (by omega) (by omega)]; exact a5
  · rw [f0 5 (by omega) (by omega)]; exact a6
  · rw [f0 6 (by omega) (by omega)]; exact a7
  · rw [f0 7 (by omega) (by omega)]; exact a8
  · intro t h0 h1; rw [k.r 179 5 194 (by decide) t h0 (by omega)]; exact b t h0 h1
  · intro t h0 h1; rw [k.r 180 4 199 (by decide) t h0 (by omega)]; exact c t h0 h1
  · intro t h0 h1; rw [k.r 181 4 203 (by decide) t h0 (by omega)]; exact d t h0 h1
  · intro t h0 h1; rw [k.r 183 5 207 (by decide) t h0 (by omega), k.r 184 5 212 (by decide) t h0 (by omega)]; exact g t h0 h1
  · rw [f0 9 (by omega) (by omega)]; exact k1
  · rw [f0 8 (by omega) (by omega)]; exact k2
  · intro t h0 h1
    have Z := (t3.co t h0 h1).1
    rw [k.r 185 16 17 (by decide) t h0 (by omega)]
    exact ⟨(l t h0 h1).1, (l t h0 h1).2.mono fun i i0 i1 => ⟨k.r 186 80 33 (by decide) i (by omega) (by omega), k.r 187 80 113 (by decide) i (by omega) (by omega)⟩⟩
  · intro t h0 h1; rw [k.r 182 4 13 (by decide) t h0 (by omega)]; exact m t h0 h1
theorem StrM.like {h h0 : Mem} {s : Option Tn} (q : StrM h0 s) (M : MS h) (k : MLike h h0) : StrM h s := by
  cases s with
  | none => exact ⟨fun j j0 j1 => (k.r 178 13 0 (by decide) j j0 (by omega)).trans (q.1 j j0 j1), k.2.trans q.2⟩
  | some T =>
    have w : TownM h0 T := q
    have Kc := w.mr.en.cm
    have Kp := w.mr.en.pm
    exact ⟨w.1, w.mr.like M k, w.td.like (by omega) (by omega) w.ok.told (k.r 194 1 347 (by decide) 0 (by omega) (by omega)) (k.r 191 16 247 (by decide)) (k.r 192 80 263 (by decide)) (k.r 193 4 343 (by decide)), w.un.like (by omega) (by omega) w.ok.un w.ok.uns k.2 (k.r 216 3640 348 (by decide)), w.lg.like w.ok.lg (k.r 178 13 0 (by decide) 10 (by omega) (by omega)) fun j j0 j1 => ⟨k.r 188 10 217 (by decide) j j0 j1, k.r 189 10 227 (by decide) j j0 j1, k.r 190 10 237 (by decide) j j0 j1⟩⟩
theorem carR_ok : ∀ q ∈ carR, 177 < q.1 ∧ q.1 ≤ 216 ∧ ¬ (195 ≤ q.1 ∧ q.1 ≤ 215) ∧ 0 ≤ q.2.2 ∧ q.2.2 + q.2.1 ≤ 3988 ∧ (q.1 = 178 → q.2.1 = 13) ∧ (q.1 = 182 → q.2.1 = 4) ∧ (q.1 = 185 → q.2.1 = 16) ∧ (q.1 = 186 → q.2.1 = 80) ∧ (q.1 = 187 → q.2.1 = 80) := by decide +kernel
