/-! THE JUDGEMENT OVER THE MEMORY, AND ITS ROWS -/
set_option maxRecDepth 100000
def sO : List (String × Nat × String) := [("LatestCoat$Fault", 1, "fault"), ("LatestCoat", 52, "street"), ("LatestCoat", 54, "thing"), ("LatestCoat", 56, "painter"), ("LatestCoat", 58, "coat"), ("LatestCoat", 60, "bare"), ("LatestCoat", 62, "rain"), ("LatestCoat", 64, "suit"), ("LatestCoat", 70, "paint"), ("LatestCoat", 75, "cell"), ("LatestCoat", 77, "rent"), ("LatestCoat", 79, "top"), ("LatestCoat", 81, "wet"), ("LatestCoat", 83, "whose"), ("LatestCoat", 85, "mine"), ("LatestCoat", 87, "owner"), ("LatestCoat", 89, "coats"), ("LatestCoat", 91, "purse"), ("LatestCoat", 93, "hour"), ("LatestCoat$Text", 214, "if"), ("LatestCoat$Text", 257, "not"), ("LatestCoat$Text", 255, "and"), ("LatestCoat$Text", 245, "or"), ("LatestCoatModel", 295, "street"), ("LatestCoatModel", 179, "thing"), ("LatestCoatModel", 175, "painter"), ("LatestCoatModel", 297, "coat"), ("LatestCoatModel", 299, "bare"), ("LatestCoatModel", 197, "rain"), ("LatestCoatModel", 301, "suit"), ("LatestCoatModel", 352, "paint"), ("LatestCoatModel", 177, "cell"), ("LatestCoatModel", 181, "rent"), ("LatestCoatModel", 182, "top"), ("LatestCoatModel", 184, "wet"), ("LatestCoatModel", 186, "whose"), ("LatestCoatModel", 188, "mine"), ("LatestCoatModel", 190, "owner"), ("LatestCoatModel", 192, "coats"), ("LatestCoatModel", 194, "purse"), ("LatestCoatModel", 195, "hour"), ("LatestCoatModel", 354, "if"), ("LatestCoatModel", 277, "not"), ("LatestCoatModel", 291, "and"), ("LatestCoatModel", 293, "or")]
def sB : List (List Int) := [[102, 97, 117, 108, 116], [115, 116, 114, 101, 101, 116], [116, 104, 105, 110, 103], [112, 97, 105, 110, 116, 101, 114], [99, 111, 97, 116], [98, 97, 114, 101], [114, 97, 105, 110], [115, 117, 105, 116], [112, 97, 105, 110, 116], [99, 101, 108, 108], [114, 101, 110, 116], [116, 111, 112], [119, 101, 116], [119, 104, 111, 115, 101], [109, 105, 110, 101], [111, 119, 110, 101, 114], [99, 111, 97, 116, 115], [112, 117, 114, 115, 101], [104, 111, 117, 114], [105, 102], [110, 111, 116], [97, 110, 100], [111, 114], [115, 116, 114, 101, 101, 116], [116, 104, 105, 110, 103], [112, 97, 105, 110, 116, 101, 114], [99, 111, 97, 116], [98, 97, 114, 101], [114, 97, 105, 110], [115, 117, 105, 116], [112, 97, 105, 110, 116], [99, 101, 108, 108], [114, 101, 110, 116], [116, 111, 112], [119, 101, 116], [119, 104, 111, 115, 101], [109, 105, 110, 101], [111, 119, 110, 101, 114], [99, 111, 97, 116, 115], [112, 117, 114, 115, 101], [104, 111, 117, 114], [105, 102], [110, 111, 116], [97, 110, 100], [111, 114]]
def sL (i : Nat) : Nat := (sB.getD i []).length
def sC (i j : Nat) : Int := (sB.getD i []).getD j 0
abbrev sK (i : Nat) : Int := -(2 + 2 * (i : Int))
abbrev sV (i : Nat) : Int := -(3 + 2 * (i : Int))
/-- the strings, and statics that nobody writes -/
def SG (G : GT) (U : State) : Prop :=
  (∀ i : Nat, i < 45 → (va_O "java/lang/String" (ad G (sK i)) (gA G) U G.2.1 ∧ va_OF "java/lang/String" "coder" "B" (.int 0) (ad G (sK i)) (gA G) U G.2.1 ∧ va_OF "java/lang/String" "value" "[B" (.ref (ad G (sV i))) (ad G (sK i)) (gA G) U G.2.1 ∧ va_T .byte (ad G (sV i)) (sL i) (fun j => .int (Int32.ofInt (sC i j))) (gA G) U G.2.1) ∧ vk_R (sO.getD i ("", 0, "")).1 (sO.getD i ("", 0, "")).2.1 (sO.getD i ("", 0, "")).2.2 (ad G (sK i)) U) ∧
  va_Z "java/lang/String" "COMPACT_STRINGS" "Z" (.int 1) (gA G) U G.2.1 ∧
  va_Z "java/lang/Throwable" "UNASSIGNED_STACK" "[Ljava/lang/StackTraceElement;" (rv G (rf (G.2.2.2.2.2.2 0))) (gA G) U G.2.1 ∧
  va_Z "java/lang/Throwable" "SUPPRESSED_SENTINEL" "Ljava/util/List;" (rv G (rf (G.2.2.2.2.2.2 1))) (gA G) U G.2.1 ∧
  va_Z "jdk/internal/util/Preconditions" "SIOOBE_FORMATTER" "Ljava/util/function/BiFunction;" (rv G (rf (G.2.2.2.2.2.2 2))) (gA G) U G.2.1
def isNst : Cond → Bool
  | .fieldLinkNest _ _ _ _ _ _ => true
  | .methodLinkNest _ _ _ _ => true
  | .declares _ => true
  | .arrayOver (.object _) => true
  | .castable _ _ => true
  | _ => false
def lw_nst : List Cond := lw_tbl.filter isNst
theorem lw_n {w : Cond} (h : w ∈ lw_tbl) (g : isNst w = true) : w ∈ lw_nst := List.mem_filter.mpr ⟨h, g⟩
theorem nst_warm {w : Cond} (hw : isNst w = true) {s U : State} (hW : s.WarmedH U.vm) (h : va_Nw w s) : va_Nw w U := by
  unfold isNst at hw
  split at hw
  · exact va_Nw.warmF hW h
  · exact va_Nw.warmM hW h
  · exact va_Nw.warmD hW h
  · exact va_AO.moved hW.alike h
  · exact va_Nw.warmC hW h
  · cases hw
theorem nst_same {w : Cond} (hw : isNst w = true) {s U : State} (hv : s.vm = U.vm) (h : va_Nw w s) : va_Nw w U := by
  unfold isNst at hw
  split at hw
  · exact va_Nw.same rfl hv h
  · exact va_Nw.same rfl hv h
  · exact va_Nw.same rfl hv h
  · exact va_AO.moved (by rw [hv]; exact Vm.Alike.refl _) h
  · exact va_Nw.same rfl hv h
  · cases hw
/-- what holds of the tables all through -/
def KG (G : GT) (U : State) : Prop := va_K (gD G) vwCl (tysL G) U ∧ (∀ w ∈ lw_nst, va_Nw w U) ∧ SG G U ∧ G.2.1.size = G.1
theorem SG.warm {G : GT} {s U : State} (hW : s.WarmedH U.vm) (h : SG G s) : SG G U :=
  ⟨fun i hi => ⟨⟨va_O.moved hW.alike (h.1 i hi).1.1, va_OF.moved hW.alike (h.1 i hi).1.2.1, va_OF.moved hW.alike (h.1 i hi).1.2.2.1, va_T.moved hW.alike (h.1 i hi).1.2.2.2⟩, vk_R.warm hW (h.1 i hi).2⟩, va_Z.moved hW.alike h.2.1, va_Z.moved hW.alike h.2.2.1, va_Z.moved hW.alike h.2.2.2.1, va_Z.moved hW.alike h.2.2.2.2⟩
theorem SG.same {G : GT} {s U : State} (hv : U.vm = s.vm) (h : SG G s) : SG G U := by
  have hA : s.vm.Alike U.vm := by rw [hv]; exact Vm.Alike.refl _
  exact ⟨fun i hi => ⟨⟨va_O.moved hA (h.1 i hi).1.1, va_OF.moved hA (h.1 i hi).1.2.1, va_OF.moved hA (h.1 i hi).1.2.2.1, va_T.moved hA (h.1 i hi).1.2.2.2⟩, vk_R.same hv (h.1 i hi).2⟩, va_Z.moved hA h.2.1, va_Z.moved hA h.2.2.1, va_Z.moved hA h.2.2.2.1, va_Z.moved hA h.2.2.2.2⟩
theorem KG.warm {G : GT} {s U : State} (hW : s.WarmedH U.vm) (h : KG G s) : KG G U :=
  ⟨va_K.moved hW.alike h.1, fun w hw => nst_warm (List.mem_filter.mp hw).2 hW (h.2.1 w hw), SG.warm hW h.2.2.1, h.2.2.2⟩
theorem KG.same {G : GT} {s U : State} (hv : U.vm = s.vm) (h : KG G s) : KG G U :=
  ⟨va_K.moved (by rw [hv]; exact Vm.Alike.refl _) h.1, fun w hw => nst_same (List.mem_filter.mp hw).2 hv.symm (h.2.1 w hw), SG.same hv h.2.2.1, h.2.2.2⟩
def rmD (d kc ks : Nat) : Room := { frames := d, cells := kc, slots := ks, locals := 64 * d }
/-- what a method's walk may use -/
def Cx (G : GT) (X : MX) (cc : ByteArray) (nL : Nat) (own : String) (d kc ks : Nat) (ret : Option FieldType) (nm : String) : Prop :=
  X.1.tables.exec = Jvm.exec ∧ X.2.2.2.2.2.2.2.2.2.code = cc ∧ X.2.2.2.2.2.2.2.2.2.maxLocals = nL ∧ X.2.2.2.2.1.vm.findClass own = some X.2.2.2.2.2.1.cls ∧ (∀ w ∈ lw_all, w.before X.2.2.2.2.2.2.1 X.2.2.2.2.1 = true) ∧ X.2.2.2.2.2.2.2.2.1.locks = false ∧ X.2.2.2.1 = rmD d kc ks ∧ KG G X.2.2.2.2.1 ∧ X.2.2.2.2.2.2.2.2.1.sig.returnType = ret ∧ X.2.2.2.2.2.2.2.2.1.name = nm
def V (G : GT) (X : MX) (nL uc us : Nat) (Q : State → Prop) (pc : Nat) (lv : List (Nat × AV)) (st : List AV) (h : Mem) : Prop :=
  ∀ (H : Heap) (locs : List Loc) (ls : Array Slot), HR G h H → HL G locs → lv_has ls nL (lv.map fun q => (q.1, rv G q.2)) →
    W X.1 X.2.1 X.2.2.1 X.2.2.2.1 X.2.2.2.2.1 X.2.2.2.2.2.1 X.2.2.2.2.2.2.1 X.2.2.2.2.2.2.2.1 X.2.2.2.2.2.2.2.2.1 X.2.2.2.2.2.2.2.2.2 H locs uc us Q (F0 X.2.2.2.2.2.1 pc ls (st.map (rv G)))
/-- an answer: 0 int, 1 long, 2 reference, 3 none -/
def rov (G : GT) (t : Nat) (r : Int) : Option Value := if t = 3 then none else some (rv G (t, r))
def psh (t : Nat) (r : Int) (st : List AV) : List AV := if t = 3 then st else (t, r) :: st
theorem rov_psh (G : GT) (t : Nat) (r : Int) (st : List AV) : (rov G t r).toList ++ st.map (rv G) = (psh t r st).map (rv G) := by
  unfold rov psh
  split <;> rfl
def Pq (G : GT) (as : List AV) (h : Mem) : Array Value → State → Prop := fun a U => a = (as.map (rv G)).toArray ∧ HR G h U.heap ∧ KG G U
def Qq (G : GT) (t : Nat) (Post : Int → Mem → Prop) : Array Value → State → Outcome → State → Prop := fun _ _ o T => ∃ (r : Int) (h' : Mem), o = .returned (rov G t r) ∧ HR G h' T.heap ∧ Post r h'
/-- A CONTRACT over the memory: from h, with these arguments, the method returns so that Post -/
def Ct (G : GT) (l : Launch) (y : MethodName) (cc : ByteArray) (nL : Nat) (ret : Option FieldType) (t d kc ks : Nat) (as : List AV) (h : Mem) (Post : Int → Mem → Prop) : Prop :=
  Met l y (ws_ y cc nL ret) (rmD d kc ks) (Pq G as h) (Qq G t Post) kc ks (gA G)
def QF (G : GT) (X : MX) (t kc ks : Nat) (Post : Int → Mem → Prop) : State → Prop := MQ X.2.2.2.2.2.2.2.1 (Qq G t Post) X.2.2.2.2.2.2.1 X.2.2.2.2.1 kc ks (gA G)
def avw : List AV → Nat
  | [] => 0
  | v :: vs => (if v.1 = 1 then 2 else 1) + avw vs
def avp : Nat → List AV → List (Nat × AV)
  | _, [] => []
  | i, v :: vs => (i, v) :: avp (if v.1 = 1 then i + 2 else i + 1) vs
theorem avw_sl (G : GT) : ∀ as : List AV, (lg_sl (as.map (rv G))).length = avw as
  | [] => rfl
  | v :: vs => by
    have ih := avw_sl G vs
    have e : lg_sl ((v :: vs).map (rv G)) = (if (rv G v).category = 2 then [.val (rv G v), .second] else [.val (rv G v)]) ++ lg_sl (vs.map (rv G)) := by simp [lg_sl]
    rw [e, List.length_append, ih, rv_cat, avw]
    by_cases h1 : v.1 = 1
    · simp [h1]
    · simp [h1]
theorem avp_args (G : GT) : ∀ (as : List AV) (i : Nat), lv_args i (as.map (rv G)) = (avp i as).map fun q => (q.1, rv G q.2)
  | [], _ => rfl
  | v :: vs, i => by
    show (i, rv G v) :: lv_args (if (rv G v).category = 2 then i + 2 else i + 1) (vs.map (rv G)) = _
    rw [rv_cat]
    by_cases h1 : v.1 = 1
    · simp only [h1, if_true, avp, List.map_cons]
      rw [avp_args G vs]
    · simp only [h1, if_false, avp, List.map_cons]
      rw [if_neg (by omega), avp_args G vs]
set_option maxHeartbeats 4000000 in
theorem ct_of {G : GT} {l : Launch} {y : MethodName} {cc : ByteArray} {nL : Nat} {ret : Option FieldType} {t d kc ks : Nat} {as : List AV} {h : Mem} {Post : Int → Mem → Prop} (hy : plainName y.cls = true) (hn : avw as ≤ nL)
    (body : ∀ X : MX, Cx G X cc nL y.cls d kc ks ret y.name → X.2.1 = l → V G X nL 0 0 (QF G X t kc ks Post) 0 (avp 0 as) [] h) : Ct G l y cc nL ret t d kc ks as h Post := by
  refine Met.ofW (cc := cc) (maxL := nL) (ret := ret) hy rfl ?_
  intro p e s m args below meth c s₁ B hml hv
  obtain ⟨rfl, hH, hK⟩ := hv
  have hts0 := atoms_spec (ws := ws_ y cc nL ret) B.pre
  have hts : ∀ w ∈ lw_all, w.before _ s = true := fun w h => hts0 w (List.mem_cons_of_mem _ h)
  have hown : s.vm.findClass y.cls = some m.cls := findClass_of_methodNamed B.named
  have hnm : meth.name = y.name := (name_of_methodNamed B.named B.method).1
  have hC : Cx G (p, l, e, rmD d kc ks, s, m, (as.map (rv G)).toArray, below, meth, c) cc nL y.cls d kc ks ret y.name := ⟨B.exec, B.bytes, hml, hown, hts, B.notSynchronized, rfl, hK, B.returns, hnm⟩
  have hb := body _ hC rfl
  have hl := lv_entry (as.map (rv G)) (n := nL) (by rw [avw_sl]; exact hn)
  rw [avp_args] at hl
  rw [lg_entry_eq]
  exact hb s.heap [] _ hH (fun q hq => by cases hq) hl
/-- Post may be weakened -/
theorem Ct.mono {G : GT} {l : Launch} {y : MethodName} {cc : ByteArray} {nL : Nat} {ret : Option FieldType} {t d kc ks : Nat} {as : List AV} {h : Mem} {P P' : Int → Mem → Prop} (hc : Ct G l y cc nL ret t d kc ks as h P) (hp : ∀ r h', P r h' → P' r h') : Ct G l y cc nL ret t d kc ks as h P' := by
  intro p e ha hcn hk s m args below hf hap hP hT
  obtain ⟨k, o, h1, h2, h3, ⟨⟨r, h', e1, e2, e3⟩, hfr⟩⟩ := hc p e ha hcn hk s m args below hf hap hP hT
  exact ⟨k, o, h1, h2, h3, ⟨⟨r, h', e1, e2, hp r h' e3⟩, hfr⟩⟩
