/-! CONSTRUCTORS: what they may write -/
set_option maxRecDepth 100000
theorem EX_upN {h0 h : Mem} (B : EX h0 h) {b i x K : Int} (hk : h b (-1) = K) (hK : K ≠ 0) (hle : h0 0 0 ≤ b) (hi : 0 ≤ i) (hx : okI K i x) : EX h0 (up h b i x) := by
  subst hk
  have hb1 := (B.2.2.1 b hK).1
  have e0 : up h b i x 0 0 = h 0 0 := up_a (by omega)
  refine ⟨⟨by rw [e0]; exact B.1.1, fun a a1 a2 => ?_⟩, OkZ_up B.2 hK hi hx⟩
  obtain ⟨q1, q2, q3⟩ := B.1.2 a a1 a2
  exact ⟨(up_i (by omega)).trans q1, (up_i (by omega)).trans q2, fun j j0 f => (up_a (by omega)).trans (q3 j j0 f)⟩
/-- from h0 to h a constructor of the cell a has worked: whatever stood below a is as it was -/
def BX (a : Int) (h0 h : Mem) : Prop := OkZ h ∧ ∀ g, EX g h0 → g 0 0 ≤ a → EX g h
theorem BX.rf {a : Int} {h : Mem} (O : OkZ h) : BX a h h := ⟨O, fun _ e _ => e⟩
theorem BX_up {a : Int} {h0 h : Mem} (B : BX a h0 h) {b i x K : Int} (hk : h b (-1) = K) (hK : K ≠ 0) (hle : a ≤ b) (hi : 0 ≤ i) (hx : okI K i x) : BX a h0 (up h b i x) :=
  ⟨OkZ_up B.1 (by rw [hk]; exact hK) hi (by rw [hk]; exact hx), fun g e q => EX_upN (B.2 g e q) hk hK (Int.le_trans q hle) hi hx⟩
theorem BX_alloc {a : Int} {h0 h : Mem} (B : BX a h0 h) {k n : Int} (hk0 : 0 ≤ k) (hk1 : k < 1000) (hn0 : 0 ≤ n) (hn : n < 2147483648) : BX a h0 (alloc h k n) :=
  ⟨(EX_alloc (EX.rf B.1) hk0 hk1 hn0 hn).2, fun g e q => EX_alloc (B.2 g e q) hk0 hk1 hn0 hn⟩
theorem BX_call {a b : Int} {h0 h h' : Mem} (B : BX a h0 h) (hle : a ≤ b) (C : BX b h h') : BX a h0 h' := ⟨C.1, fun g e q => C.2 g (B.2 g e q) (Int.le_trans q hle)⟩
def PN (a : Int) (h0 : Mem) (P : Int → Mem → Prop) : Int → Mem → Prop := fun r h' => BX a h0 h' ∧ P r h'
def PE (h0 : Mem) (PX : Mem → Prop) : Mem → Prop := fun h' => EX h0 h' ∧ PX h'
theorem EX.pos {g h : Mem} (B : EX g h) : 1 ≤ h 0 0 := B.2.2.2.1
/-- methods with handlers: contracts by their own words -/
def CtW (G : GT) (l : Launch) (y : MethodName) (cc : ByteArray) (nL : Nat) (ret : Option FieldType) (hh : List (Nat × Nat × Nat × Nat)) (t d kc ks : Nat) (as : List AV) (h : Mem) (Post : Int → Mem → Prop) : Prop :=
  Met l y (wsW_ y cc nL ret hh) (rmD d kc ks) (Pq G as h) (Qq G t Post) kc ks (gA G)
section
variable {G : GT} {X : MX} {cc : ByteArray} {nL : Nat} {own : String} {d kc ks : Nat} {ret : Option FieldType} {nm : String} {uc us : Nat} {Q : State → Prop} {pc : Nat} {lv : List (Nat × AV)} {st : List AV} {h : Mem} {Post : Int → Mem → Prop} {PX : Mem → Prop}
set_option maxHeartbeats 4000000 in
theorem ct_ofW {l : Launch} {y : MethodName} {hh : List (Nat × Nat × Nat × Nat)} {t : Nat} {as : List AV} (hy : plainName y.cls = true) (hn : avw as ≤ nL)
    (body : ∀ X : MX, Cx G X cc nL y.cls d kc ks ret y.name → HasH X hh → X.2.1 = l → V G X nL 0 0 (QF G X t kc ks Post) 0 (avp 0 as) [] h) : CtW G l y cc nL ret hh t d kc ks as h Post := by
  have hX : vx_Met l y (wsW_ y cc nL ret hh) (rmD d kc ks) (Pq G as h) (Qq G t Post) (fun _ _ _ => False) kc ks (gA G) := by
    refine vx_ofWH (cc := cc) (maxL := nL) (ret := ret) (hh := hh) hy rfl ?_
    intro p e s m args below meth c s₁ B hml hv
    obtain ⟨rfl, hH, hK⟩ := hv
    have hts0 := atoms_spec (ws := wsW_ y cc nL ret hh) B.pre
    have hts : ∀ w ∈ lw_all, w.before _ s = true := fun w h => hts0 w (List.mem_cons_of_mem _ h)
    have hown : s.vm.findClass y.cls = some m.cls := findClass_of_methodNamed B.named
    have hnm : meth.name = y.name := (name_of_methodNamed B.named B.method).1
    have hT := vx_table (x := y) B (hts0 _ List.mem_cons_self)
    have hC : Cx G (p, l, e, rmD d kc ks, s, m, (as.map (rv G)).toArray, below, meth, c) cc nL y.cls d kc ks ret y.name := ⟨B.exec, B.bytes, hml, hown, hts, B.notSynchronized, rfl, hK, B.returns, hnm⟩
    have hb := body _ hC hT rfl
    have hl := lv_entry (as.map (rv G)) (n := nL) (by rw [avw_sl]; exact hn)
    rw [avp_args] at hl
    rw [lg_entry_eq]
    exact vx_ret (hb s.heap [] _ hH (fun q hq => by cases hq) hl)
  intro p e ha hcn hk s m args below hf hap hP hT
  obtain ⟨k, o, h1, h2, h3, hq⟩ := hX p e ha hcn hk s m args below hf hap hP hT
  refine ⟨k, o, h1, h2, h3, ?_⟩
  rcases hq with z | ⟨q, e1, E, ce, L, f, e5⟩
  · exact z
  · exact f.elim
end
theorem v_w32 {G : GT} {X : MX} {nL : Nat} {uc us : Nat} {Q : State → Prop} {pc : Nat} {lv : List (Nat × AV)} {st : List AV} {h : Mem} {x : Int} (kk : V G X nL uc us Q pc lv (iv (w32 x) :: st) h) : V G X nL uc us Q pc lv (iv x :: st) h := by
  intro H locs ls hH hL hl
  have k := kk H locs ls hH hL hl
  rw [List.map_cons, rv_i, w32_cong] at k
  exact k
theorem v_topi {G : GT} {X : MX} {nL : Nat} {uc us : Nat} {Q : State → Prop} {pc : Nat} {lv : List (Nat × AV)} {st : List AV} {h : Mem} {x y : Int} (e : x = y) (kk : V G X nL uc us Q pc lv (rf y :: st) h) : V G X nL uc us Q pc lv (rf x :: st) h := e ▸ kk
theorem ck_up {m h : Mem} {b i x a K : Int} (e : m = up h b i x) (hi : -1 ≠ i) (hk : h a (-1) = K) : m a (-1) = K := by rw [e, up_i hi]; exact hk
theorem ck_al {m h : Mem} {k n a K : Int} (e : m = alloc h k n) (O : OkZ h) (hK : K ≠ 0) (hk : h a (-1) = K) : m a (-1) = K := by
  have := O.2.1 a (by rw [hk]; exact hK)
  rw [e, alloc_old (by omega) (by omega)]; exact hk
theorem ck_ex {m h : Mem} {a K : Int} (e : EX h m) (O : OkZ h) (hK : K ≠ 0) (hk : h a (-1) = K) : m a (-1) = K := by
  have := O.2.1 a (by rw [hk]; exact hK)
  rw [(e.1.2 a this.1 this.2).1]; exact hk
theorem ck_new {m h : Mem} {k n a : Int} (e : m = alloc h k n) (q : a = h 0 0) (O : OkZ h) : m a (-1) = k := by
  rw [e, q, alloc_new O.2.2.1, if_pos rfl]
