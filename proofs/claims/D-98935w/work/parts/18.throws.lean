/-! CONTRACTS OF METHODS THAT MAY THROW THE FAULT -/
set_option maxRecDepth 100000
section THROWS
def XCf (G : GT) (PX : Mem → Prop) : String → State → State → Prop := fun E _ t => E = RX2 ∧ ∃ h', HR G h' t.heap ∧ PX h'
/-- from h, with these arguments, the method returns so that Post, or throws a Fault so that PX -/
def CtX (G : GT) (l : Launch) (y : MethodName) (cc : ByteArray) (nL : Nat) (ret : Option FieldType) (t d kc ks : Nat) (as : List AV) (h : Mem) (Post : Int → Mem → Prop) (PX : Mem → Prop) : Prop :=
  vx_Met l y (ws_ y cc nL ret) (rmD d kc ks) (Pq G as h) (Qq G t Post) (XCf G PX) kc ks (gA G)
def QX (G : GT) (X : MX) (t kc ks : Nat) (Post : Int → Mem → Prop) (PX : Mem → Prop) : State → Prop := vx_MQ X.2.2.2.2.2.2.2.1 (Qq G t Post) (XCf G PX) X.2.2.2.2.2.2.1 X.2.2.2.2.1 kc ks (gA G)
def NoH (X : MX) : Prop := ∀ x ∈ X.2.2.2.2.2.2.2.2.2.exceptionTable.toList, False
def HasH (X : MX) (hh : List (Nat × Nat × Nat × Nat)) : Prop := X.2.2.2.2.2.2.2.2.2.exceptionTable.toList = tableOf hh
section
variable {G : GT} {X : MX} {cc : ByteArray} {nL : Nat} {own : String} {d kc ks : Nat} {ret : Option FieldType} {nm : String} {uc us : Nat} {Q : State → Prop} {pc : Nat} {lv : List (Nat × AV)} {st : List AV} {h : Mem} {Post : Int → Mem → Prop} {PX : Mem → Prop}
theorem V.toX {t : Nat} (k : V G X nL uc us (QF G X t kc ks Post) pc lv st h) : V G X nL uc us (QX G X t kc ks Post PX) pc lv st h :=
  fun H locs ls hH hL hl => vx_ret (k H locs ls hH hL hl)
set_option maxHeartbeats 4000000 in
theorem ct_ofX {l : Launch} {y : MethodName} {t : Nat} {as : List AV} (hy : plainName y.cls = true) (hn : avw as ≤ nL)
    (body : ∀ X : MX, Cx G X cc nL y.cls d kc ks ret y.name → NoH X → X.2.1 = l → V G X nL 0 0 (QX G X t kc ks Post PX) 0 (avp 0 as) [] h) : CtX G l y cc nL ret t d kc ks as h Post PX := by
  refine vx_ofW (cc := cc) (maxL := nL) (ret := ret) hy rfl ?_
  intro p e s m args below meth c s₁ B hml hno hv
  obtain ⟨rfl, hH, hK⟩ := hv
  have hts0 := atoms_spec (ws := ws_ y cc nL ret) B.pre
  have hts : ∀ w ∈ lw_all, w.before _ s = true := fun w h => hts0 w (List.mem_cons_of_mem _ h)
  have hown : s.vm.findClass y.cls = some m.cls := findClass_of_methodNamed B.named
  have hnm : meth.name = y.name := (name_of_methodNamed B.named B.method).1
  have hC : Cx G (p, l, e, rmD d kc ks, s, m, (as.map (rv G)).toArray, below, meth, c) cc nL y.cls d kc ks ret y.name := ⟨B.exec, B.bytes, hml, hown, hts, B.notSynchronized, rfl, hK, B.returns, hnm⟩
  have hb := body _ hC hno rfl
  have hl := lv_entry (as.map (rv G)) (n := nL) (by rw [avw_sl]; exact hn)
  rw [avp_args] at hl
  rw [lg_entry_eq]
  exact hb s.heap [] _ hH (fun q hq => by cases hq) hl
theorem CtX.mono {l : Launch} {y : MethodName} {t : Nat} {as : List AV} {P P' : Int → Mem → Prop} {PX PX' : Mem → Prop} (hc : CtX G l y cc nL ret t d kc ks as h P PX) (hp : ∀ r h', P r h' → P' r h') (hx : ∀ h', PX h' → PX' h') : CtX G l y cc nL ret t d kc ks as h P' PX' := by
  intro p e ha hcn hk s m args below hf hap hP hT
  obtain ⟨k, o, h1, h2, h3, hq⟩ := hc p e ha hcn hk s m args below hf hap hP hT
  refine ⟨k, o, h1, h2, h3, ?_⟩
  rcases hq with ⟨⟨r, h', e1, e2, e3⟩, hfr⟩ | ⟨q, e1, E, ce, L, ⟨e2, h', e3, e4⟩, e5⟩
  · exact Or.inl ⟨⟨r, h', e1, e2, hp r h' e3⟩, hfr⟩
  · exact Or.inr ⟨q, e1, E, ce, L, ⟨e2, h', e3, hx h' e4⟩, e5⟩
theorem v_athrow0 {p : Program} {l : Launch} {e : Env} {R : Room} {s : State} {m : MethodId} {args : Array Value} {below : List Frame} {meth : Method} {c : Code} {H : Heap} {locs : List Loc} {cells slots : Nat} {ls : Array Slot} {rest : List Value} (hexec : p.tables.exec = Jvm.exec) (hb : c.code = cc) {q : Addr} (hdg : decode cc pc = .ok (.athrow, 1)) (k : vx_W p l e R s m args below meth c H locs cells slots Q (F0 m pc ls rest) q) : W p l e R s m args below meth c H locs cells slots Q (F0 m pc ls (.ref q :: rest)) := by
  intro T hT X
  obtain ⟨t, st, hq⟩ := k T hT X
  refine ⟨t, ?_, hq⟩
  have hdg' : decode c.code pc = .ok (.athrow, 1) := by rw [hb]; exact hdg
  jvm_step X.here [X.here.top, hexec, hdg', athrow.wp_sem]
  exact st
theorem v_athrow (C : Cx G X cc nL own d kc ks ret nm) (N : NoH X) {t : Nat} {a : Int} (hki : h a (-1) = 3) (hu : uc ≤ kc) (hus : us ≤ ks) (hd : decode cc pc = .ok (.athrow, 1)) (hp : PX h) : V G X nL uc us (QX G X t kc ks Post PX) pc lv (rf a :: st) h := by
  intro H locs ls hH hL hl
  obtain ⟨p, l, e, R, s, m, args, below, meth, c⟩ := X
  obtain ⟨hx, hb, hml, hown, hts, hlk, hR, hK, -, -⟩ := C
  obtain ⟨h1, h2⟩ := hH.lt (a := a) (by omega)
  have he := wl_get (G := G) h1 h2
  rw [cE_obj (ci := 2) (by rw [hki]; rfl) (by omega)] at he
  obtain ⟨q', hq', cell, g1, g2, g3, -⟩ := hH.2.1 _ _ he
  have hfc : s.vm.findClass RX2 = some cell.cls := by rw [g2]; exact (hK.1.1 2 _ rfl).2.1
  show W _ _ _ _ _ _ _ _ _ _ _ _ _ _ _ (F0 m pc ls (rv G (rf a) :: st.map (rv G)))
  rw [rv_ref (by omega)]
  refine v_athrow0 hx hb hd (vx_out (fun x hx => (N x hx).elim) hlk g1 (by rw [g3]) hfc (fun t ht hW => ⟨rfl, h, by rw [ht]; exact hH, hp⟩) hL hu hus)
/-- behind a call that may throw -/
theorem call_goX {p : Program} {l : Launch} {e : Env} {R : Room} {s : State} {m : MethodId} {args : Array Value} {below : List Frame} {meth : Method} {c : Code} {H : Heap} {locs : List Loc} {t mc ms : Nat} {st0 : List Value} {a : Array Value} {ls : Array Slot}
    (hr : vx_Run p l e R s m args below meth c H locs uc us mc ms (F0 m pc ls st0) (st.map (rv G)) (Qq G t (fun r h' => V G (p, l, e, R, s, m, args, below, meth, c) nL (uc + mc) (us + ms) Q (pc + 3) lv (psh t r st) h') a) (XCf G PX) (gA G)) (hL : HL G locs) (hl : lv_has ls nL (lv.map fun q => (q.1, rv G q.2)))
    (kx : ∀ (h' : Mem) (H' : Heap) (locs' : List Loc) (q : Addr) (ce : Cell), PX h' → HR G h' H' → HL G locs' → H'[q]? = some ce → ce.vm = .none → s.vm.findClass RX2 = some ce.cls → vx_W p l e R s m args below meth c H' locs' (uc + mc) (us + ms) Q (F0 m pc ls (st.map (rv G))) q) : W p l e R s m args below meth c H locs uc us Q (F0 m pc ls st0) := by
  intro T hT X
  rcases hr T hT X with ⟨v, st₀, t', T', L, h0, X', hL2, e1, e2, ⟨r, h', hv, hH', hp⟩, sg⟩ | ⟨q, st₀, t', T', L, E, ce, h0, X', hL2, e1, e2, ⟨hE, h', hH', hp⟩, hce, hcv, hcl, sg⟩
  · cases hv
    have hk := hp T'.heap (locs ++ L) ls (by rw [e1]; exact hH') (fun q hq => by
      rcases List.mem_append.mp hq with z | z
      · exact hL q z
      · exact hL2 q z) hl
    obtain ⟨t2, a1, b1⟩ := hk T' rfl X'
    refine ⟨t2, sg t2 ?_, b1⟩
    rw [rov_psh]
    exact a1
  · subst hE
    obtain ⟨t2, a1, b1⟩ := kx h' T'.heap (locs ++ L) q ce hp (by rw [e1]; exact hH') (fun q hq => by
      rcases List.mem_append.mp hq with z | z
      · exact hL q z
      · exact hL2 q z) (by rw [e1]; exact hce) hcv hcl T' rfl X'
    exact ⟨t2, sg.trans a1, b1⟩
theorem v_callVX (C : Cx G X cc nL own d kc ks ret nm) (N : NoH X) (n : Nat) {y : MethodName} {bytes : ByteArray} {maxL : Nat} {ret' : Option FieldType} {t d' kc' ks' idx ci NN tt : Nat} {Cn : String} {T : u_T} (as : List AV) {a : Int}
    (hq : GoodIn lw_all (wsV own idx Cn y (ws_ y bytes maxL ret'))) (hyc : y.cls = Cn ∧ y.cls ≠ "java/lang/invoke/MethodHandle" ∧ y.cls ≠ "java/lang/invoke/VarHandle" ∧ (parseMethodDescriptor y.desc).map (fun d => d.parameters.length) = some n) (hn : as.length = n) (hmx : maxL ≤ 40) (hc : vwCl[ci]? = some (Cn, T, NN))
    (hki : h a (-1) = (ci : Int) + 1) (hdd : d' + 1 ≤ d) (hu : uc + kc' ≤ kc) (hus : us + ks' ≤ ks) (hw : (st.map fun v => if v.1 = 1 then 2 else 1).sum ≤ 8) (hd : decode cc pc = .ok (.invokevirtual idx, 3))
    (hct : CtX G X.2.1 y bytes maxL ret' t d' kc' ks' (rf a :: as) h (fun r h' => V G X nL (uc + kc') (us + ks') (QX G X tt kc ks Post PX) (pc + 3) lv (psh t r st) h') PX) : V G X nL uc us (QX G X tt kc ks Post PX) pc lv (as.reverse ++ rf a :: st) h := by
  intro H locs ls hH hL hl
  obtain ⟨p, l, e, R, s, m, args, below, meth, c⟩ := X
  obtain ⟨hx, hb, hml, hown, hts, hlk, hR, hK, -, -⟩ := C
  have hci : ci < 14 := (List.getElem?_eq_some_iff.mp hc).1
  obtain ⟨h1, h2⟩ := hH.lt (a := a) (by omega)
  have he := wl_get (G := G) h1 h2
  rw [cE_obj hki (by omega)] at he
  dsimp only at hR
  subst hR
  refine call_goX (vx_runV (C := Cn) (b := ad G a) (As := as.map (rv G)) (rest := st.map (rv G)) ⟨hx, hb, hml, hown, hts⟩ hct (cwV n hts hq rfl rfl rfl hyc (rmD_ok hdd hmx)) ⟨pq_blind G _ h, va_recv hK.1 hH.2.1 hc he, fun U hU hW => ⟨by rw [List.map_cons, rv_ref (by omega)], by rw [hU]; exact hH, KG.warm hW hK⟩⟩ rfl (by rw [List.length_map]; exact hn) hl.1 ?_ (lv_room (st_words G st hw)) hd ⟨hu, hus⟩) hL hl (fun h' H' locs' q ce hp hH' hL' g1 g2 g3 => vx_out (fun x hx => (N x hx).elim) hlk g1 g2 g3 (fun t ht hW => ⟨rfl, h', by rw [ht]; exact hH', hp⟩) hL' hu hus)
  show (as.reverse ++ rf a :: st).map (rv G) = _
  rw [List.map_append, List.map_reverse, List.map_cons, rv_ref (by omega)]
/-- the call's throw is caught by the one row of the table; the Fault goes into a local that nobody reads -/
theorem v_callVC (C : Cx G X cc nL own d kc ks ret nm) {f1 f2 hp9 ct9 i9 : Nat} {k9 : Fin 4} (N : HasH X [(f1, f2, hp9, ct9)]) (n : Nat) {y : MethodName} {bytes : ByteArray} {maxL : Nat} {ret' : Option FieldType} {t d' kc' ks' idx ci NN : Nat} {Cn : String} {T : u_T} (as : List AV) {a : Int} {lv9 : List (Nat × AV)} (js : List Nat)
    (hq : GoodIn lw_all (wsV own idx Cn y (ws_ y bytes maxL ret'))) (hyc : y.cls = Cn ∧ y.cls ≠ "java/lang/invoke/MethodHandle" ∧ y.cls ≠ "java/lang/invoke/VarHandle" ∧ (parseMethodDescriptor y.desc).map (fun d => d.parameters.length) = some n) (hn : as.length = n) (hmx : maxL ≤ 40) (hc : vwCl[ci]? = some (Cn, T, NN))
    (hki : h a (-1) = (ci : Int) + 1) (hdd : d' + 1 ≤ d) (hu : uc + kc' ≤ kc) (hus : us + ks' ≤ ks) (hw : (st.map fun v => if v.1 = 1 then 2 else 1).sum ≤ 8) (hd : decode cc pc = .ok (.invokevirtual idx, 3))
    (hin : f1 ≤ pc ∧ pc < f2) (h90 : ct9 ≠ 0) (hk9 : (k9 : Nat) = i9) (hi9 : i9 < nL) (hd9 : decode cc hp9 = .ok (.astore_n k9, 1)) (hl9 : Cond.classLink own ct9 RX2 ∈ lw_all) (hc9 : Cond.castable RX2 RX2 ∈ lw_tbl)
    (hlv9 : lv.filter (fun q => !(q.1 == i9) && !(q.1 + 1 == i9 && q.2.1 == 1)) = lv9)
    (hct : CtX G X.2.1 y bytes maxL ret' t d' kc' ks' (rf a :: as) h (fun r h' => V G X nL (uc + kc') (us + ks') Q (pc + 3) lv (psh t r st) h') (fun h' => V G X nL (uc + kc') (us + ks') Q (hp9 + 1) lv9 [] h')) : V G X nL uc us Q pc lv (as.reverse ++ rf a :: st) h := by
  intro H locs ls hH hL hl
  obtain ⟨p, l, e, R, s, m, args, below, meth, c⟩ := X
  obtain ⟨hx, hb, hml, hown, hts, hlk, hR, hK, -, -⟩ := C
  have hci : ci < 14 := (List.getElem?_eq_some_iff.mp hc).1
  obtain ⟨h1, h2⟩ := hH.lt (a := a) (by omega)
  have he := wl_get (G := G) h1 h2
  rw [cE_obj hki (by omega)] at he
  dsimp only at hR
  subst hR
  refine call_goX (vx_runV (C := Cn) (b := ad G a) (As := as.map (rv G)) (rest := st.map (rv G)) ⟨hx, hb, hml, hown, hts⟩ hct (cwV n hts hq rfl rfl rfl hyc (rmD_ok hdd hmx)) ⟨pq_blind G _ h, va_recv hK.1 hH.2.1 hc he, fun U hU hW => ⟨by rw [List.map_cons, rv_ref (by omega)], by rw [hU]; exact hH, KG.warm hW hK⟩⟩ rfl (by rw [List.length_map]; exact hn) hl.1 ?_ (lv_room (st_words G st hw)) hd ⟨hu, hus⟩) hL hl ?_
  · show (as.reverse ++ rf a :: st).map (rv G) = _
    rw [List.map_append, List.map_reverse, List.map_cons, rv_ref (by omega)]
  · intro h' H' locs' q ce hp hH' hL' g1 g2 g3
    have hT : c.exceptionTable.toList = [] ++ (⟨f1, f2, hp9, ct9⟩ : ExceptionTableEntry) :: [] := N
    refine vx_catch (own := own) (name := RX2) hown [] _ [] hT (fun z hz => by cases hz) ?_ h90 (hts _ hl9) (va_Nw.use rfl (hK.2.1 _ (lw_n hc9 rfl))) g1 g2 g3 ?_
    · simp [covers, hin.1, hin.2]
    · refine lv_astore_n hx hb hd9 hk9 hl hi9 rfl (fun ls2 hl2 => hp H' locs' ls2 hH' hL' ?_)
      refine ⟨hl2.1, hl2.2.1, fun z hz => hl2.2.2 z ?_⟩
      subst hlv9
      refine List.mem_cons_of_mem _ ?_
      obtain ⟨w, hw1, hw2⟩ := List.mem_map.mp hz
      rw [← hw2]
      obtain ⟨m1, m2⟩ := List.mem_filter.mp hw1
      refine List.mem_filter.mpr ⟨List.mem_map.mpr ⟨w, m1, rfl⟩, ?_⟩
      simpa [rv_cat] using m2
end
end THROWS
