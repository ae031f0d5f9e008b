/-! ROWS: returns and calls -/
set_option maxRecDepth 100000
section CALLS
variable {G : GT} {X : MX} {cc : ByteArray} {nL : Nat} {own : String} {d kc ks : Nat} {ret : Option FieldType} {nm : String} {uc us : Nat} {Q : State → Prop} {pc : Nat} {lv : List (Nat × AV)} {st : List AV} {h : Mem} {Post : Int → Mem → Prop}
theorem v_iret (C : Cx G X cc nL own d kc ks (some .int) nm) {r : Int} (hu : uc ≤ kc) (hus : us ≤ ks) (hd : decode cc pc = .ok (.ireturn, 1)) (hp : Post r h) : V G X nL uc us (QF G X 0 kc ks Post) pc lv [iv r] h := by
  intro H locs ls hH hL hl
  refine W.widen hu hus ?_
  exact W.iret C.1 C.2.1 C.2.2.2.2.2.2.2.2.1 (fun t ht hW => ⟨r, h, rfl, by rw [ht]; exact hH, hp⟩) hL hd C.2.2.2.2.2.1
theorem v_zret (C : Cx G X cc nL own d kc ks (some .boolean) nm) {r : Int} (hr : r = 0 ∨ r = 1) (hu : uc ≤ kc) (hus : us ≤ ks) (hd : decode cc pc = .ok (.ireturn, 1)) (hp : Post r h) : V G X nL uc us (QF G X 0 kc ks Post) pc lv [iv r] h := by
  intro H locs ls hH hL hl
  refine W.widen hu hus ?_
  exact W.zret C.1 C.2.1 C.2.2.2.2.2.2.2.2.1 (by rcases hr with e | e <;> subst e <;> rfl) (fun t ht hW => ⟨r, h, rfl, by rw [ht]; exact hH, hp⟩) hL hd C.2.2.2.2.2.1
theorem v_bret (C : Cx G X cc nL own d kc ks (some .byte) nm) {r : Int} (h0 : -128 ≤ r) (h1 : r < 128) (hu : uc ≤ kc) (hus : us ≤ ks) (hd : decode cc pc = .ok (.ireturn, 1)) (hp : Post r h) : V G X nL uc us (QF G X 0 kc ks Post) pc lv [iv r] h := by
  intro H locs ls hH hL hl
  refine W.widen hu hus ?_
  refine W.zret C.1 C.2.1 C.2.2.2.2.2.2.2.2.1 ?_ (fun t ht hW => ⟨r, h, rfl, by rw [ht]; exact hH, hp⟩) hL hd C.2.2.2.2.2.1
  show Value.int _ = _
  rw [w8_cong r, show w8 r = r by unfold w8; omega]
theorem v_cret (C : Cx G X cc nL own d kc ks (some .char) nm) {r : Int} (h0 : 0 ≤ r) (h1 : r < 65536) (hu : uc ≤ kc) (hus : us ≤ ks) (hd : decode cc pc = .ok (.ireturn, 1)) (hp : Post r h) : V G X nL uc us (QF G X 0 kc ks Post) pc lv [iv r] h := by
  intro H locs ls hH hL hl
  refine W.widen hu hus ?_
  refine W.zret C.1 C.2.1 C.2.2.2.2.2.2.2.2.1 ?_ (fun t ht hW => ⟨r, h, rfl, by rw [ht]; exact hH, hp⟩) hL hd C.2.2.2.2.2.1
  rw [← i2c_ok h0 h1]
  exact pk_nc _
theorem v_lret (C : Cx G X cc nL own d kc ks (some .long) nm) {r : Int} (hu : uc ≤ kc) (hus : us ≤ ks) (hd : decode cc pc = .ok (.lreturn, 1)) (hp : Post r h) : V G X nL uc us (QF G X 1 kc ks Post) pc lv [jv r] h := by
  intro H locs ls hH hL hl
  refine W.widen hu hus ?_
  exact W.lret C.1 C.2.1 C.2.2.2.2.2.2.2.2.1 (fun t ht hW => ⟨r, h, rfl, by rw [ht]; exact hH, hp⟩) hL hd C.2.2.2.2.2.1
theorem v_vret (C : Cx G X cc nL own d kc ks none nm) (hu : uc ≤ kc) (hus : us ≤ ks) (hd : decode cc pc = .ok (.return_, 1)) (hp : Post 0 h) : V G X nL uc us (QF G X 3 kc ks Post) pc lv [] h := by
  intro H locs ls hH hL hl
  refine W.widen hu hus ?_
  exact W.vret C.1 C.2.1 C.2.2.2.2.2.2.2.2.1 (fun t ht hW => ⟨0, h, rfl, by rw [ht]; exact hH, hp⟩) hL hd C.2.2.2.2.2.1
theorem v_aret {cn : String} (C : Cx G X cc nL own d kc ks (some (.object cn)) nm) {r : Int} (hu : uc ≤ kc) (hus : us ≤ ks) (hd : decode cc pc = .ok (.areturn, 1)) (hp : Post r h) : V G X nL uc us (QF G X 2 kc ks Post) pc lv [rf r] h := by
  intro H locs ls hH hL hl
  refine W.widen hu hus ?_
  refine W.aret C.1 C.2.1 C.2.2.2.2.2.2.2.2.1 (Or.inl ⟨_, rfl⟩) ?_ (fun t ht hW => ⟨r, h, rfl, by rw [ht]; exact hH, hp⟩) hL hd C.2.2.2.2.2.1
  rw [rv_r]
  cases ro G r with
  | none => exact Or.inl rfl
  | some q => exact Or.inr ⟨q, rfl⟩
/-- behind a call -/
theorem call_go {p : Program} {l : Launch} {e : Env} {R : Room} {s : State} {m : MethodId} {args : Array Value} {below : List Frame} {meth : Method} {c : Code} {H : Heap} {locs : List Loc} {t mc ms : Nat} {st0 : List Value} {a : Array Value} {ls : Array Slot}
    (hr : va_Run p l e R s m args below meth c H locs uc us mc ms (F0 m pc ls st0) (st.map (rv G)) (Qq G t (fun r h' => V G (p, l, e, R, s, m, args, below, meth, c) nL (uc + mc) (us + ms) Q (pc + 3) lv (psh t r st) h') a) (gA G)) (hL : HL G locs) (hl : lv_has ls nL (lv.map fun q => (q.1, rv G q.2))) : W p l e R s m args below meth c H locs uc us Q (F0 m pc ls st0) := by
  intro T hT X
  obtain ⟨v, st₀, t', T', L, h0, X', hL2, e1, e2, ⟨r, h', hv, hH', hp⟩, st⟩ := hr T hT X
  cases hv
  have hk := hp T'.heap (locs ++ L) ls (by rw [e1]; exact hH') (fun q hq => by
    rcases List.mem_append.mp hq with z | z
    · exact hL q z
    · exact hL2 q z) hl
  obtain ⟨t2, a1, b1⟩ := hk T' rfl X'
  refine ⟨t2, st t2 ?_, b1⟩
  rw [rov_psh]
  exact a1
theorem pq_blind (G : GT) (as : List AV) (h : Mem) : FrameBlind (Pq G as h) := fun a U g mk q => ⟨q.1, q.2.1, KG.same (s := U) (U := U.calling g mk a) rfl q.2.2⟩
theorem st_words (G : GT) (st : List AV) (hw : (st.map fun v => if v.1 = 1 then 2 else 1).sum ≤ 8) : ((st.map (rv G)).map fun v => v.category).sum ≤ 8 := by
  rw [List.map_map]
  have e : (st.map ((fun v => v.category) ∘ rv G)) = st.map fun v => if v.1 = 1 then 2 else 1 := List.map_congr_left fun v _ => rv_cat G v
  rw [e]
  exact hw
theorem rmD_ok {d d' kc ks kc' ks' maxL : Nat} (hdd : d' + 1 ≤ d) (hmx : maxL ≤ 40) : (rmD d' kc' ks').frames + 1 ≤ (rmD d kc ks).frames ∧ 8 + (maxL + 11) + (rmD d' kc' ks').locals ≤ (rmD d kc ks).locals := ⟨hdd, by show 8 + (maxL + 11) + 64 * d' ≤ 64 * d; omega⟩
theorem v_callV (C : Cx G X cc nL own d kc ks ret nm) (n : Nat) {y : MethodName} {bytes : ByteArray} {maxL : Nat} {ret' : Option FieldType} {t d' kc' ks' idx ci N : Nat} {Cn : String} {T : u_T} (as : List AV) {a : Int}
    (hq : GoodIn lw_all (wsV own idx Cn y (ws_ y bytes maxL ret'))) (hyc : y.cls = Cn ∧ y.cls ≠ "java/lang/invoke/MethodHandle" ∧ y.cls ≠ "java/lang/invoke/VarHandle" ∧ (parseMethodDescriptor y.desc).map (fun d => d.parameters.length) = some n) (hn : as.length = n) (hmx : maxL ≤ 40) (hc : vwCl[ci]? = some (Cn, T, N))
    (hki : h a (-1) = (ci : Int) + 1) (hdd : d' + 1 ≤ d) (hu : uc + kc' ≤ kc) (hus : us + ks' ≤ ks) (hw : (st.map fun v => if v.1 = 1 then 2 else 1).sum ≤ 8) (hd : decode cc pc = .ok (.invokevirtual idx, 3))
    (hct : Ct G X.2.1 y bytes maxL ret' t d' kc' ks' (rf a :: as) h (fun r h' => V G X nL (uc + kc') (us + ks') Q (pc + 3) lv (psh t r st) h')) : V G X nL uc us Q pc lv (as.reverse ++ rf a :: st) h := by
  intro H locs ls hH hL hl
  obtain ⟨p, l, e, R, s, m, args, below, meth, c⟩ := X
  obtain ⟨hx, hb, hml, hown, hts, hlk, hR, hK, -, -⟩ := C
  have hci : ci < 14 := (List.getElem?_eq_some_iff.mp hc).1
  obtain ⟨h1, h2⟩ := hH.lt (a := a) (by omega)
  have he := wl_get (G := G) h1 h2
  rw [cE_obj hki (by omega)] at he
  dsimp only at hR
  subst hR
  refine call_go (va_runV (C := Cn) (b := ad G a) (As := as.map (rv G)) (rest := st.map (rv G)) ⟨hx, hb, hml, hown, hts⟩ hct (cwV n hts hq rfl rfl rfl hyc (rmD_ok hdd hmx)) ⟨pq_blind G _ h, va_recv hK.1 hH.2.1 hc he, fun U hU hW => ⟨by rw [List.map_cons, rv_ref (by omega)], by rw [hU]; exact hH, KG.warm hW hK⟩⟩ rfl (by rw [List.length_map]; exact hn) hl.1 ?_ (lv_room (st_words G st hw)) hd ⟨hu, hus⟩) hL hl
  show (as.reverse ++ rf a :: st).map (rv G) = _
  rw [List.map_append, List.map_reverse, List.map_cons, rv_ref (by omega)]
theorem v_callS (C : Cx G X cc nL own d kc ks ret nm) (n : Nat) {y : MethodName} {bytes : ByteArray} {maxL : Nat} {ret' : Option FieldType} {t d' kc' ks' idx : Nat} (as : List AV)
    (hq : GoodIn lw_all (va_wsS own idx y (ws_ y bytes maxL ret'))) (hyc : y.cls ≠ "java/lang/invoke/MethodHandle" ∧ y.cls ≠ "java/lang/invoke/VarHandle" ∧ (parseMethodDescriptor y.desc).map (fun d => d.parameters.length) = some n) (hn : as.length = n) (hmx : maxL ≤ 40)
    (hdd : d' + 1 ≤ d) (hu : uc + kc' ≤ kc) (hus : us + ks' ≤ ks) (hw : (st.map fun v => if v.1 = 1 then 2 else 1).sum ≤ 8) (hd : decode cc pc = .ok (.invokestatic idx, 3))
    (hct : Ct G X.2.1 y bytes maxL ret' t d' kc' ks' as h (fun r h' => V G X nL (uc + kc') (us + ks') Q (pc + 3) lv (psh t r st) h')) : V G X nL uc us Q pc lv (as.reverse ++ st) h := by
  intro H locs ls hH hL hl
  obtain ⟨p, l, e, R, s, m, args, below, meth, c⟩ := X
  obtain ⟨hx, hb, hml, hown, hts, hlk, hR, hK, -, -⟩ := C
  dsimp only at hR
  subst hR
  refine call_go (va_runS (As := as.map (rv G)) (rest := st.map (rv G)) ⟨hx, hb, hml, hown, hts⟩ hct (va_cwS n hts hq rfl rfl rfl hyc (rmD_ok hdd hmx)) ⟨pq_blind G _ h, fun U hU hW => ⟨rfl, by rw [hU]; exact hH, KG.warm hW hK⟩⟩ rfl (by rw [List.length_map]; exact hn) hl.1 ?_ (lv_room (st_words G st hw)) hd ⟨hu, hus⟩) hL hl
  show (as.reverse ++ st).map (rv G) = _
  rw [List.map_append, List.map_reverse]
theorem v_callI (C : Cx G X cc nL own d kc ks ret nm) (n : Nat) {y : MethodName} {bytes : ByteArray} {maxL : Nat} {t d' kc' ks' idx : Nat} (as : List AV) {a : Int}
    (hq : Cond.code y bytes maxL none ∈ lw_all) (hini : Cond.initialized y.cls ∈ lw_all) (hlink : Cond.methodLink own idx y ∈ lw_all) (hinst : Cond.instanceMethod y ∈ lw_all) (hy1 : y.name = "<init>") (hyc : y.cls ≠ "java/lang/invoke/MethodHandle" ∧ y.cls ≠ "java/lang/invoke/VarHandle" ∧ (parseMethodDescriptor y.desc).map (fun d => d.parameters.length) = some n) (hn : as.length = n) (hmx : maxL ≤ 40)
    (ha : a ≠ 0) (hdd : d' + 1 ≤ d) (hu : uc + kc' ≤ kc) (hus : us + ks' ≤ ks) (hw : (st.map fun v => if v.1 = 1 then 2 else 1).sum ≤ 8) (hd : decode cc pc = .ok (.invokespecial idx, 3))
    (hct : Ct G X.2.1 y bytes maxL none t d' kc' ks' (rf a :: as) h (fun r h' => V G X nL (uc + kc') (us + ks') Q (pc + 3) lv (psh t r st) h')) : V G X nL uc us Q pc lv (as.reverse ++ rf a :: st) h := by
  intro H locs ls hH hL hl
  obtain ⟨p, l, e, R, s, m, args, below, meth, c⟩ := X
  obtain ⟨hx, hb, hml, hown, hts, hlk, hR, hK, -, -⟩ := C
  dsimp only at hR
  subst hR
  refine call_go (va_runI (b := ad G a) (As := as.map (rv G)) (rest := st.map (rv G)) ⟨hx, hb, hml, hown, hts⟩ hct (cwI n hts (lw_meth hq) rfl rfl rfl (hts _ hini) (hts _ hlink) (hts _ hinst) hy1 hyc (rmD_ok hdd hmx)) ⟨pq_blind G _ h, fun U hU hW => ⟨by rw [List.map_cons, rv_ref ha], by rw [hU]; exact hH, KG.warm hW hK⟩⟩ rfl (by rw [List.length_map]; exact hn) hl.1 ?_ (lv_room (st_words G st hw)) hd ⟨hu, hus⟩) hL hl
  show (as.reverse ++ rf a :: st).map (rv G) = _
  rw [List.map_append, List.map_reverse, List.map_cons, rv_ref ha]
theorem v_callIN (C : Cx G X cc nL own d kc ks ret nm) (n : Nat) {y : MethodName} {host : String} {bytes : ByteArray} {maxL : Nat} {t d' kc' ks' idx : Nat} (as : List AV) {a : Int}
    (hq : Cond.code y bytes maxL none ∈ lw_all) (hini : Cond.initialized y.cls ∈ lw_all) (hlink : Cond.methodLinkNest own idx y host ∈ lw_tbl) (hinst : Cond.instanceMethod y ∈ lw_all) (hy1 : y.name = "<init>") (hyc : y.cls ≠ "java/lang/invoke/MethodHandle" ∧ y.cls ≠ "java/lang/invoke/VarHandle" ∧ (parseMethodDescriptor y.desc).map (fun d => d.parameters.length) = some n) (hn : as.length = n) (hmx : maxL ≤ 40)
    (ha : a ≠ 0) (hdd : d' + 1 ≤ d) (hu : uc + kc' ≤ kc) (hus : us + ks' ≤ ks) (hw : (st.map fun v => if v.1 = 1 then 2 else 1).sum ≤ 8) (hd : decode cc pc = .ok (.invokespecial idx, 3))
    (hct : Ct G X.2.1 y bytes maxL none t d' kc' ks' (rf a :: as) h (fun r h' => V G X nL (uc + kc') (us + ks') Q (pc + 3) lv (psh t r st) h')) : V G X nL uc us Q pc lv (as.reverse ++ rf a :: st) h := by
  intro H locs ls hH hL hl
  obtain ⟨p, l, e, R, s, m, args, below, meth, c⟩ := X
  obtain ⟨hx, hb, hml, hown, hts, hlk, hR, hK, -, -⟩ := C
  dsimp only at hR
  subst hR
  refine call_go (va_runIN (b := ad G a) (As := as.map (rv G)) (rest := st.map (rv G)) ⟨hx, hb, hml, hown, hts⟩ hct ⟨va_cnB n hts (lw_meth hq) rfl rfl rfl (hK.2.1 _ (lw_n hlink rfl)) (hts _ hini) hyc (rmD_ok hdd hmx), hy1, hts _ hinst⟩ ⟨pq_blind G _ h, fun U hU hW => ⟨by rw [List.map_cons, rv_ref ha], by rw [hU]; exact hH, KG.warm hW hK⟩⟩ rfl (by rw [List.length_map]; exact hn) hl.1 ?_ (lv_room (st_words G st hw)) hd ⟨hu, hus⟩) hL hl
  show (as.reverse ++ rf a :: st).map (rv G) = _
  rw [List.map_append, List.map_reverse, List.map_cons, rv_ref ha]
theorem v_callSN (C : Cx G X cc nL own d kc ks ret nm) (n : Nat) {y : MethodName} {host : String} {bytes : ByteArray} {maxL : Nat} {ret' : Option FieldType} {t d' kc' ks' idx : Nat} (as : List AV)
    (hq : Cond.code y bytes maxL ret' ∈ lw_all) (hini : Cond.initialized y.cls ∈ lw_all) (hlink : Cond.methodLinkNest own idx y host ∈ lw_tbl) (hsta : Cond.static y ∈ lw_all) (hyc : y.cls ≠ "java/lang/invoke/MethodHandle" ∧ y.cls ≠ "java/lang/invoke/VarHandle" ∧ (parseMethodDescriptor y.desc).map (fun d => d.parameters.length) = some n) (hn : as.length = n) (hmx : maxL ≤ 40)
    (hdd : d' + 1 ≤ d) (hu : uc + kc' ≤ kc) (hus : us + ks' ≤ ks) (hw : (st.map fun v => if v.1 = 1 then 2 else 1).sum ≤ 8) (hd : decode cc pc = .ok (.invokestatic idx, 3))
    (hct : Ct G X.2.1 y bytes maxL ret' t d' kc' ks' as h (fun r h' => V G X nL (uc + kc') (us + ks') Q (pc + 3) lv (psh t r st) h')) : V G X nL uc us Q pc lv (as.reverse ++ st) h := by
  intro H locs ls hH hL hl
  obtain ⟨p, l, e, R, s, m, args, below, meth, c⟩ := X
  obtain ⟨hx, hb, hml, hown, hts, hlk, hR, hK, -, -⟩ := C
  dsimp only at hR
  subst hR
  refine call_go (va_runSN (As := as.map (rv G)) (rest := st.map (rv G)) ⟨hx, hb, hml, hown, hts⟩ hct ⟨va_cnB n hts (lw_meth hq) rfl rfl rfl (hK.2.1 _ (lw_n hlink rfl)) (hts _ hini) hyc (rmD_ok hdd hmx), hts _ hsta, trivial⟩ ⟨pq_blind G _ h, fun U hU hW => ⟨rfl, by rw [hU]; exact hH, KG.warm hW hK⟩⟩ rfl (by rw [List.length_map]; exact hn) hl.1 ?_ (lv_room (st_words G st hw)) hd ⟨hu, hus⟩) hL hl
  show (as.reverse ++ st).map (rv G) = _
  rw [List.map_append, List.map_reverse]
theorem v_mmin (C : Cx G X cc nL own d kc ks ret nm) {idx : Nat} {x y : Int} (hx : R32 x) (hy : R32 y) (hlink : Cond.methodLink own idx Lib.Math.min.name ∈ lw_all) (hstat : Cond.static Lib.Math.min.name ∈ lw_all) (hini : Cond.initialized "java/lang/Math" ∈ lw_all) (hcode : Cond.code Lib.Math.min.name Lib.Math.min.code 2 (some .int) ∈ lw_all) (hd1 : 1 ≤ d) (hu : uc ≤ kc) (hus : us ≤ ks) (hw : (st.map fun v => if v.1 = 1 then 2 else 1).sum ≤ 8) (hd : decode cc pc = .ok (.invokestatic idx, 3)) (kk : V G X nL uc us Q (pc + 3) lv (iv (min x y) :: st) h) : V G X nL uc us Q pc lv (iv y :: iv x :: st) h := by
  intro H locs ls hH hL hl
  have hts := C.2.2.2.2.1
  have hR := C.2.2.2.2.2.2.1
  have hs := st_words G st hw
  have hkk := kk H locs ls hH hL hl
  have e : Int32.ofInt (min x y) = if Int32.ofInt y < Int32.ofInt x then Int32.ofInt y else Int32.ofInt x := by
    by_cases q : y < x
    · rw [if_pos ((i32_lt hy hx).mpr q), show min x y = y by omega]
    · rw [if_neg (fun z => q ((i32_lt hy hx).mp z)), show min x y = x by omega]
  rw [List.map_cons, rv_i, e] at hkk
  exact va_mmin C.1 C.2.1 (by rw [C.2.2.1]; exact hl.1.symm) C.2.2.2.1 (hts _ hlink) (hts _ hstat) (hts _ hini) (hts _ hcode) (by rw [hR]; exact hd1) (by rw [hR]; show _ + 13 ≤ 64 * d; omega) (by rw [hR]; exact hu) (by rw [hR]; exact hus) hd hkk
theorem v_mmax (C : Cx G X cc nL own d kc ks ret nm) {idx : Nat} {x y : Int} (hx : R32 x) (hy : R32 y) (hlink : Cond.methodLink own idx Lib.Math.max.name ∈ lw_all) (hstat : Cond.static Lib.Math.max.name ∈ lw_all) (hini : Cond.initialized "java/lang/Math" ∈ lw_all) (hcode : Cond.code Lib.Math.max.name Lib.Math.max.code 2 (some .int) ∈ lw_all) (hd1 : 1 ≤ d) (hu : uc ≤ kc) (hus : us ≤ ks) (hw : (st.map fun v => if v.1 = 1 then 2 else 1).sum ≤ 8) (hd : decode cc pc = .ok (.invokestatic idx, 3)) (kk : V G X nL uc us Q (pc + 3) lv (iv (max x y) :: st) h) : V G X nL uc us Q pc lv (iv y :: iv x :: st) h := by
  intro H locs ls hH hL hl
  have hts := C.2.2.2.2.1
  have hR := C.2.2.2.2.2.2.1
  have hs := st_words G st hw
  have hkk := kk H locs ls hH hL hl
  have e : Int32.ofInt (max x y) = if Int32.ofInt x < Int32.ofInt y then Int32.ofInt y else Int32.ofInt x := by
    by_cases q : x < y
    · rw [if_pos ((i32_lt hx hy).mpr q), show max x y = y by omega]
    · rw [if_neg (fun z => q ((i32_lt hx hy).mp z)), show max x y = x by omega]
  rw [List.map_cons, rv_i, e] at hkk
  exact va_mmax C.1 C.2.1 (by rw [C.2.2.1]; exact hl.1.symm) C.2.2.2.1 (hts _ hlink) (hts _ hstat) (hts _ hini) (hts _ hcode) (by rw [hR]; exact hd1) (by rw [hR]; show _ + 13 ≤ 64 * d; omega) (by rw [hR]; exact hu) (by rw [hR]; exact hus) hd hkk
theorem minR {x y : Int} (hx : R32 x) (hy : R32 y) : R32 (min x y) := ⟨by have := hx.1; have := hy.1; omega, by have := hx.2; have := hy.2; omega⟩
theorem maxR {x y : Int} (hx : R32 x) (hy : R32 y) : R32 (max x y) := ⟨by have := hx.1; have := hy.1; omega, by have := hx.2; have := hy.2; omega⟩
theorem lw_U {own : String} {idx : Nat} {C owner : String} {x y : MethodName} {b : ByteArray} {L : Nat} {r : Option FieldType} (h1 : Cond.methodLink own idx x ∈ lw_all) (h2 : Cond.sameMethod x.cls owner x.name x.desc ∈ lw_all) (h3 : Cond.selects C x y ∈ lw_all) (h4 : Cond.instanceMethod y ∈ lw_all) (h5 : Cond.initialized y.cls ∈ lw_all) (h6 : Cond.code y b L r ∈ lw_all) : GoodIn lw_all (va_wsU own idx C owner x y (ws_ y b L r)) := by
  refine lw_app ?_ (lw_meth h6)
  intro w hw
  simp only [List.mem_cons, List.not_mem_nil, or_false] at hw
  rcases hw with e | e | e | e | e
  · rw [e]; exact h1
  · rw [e]; exact h2
  · rw [e]; exact h3
  · rw [e]; exact h4
  · rw [e]; exact h5
/-- a call of an abstract method: by the receiver's class -/
theorem v_callA (C : Cx G X cc nL own d kc ks ret nm) (n : Nat) {x y : MethodName} {bytes : ByteArray} {maxL : Nat} {ret' : Option FieldType} {t d' kc' ks' idx ci N : Nat} {Cn owner : String} {T : u_T} (as : List AV) {a : Int}
    (hq : GoodIn lw_all (va_wsU own idx Cn owner x y (ws_ y bytes maxL ret'))) (hz : Cond.declares ⟨owner, x.name, x.desc⟩ ∈ lw_tbl) (hyc : owner ≠ "java/lang/invoke/MethodHandle" ∧ owner ≠ "java/lang/invoke/VarHandle" ∧ (parseMethodDescriptor x.desc).map (fun d => d.parameters.length) = some n) (hn : as.length = n) (hmx : maxL ≤ 40) (hc : vwCl[ci]? = some (Cn, T, N))
    (hki : h a (-1) = (ci : Int) + 1) (hdd : d' + 1 ≤ d) (hu : uc + kc' ≤ kc) (hus : us + ks' ≤ ks) (hw : (st.map fun v => if v.1 = 1 then 2 else 1).sum ≤ 8) (hd : decode cc pc = .ok (.invokevirtual idx, 3))
    (hct : Ct G X.2.1 y bytes maxL ret' t d' kc' ks' (rf a :: as) h (fun r h' => V G X nL (uc + kc') (us + ks') Q (pc + 3) lv (psh t r st) h')) : V G X nL uc us Q pc lv (as.reverse ++ rf a :: st) h := by
  intro H locs ls hH hL hl
  obtain ⟨p, l, e, R, s, m, args, below, meth, c⟩ := X
  obtain ⟨hx, hb, hml, hown, hts, hlk, hR, hK, -, -⟩ := C
  have hci : ci < 14 := (List.getElem?_eq_some_iff.mp hc).1
  obtain ⟨h1, h2⟩ := hH.lt (a := a) (by omega)
  have he := wl_get (G := G) h1 h2
  rw [cE_obj hki (by omega)] at he
  dsimp only at hR
  subst hR
  refine call_go (va_runU (C := Cn) (b := ad G a) (As := as.map (rv G)) (rest := st.map (rv G)) ⟨hx, hb, hml, hown, hts⟩ hct (va_cwA n hts hq rfl rfl rfl (hK.2.1 _ (lw_n hz rfl)) hyc (rmD_ok hdd hmx)) ⟨pq_blind G _ h, va_recv hK.1 hH.2.1 hc he, fun U hU hW => ⟨by rw [List.map_cons, rv_ref (by omega)], by rw [hU]; exact hH, KG.warm hW hK⟩⟩ rfl (by rw [List.length_map]; exact hn) hl.1 ?_ (lv_room (st_words G st hw)) hd ⟨hu, hus⟩) hL hl
  show (as.reverse ++ rf a :: st).map (rv G) = _
  rw [List.map_append, List.map_reverse, List.map_cons, rv_ref (by omega)]
/-- a String's method -/
theorem v_callK (C : Cx G X cc nL own d kc ks ret nm) (n : Nat) {y : MethodName} {bytes : ByteArray} {maxL : Nat} {ret' : Option FieldType} {t d' kc' ks' idx : Nat} (as : List AV) (i : Nat) (hi : i < 45)
    (hq : GoodIn lw_all (wsV own idx "java/lang/String" y (ws_ y bytes maxL ret'))) (hyc : y.cls = "java/lang/String" ∧ y.cls ≠ "java/lang/invoke/MethodHandle" ∧ y.cls ≠ "java/lang/invoke/VarHandle" ∧ (parseMethodDescriptor y.desc).map (fun d => d.parameters.length) = some n) (hn : as.length = n) (hmx : maxL ≤ 40)
    (hdd : d' + 1 ≤ d) (hu : uc + kc' ≤ kc) (hus : us + ks' ≤ ks) (hw : (st.map fun v => if v.1 = 1 then 2 else 1).sum ≤ 8) (hd : decode cc pc = .ok (.invokevirtual idx, 3))
    (hct : Ct G X.2.1 y bytes maxL ret' t d' kc' ks' (rf (sK i) :: as) h (fun r h' => V G X nL (uc + kc') (us + ks') Q (pc + 3) lv (psh t r st) h')) : V G X nL uc us Q pc lv (as.reverse ++ rf (sK i) :: st) h := by
  intro H locs ls hH hL hl
  obtain ⟨p, l, e, R, s, m, args, below, meth, c⟩ := X
  obtain ⟨hx, hb, hml, hown, hts, hlk, hR, hK, -, -⟩ := C
  obtain ⟨cellV, g1, g2, g3, g4⟩ := (hK.2.2.1.1 i hi).1.1
  dsimp only at hR
  subst hR
  refine call_go (va_runV (C := "java/lang/String") (b := ad G (sK i)) (As := as.map (rv G)) (rest := st.map (rv G)) ⟨hx, hb, hml, hown, hts⟩ hct (cwV n hts hq rfl rfl rfl hyc (rmD_ok hdd hmx)) ⟨pq_blind G _ h, ⟨cellV, old_at hH g1 hK.2.2.2, g2, g3⟩, fun U hU hW => ⟨by rw [List.map_cons, rv_ref (sK_ne i)], by rw [hU]; exact hH, KG.warm hW hK⟩⟩ rfl (by rw [List.length_map]; exact hn) hl.1 ?_ (lv_room (st_words G st hw)) hd ⟨hu, hus⟩) hL hl
  show (as.reverse ++ rf (sK i) :: st).map (rv G) = _
  rw [List.map_append, List.map_reverse, List.map_cons, rv_ref (sK_ne i)]
theorem v_objInit (C : Cx G X cc nL own d kc ks ret nm) {idx : Nat} {a : Int} (hlink : Cond.methodLink own idx Lib.objectInit ∈ lw_all) (hinst : Cond.instanceMethod Lib.objectInit ∈ lw_all) (hcode : Cond.code Lib.objectInit ⟨#[0xb1]⟩ 1 none ∈ lw_all) (ha : a ≠ 0) (hd1 : 1 ≤ d) (hw : (st.map fun v => if v.1 = 1 then 2 else 1).sum ≤ 8) (hd : decode cc pc = .ok (.invokespecial idx, 3)) (kk : V G X nL uc us Q (pc + 3) lv st h) : V G X nL uc us Q pc lv (rf a :: st) h := by
  intro H locs ls hH hL hl
  have hts := C.2.2.2.2.1
  have hR := C.2.2.2.2.2.2.1
  have hs := st_words G st hw
  rw [List.map_cons, rv_ref ha]
  exact W.objInit C.1 C.2.1 C.2.2.2.1 (hts _ hlink) (hts _ hinst) (hts _ hcode) rfl (by rw [C.2.2.1]; exact hl.1) rfl hd (by rw [hR]; exact hd1) (by rw [hR]; show 2 * 0 + _ + 12 ≤ 64 * d; omega) (kk H locs ls hH hL hl)
end CALLS
