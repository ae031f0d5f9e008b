/-! ROWS: fields, arrays, new cells -/
set_option maxRecDepth 100000
section HEAP
variable {G : GT} {X : MX} {cc : ByteArray} {nL : Nat} {own : String} {d kc ks : Nat} {ret : Option FieldType} {nm : String} {uc us : Nat} {Q : State → Prop} {pc : Nat} {lv : List (Nat × AV)} {st : List AV} {h : Mem}
theorem sK_ne (n : Nat) : sK n ≠ 0 := by
  show -(2 + 2 * (n : Int)) ≠ 0
  omega
theorem sV_ne (n : Nat) : sV n ≠ 0 := by
  show -(3 + 2 * (n : Int)) ≠ 0
  omega
theorem cE_obj {G : GT} {h : Mem} {a : Int} {ci : Nat} (hk : h a (-1) = (ci : Int) + 1) (hc : ci < 50) : cE G h a = .inr (ci, flds G h ci a) := by
  rw [cE, if_pos (by omega), hk, show ((ci : Int) + 1).toNat - 1 = ci by omega]
theorem cE_int {G : GT} {h : Mem} {a : Int} {k : Nat} (hk : h a (-1) = (k : Int) + 101) (hc : k < 3) : cE G h a = .inl (G.2.2.2.2.1 k, (h a (-2)).toNat, .inl (fun j => Int32.ofInt (h a j))) := by
  rw [cE, if_neg (by omega), cA, if_pos (by omega), hk, show ((k : Int) + 101).toNat - 101 = k by omega]
theorem cE_long {G : GT} {h : Mem} {a : Int} (hk : h a (-1) = 104) : cE G h a = .inl (G.2.2.2.2.1 3, (h a (-2)).toNat, .inr (.inl fun j => Int64.ofInt (h a j))) := by
  rw [cE, if_neg (by omega), cA, if_neg (by omega), if_pos hk, hk]; rfl
theorem cE_ref {G : GT} {h : Mem} {a : Int} {k : Nat} (hk : h a (-1) = (k : Int) + 101) (hc : 4 ≤ k) : cE G h a = .inl (G.2.2.2.2.1 k, (h a (-2)).toNat, .inr (.inr (.inr (.inr fun j => ro G (h a j))))) := by
  rw [cE, if_neg (by omega), cA, if_neg (by omega), if_neg (by omega), hk, show ((k : Int) + 101).toNat - 101 = k by omega]
theorem flds_get {G : GT} {h : Mem} {ci : Nat} {a : Int} {k : Nat} (hk : k < cN ci) : (flds G h ci a)[k]? = some (rv G (ft ci k, h a k)) := by
  rw [flds, List.getElem?_map, List.getElem?_range hk]; rfl
theorem flds_len (G : GT) (h : Mem) (ci : Nat) (a : Int) : (flds G h ci a).length = cN ci := by simp [flds]
theorem flds_set {G : GT} {h : Mem} {ci : Nat} {a : Int} {k : Nat} {x : Int} : (flds G h ci a).set k (rv G (ft ci k, x)) = flds G (up h a k x) ci a := by
  apply List.ext_getElem?
  intro j
  by_cases hj : j < cN ci
  · rw [flds_get hj]
    by_cases hkj : k = j
    · subst hkj
      rw [List.getElem?_set_self (by rw [flds_len]; exact hj), up_s]
    · rw [List.getElem?_set_ne hkj, flds_get hj, up_i (by omega)]
  · rw [List.getElem?_eq_none (by rw [List.length_set, flds_len]; omega), List.getElem?_eq_none (by rw [flds_len]; omega)]
theorem va_rf_nar {ty : FieldType} (h : tg ty = 2) (r : Option Nat) : narrow ty (va_rf r) = va_rf r ∧ fits ty (va_rf r) = true := by
  cases ty <;> simp [tg] at h <;> cases r <;> exact ⟨rfl, rfl⟩
/-- a value may stand in a place of its type -/
def okf (ty : FieldType) (x : Int) : Prop := match ty with
  | .boolean => x = 0 ∨ x = 1
  | .byte => False
  | .short => False
  | .char => False
  | .float => False
  | .double => False
  | _ => True
theorem okf_nar {G : GT} {ty : FieldType} {x : Int} (h : okf ty x) : narrow ty (rv G (tg ty, x)) = rv G (tg ty, x) ∧ fits ty (rv G (tg ty, x)) = true := by
  cases ty with
  | boolean => rcases h with h | h <;> subst h <;> exact ⟨rfl, rfl⟩
  | int => exact ⟨rfl, rfl⟩
  | long => exact ⟨rfl, rfl⟩
  | object n => exact va_rf_nar rfl _
  | array t => exact va_rf_nar rfl _
  | _ => exact h.elim
/-- one cell changes -/
theorem HR_store {G : GT} {h : Mem} {H H1 : Heap} (hH : HR G h H) {a i x : Int} (hx : okI (h a (-1)) i x) (h1 : 1 ≤ a) (h2 : a < h 0 0) (hi : 0 ≤ i) (z : H1.size = H.size) (oq : ∀ q : Nat, q ≠ ad G a → H1[q]? = H[q]?) (hat : va_at (gD G) vwCl (ad G a, cE G (up h a i x) a) H1) : HR G (up h a i x) H1 := by
  have he := wl_get (G := G) h1 h2
  have hP := hH.2.1.set (wl_D G h) he hat oq
  rw [wl_set h1 hi rfl] at hP
  refine HR_up hH hx h1 hi z hP (fun q hq => oq q ?_)
  rw [ad_pos G h1]
  omega
theorem HL_put {G : GT} {locs : List Loc} (hL : HL G locs) {a : Int} {k : Nat} (h1 : 1 ≤ a) : HL G (locs ++ [⟨ad G a, k⟩]) := by
  intro q hq
  rcases List.mem_append.mp hq with z | z
  · exact hL q z
  · rw [List.mem_singleton.mp z]
    show G.1 ≤ ad G a
    rw [ad_pos G h1]
    omega
theorem v_getf (C : Cx G X cc nL own d kc ks ret nm) {ref Cn : String} {T : u_T} {N ci index : Nat} (hin : ∀ w ∈ u_ws Cn T N, w ∈ lw_all) (hc : vwCl[ci]? = some (Cn, T, N)) (hcN : cN ci = N) (k : Nat) (hk : k < N) (hlink : Cond.fieldLink own index ref (T k).2.1 (T k).2.2.1 ∈ lw_all) (hdecl : (T k).1 = ref) {t : Nat} (ht : ft ci k = t) {a x : Int} (hki : h a (-1) = (ci : Int) + 1) (hv : h a (k : Int) = x) (hd : decode cc pc = .ok (.getfield index, 3)) (kk : V G X nL uc us Q (pc + 3) lv ((t, x) :: st) h) : V G X nL uc us Q pc lv (rf a :: st) h := by
  intro H locs ls hH hL hl
  have hci : ci < 14 := (List.getElem?_eq_some_iff.mp hc).1
  obtain ⟨h1, h2⟩ := hH.lt (a := a) (by omega)
  have he := wl_get (G := G) h1 h2
  rw [cE_obj hki (by omega)] at he
  rw [List.map_cons, rv_ref (by omega)]
  have hkk := kk H locs ls hH hL hl
  refine va_get C.1 C.2.1 C.2.2.2.2.1 hin C.2.2.2.1 C.2.2.2.2.2.2.2.1.1 hH.2.1 _ he hc k hk (C.2.2.2.2.1 _ hlink) (fun x hx => by rw [← hdecl]; exact hx) (v := rv G (t, x)) ?_ hd hkk
  rw [flds_get (by rw [hcN]; exact hk), ht, hv]
theorem v_getfN (C : Cx G X cc nL own d kc ks ret nm) {ref Cn : String} {T : u_T} {N ci index : Nat} {host : String} (hin : ∀ w ∈ u_ws Cn T N, w ∈ lw_all) (hc : vwCl[ci]? = some (Cn, T, N)) (hcN : cN ci = N) (k : Nat) (hk : k < N) (hlink : Cond.fieldLinkNest own index ref (T k).2.1 (T k).2.2.1 host ∈ lw_tbl) (hdecl : (T k).1 = ref) {t : Nat} (ht : ft ci k = t) {a x : Int} (hki : h a (-1) = (ci : Int) + 1) (hv : h a (k : Int) = x) (hd : decode cc pc = .ok (.getfield index, 3)) (kk : V G X nL uc us Q (pc + 3) lv ((t, x) :: st) h) : V G X nL uc us Q pc lv (rf a :: st) h := by
  intro H locs ls hH hL hl
  have hci : ci < 14 := (List.getElem?_eq_some_iff.mp hc).1
  obtain ⟨h1, h2⟩ := hH.lt (a := a) (by omega)
  have he := wl_get (G := G) h1 h2
  rw [cE_obj hki (by omega)] at he
  rw [List.map_cons, rv_ref (by omega)]
  have hkk := kk H locs ls hH hL hl
  refine va_getN C.1 C.2.1 C.2.2.2.2.1 hin C.2.2.2.1 C.2.2.2.2.2.2.2.1.1 hH.2.1 _ he hc k hk (va_Nw.use rfl (C.2.2.2.2.2.2.2.1.2.1 _ (lw_n hlink rfl))) (fun x hx => by rw [← hdecl]; exact hx) (v := rv G (t, x)) ?_ hd hkk
  rw [flds_get (by rw [hcN]; exact hk), ht, hv]
theorem v_put (C : Cx G X cc nL own d kc ks ret nm) {ref Cn : String} {T : u_T} {N ci index : Nat} (hin : ∀ w ∈ u_ws Cn T N, w ∈ lw_all) (hc : vwCl[ci]? = some (Cn, T, N)) (hcN : cN ci = N) (hty : ∀ k, k < N → parseFieldDescriptor (T k).2.2.1 = some (cty ci k)) (hnm : ∀ a, a < N → ∀ b, b < N → a ≠ b → (T a).2.1 ≠ (T b).2.1) (k : Nat) (hk : k < N) (hlink : Cond.fieldLink own index ref (T k).2.1 (T k).2.2.1 ∈ lw_all) (hdecl : (T k).1 = ref) (hfin : (T k).2.2.2 = false) {t : Nat} (ht : ft ci k = t) {a x : Int} (hki : h a (-1) = (ci : Int) + 1) (hx : okf (cty ci k) x) (hx2 : okI ((ci : Int) + 1) k x) (hd : decode cc pc = .ok (.putfield index, 3)) (kk : V G X nL uc us Q (pc + 3) lv st (up h a k x)) : V G X nL uc us Q pc lv ((t, x) :: rf a :: st) h := by
  subst ht
  intro H locs ls hH hL hl
  have hci : ci < 14 := (List.getElem?_eq_some_iff.mp hc).1
  obtain ⟨h1, h2⟩ := hH.lt (a := a) (by omega)
  have hK := C.2.2.2.2.2.2.2.1
  have hts := C.2.2.2.2.1
  have he := wl_get (G := G) h1 h2
  rw [cE_obj hki (by omega)] at he
  obtain ⟨n1, n2⟩ := okf_nar (G := G) hx
  rw [List.map_cons, List.map_cons, rv_ref (by omega)]
  have hap := va_apart (own := own) hts hin (cty ci) hty hnm hK.1 hc
  obtain ⟨r, h3, cell, q1, q2, q3, q4⟩ := hH.2.1 _ _ he
  have hr : r = (Cn, T, N) := Option.some.inj (h3.symm.trans hc)
  subst hr
  obtain ⟨hS, hfc, kC, hkC, hkind⟩ := hK.1.1 ci _ hc
  obtain ⟨cf, kf, fi, f, hi, hsl⟩ := hS k hk
  have hi2 : X.2.2.2.2.1.fieldFound? ref (T k).2.1 (T k).2.2.1 = some (cf, kf, fi, f) := by rw [← hdecl]; exact hi
  have hlay := hts _ (hin _ (u_in_lay hk))
  unfold u_lay at hlay
  have hst := (u_facts hfc hkC (u_lays hts hin hk) hi).1
  rw [if_neg (by rw [hfin]; decide)] at hlay
  have h6 := u_store hfc hkC hkind hlay hi (hty k hk) n1 n2
  refine W.putK C.1 C.2.1 (f := f) ⟨C.2.2.2.1, hts _ hlink, ⟨_, _, _, hi2⟩, hst⟩ (by rw [q2]; exact h6) q1 q3 (by rw [hsl]; exact k2_hasslot (q4 k hk)) rfl rfl hd fun H1 e1 e2 e3 => ?_
  rw [hsl] at e1 ⊢
  refine kk H1 _ ls (HR_store hH (by rw [hki]; exact hx2) h1 h2 (by omega) e2 e3 ?_) (HL_put hL h1) hl
  rw [cE_obj (by rw [up_i (by omega)]; exact hki) (by omega), ← flds_set]
  exact ⟨_, hc, t_OB.to (V := updV (vp_V (flds G h ci a)) k (rv G (ft ci k, x))) ⟨_, e1, q2, q3, t_set q4 hap hk _⟩ (fun j _ => vp_updV_set (by rw [flds_len, hcN]; exact hk) _ j)⟩
theorem v_putN (C : Cx G X cc nL own d kc ks ret nm) {ref Cn : String} {T : u_T} {N ci index : Nat} {host : String} (hin : ∀ w ∈ u_ws Cn T N, w ∈ lw_all) (hc : vwCl[ci]? = some (Cn, T, N)) (hcN : cN ci = N) (hty : ∀ k, k < N → parseFieldDescriptor (T k).2.2.1 = some (cty ci k)) (hnm : ∀ a, a < N → ∀ b, b < N → a ≠ b → (T a).2.1 ≠ (T b).2.1) (k : Nat) (hk : k < N) (hlink : Cond.fieldLinkNest own index ref (T k).2.1 (T k).2.2.1 host ∈ lw_tbl) (hdecl : (T k).1 = ref) (hfin : (T k).2.2.2 = false) {t : Nat} (ht : ft ci k = t) {a x : Int} (hki : h a (-1) = (ci : Int) + 1) (hx : okf (cty ci k) x) (hx2 : okI ((ci : Int) + 1) k x) (hd : decode cc pc = .ok (.putfield index, 3)) (kk : V G X nL uc us Q (pc + 3) lv st (up h a k x)) : V G X nL uc us Q pc lv ((t, x) :: rf a :: st) h := by
  subst ht
  intro H locs ls hH hL hl
  have hci : ci < 14 := (List.getElem?_eq_some_iff.mp hc).1
  obtain ⟨h1, h2⟩ := hH.lt (a := a) (by omega)
  have hK := C.2.2.2.2.2.2.2.1
  have hts := C.2.2.2.2.1
  have he := wl_get (G := G) h1 h2
  rw [cE_obj hki (by omega)] at he
  obtain ⟨n1, n2⟩ := okf_nar (G := G) hx
  rw [List.map_cons, List.map_cons, rv_ref (by omega)]
  have hap := va_apart (own := own) hts hin (cty ci) hty hnm hK.1 hc
  obtain ⟨r, h3, cell, q1, q2, q3, q4⟩ := hH.2.1 _ _ he
  have hr : r = (Cn, T, N) := Option.some.inj (h3.symm.trans hc)
  subst hr
  obtain ⟨hS, hfc, kC, hkC, hkind⟩ := hK.1.1 ci _ hc
  obtain ⟨cf, kf, fi, f, hi, hsl⟩ := hS k hk
  have hi2 : X.2.2.2.2.1.fieldFound? ref (T k).2.1 (T k).2.2.1 = some (cf, kf, fi, f) := by rw [← hdecl]; exact hi
  have hlay := hts _ (hin _ (u_in_lay hk))
  unfold u_lay at hlay
  have hst := (u_facts hfc hkC (u_lays hts hin hk) hi).1
  rw [if_neg (by rw [hfin]; decide)] at hlay
  have h6 := u_store hfc hkC hkind hlay hi (hty k hk) n1 n2
  refine va_WputK C.1 C.2.1 (f := f) C.2.2.2.1 (va_Nw.use rfl (C.2.2.2.2.2.2.2.1.2.1 _ (lw_n hlink rfl))) hi2 hst (by rw [q2]; exact h6) q1 q3 (by rw [hsl]; exact k2_hasslot (q4 k hk)) rfl rfl hd fun H1 e1 e2 e3 => ?_
  rw [hsl] at e1 ⊢
  refine kk H1 _ ls (HR_store hH (by rw [hki]; exact hx2) h1 h2 (by omega) e2 e3 ?_) (HL_put hL h1) hl
  rw [cE_obj (by rw [up_i (by omega)]; exact hki) (by omega), ← flds_set]
  exact ⟨_, hc, t_OB.to (V := updV (vp_V (flds G h ci a)) k (rv G (ft ci k, x))) ⟨_, e1, q2, q3, t_set q4 hap hk _⟩ (fun j _ => vp_updV_set (by rw [flds_len, hcN]; exact hk) _ j)⟩
theorem v_putF (C : Cx G X cc nL own d kc ks ret nm) {ref Cn : String} {T : u_T} {N ci index : Nat} (hin : ∀ w ∈ u_ws Cn T N, w ∈ lw_all) (hc : vwCl[ci]? = some (Cn, T, N)) (hcN : cN ci = N) (hty : ∀ k, k < N → parseFieldDescriptor (T k).2.2.1 = some (cty ci k)) (hnm : ∀ a, a < N → ∀ b, b < N → a ≠ b → (T a).2.1 ≠ (T b).2.1) (k : Nat) (hk : k < N) (hlink : Cond.fieldLink own index ref (T k).2.1 (T k).2.2.1 ∈ lw_all) (hdecl : (T k).1 = ref) (hfin : (T k).2.2.2 = true) (hin2 : nm = "<init>") (hde2 : (T k).1 = own) {t : Nat} (ht : ft ci k = t) {a x : Int} (hki : h a (-1) = (ci : Int) + 1) (hx : okf (cty ci k) x) (hx2 : okI ((ci : Int) + 1) k x) (hd : decode cc pc = .ok (.putfield index, 3)) (kk : V G X nL uc us Q (pc + 3) lv st (up h a k x)) : V G X nL uc us Q pc lv ((t, x) :: rf a :: st) h := by
  subst ht
  intro H locs ls hH hL hl
  have hci : ci < 14 := (List.getElem?_eq_some_iff.mp hc).1
  obtain ⟨h1, h2⟩ := hH.lt (a := a) (by omega)
  have hK := C.2.2.2.2.2.2.2.1
  have hts := C.2.2.2.2.1
  have he := wl_get (G := G) h1 h2
  rw [cE_obj hki (by omega)] at he
  obtain ⟨n1, n2⟩ := okf_nar (G := G) hx
  rw [List.map_cons, List.map_cons, rv_ref (by omega)]
  have hap := va_apart (own := own) hts hin (cty ci) hty hnm hK.1 hc
  obtain ⟨r, h3, cell, q1, q2, q3, q4⟩ := hH.2.1 _ _ he
  have hr : r = (Cn, T, N) := Option.some.inj (h3.symm.trans hc)
  subst hr
  obtain ⟨hS, hfc, kC, hkC, hkind⟩ := hK.1.1 ci _ hc
  obtain ⟨cf, kf, fi, f, hi, hsl⟩ := hS k hk
  have hi2 : X.2.2.2.2.1.fieldFound? ref (T k).2.1 (T k).2.2.1 = some (cf, kf, fi, f) := by rw [← hdecl]; exact hi
  have hlay := hts _ (hin _ (u_in_lay hk))
  unfold u_lay at hlay
  have hst := (u_facts hfc hkC (u_lays hts hin hk) hi).1
  rw [if_pos hfin] at hlay
  have hcf : X.2.2.2.2.2.1.cls = cf := by
    obtain ⟨_, _, c', _, _, _, -, -, hf', -, -, -, hown2, -⟩ := Cond.laysFinal_spec hlay
    have e1 : c' = cf := by have := hi.symm.trans hf'; simp at this; exact this.1.symm
    rw [hde2] at hown2
    rw [← e1]; exact Option.some.inj (C.2.2.2.1.symm.trans hown2)
  have h6 := u_fits hfc hkC hkind (Or.inr hlay) hi (hty k hk) n1 n2
  refine W.putFinK C.1 C.2.1 C.2.2.2.1 (hts _ hlink) hi2 hst hcf (by rw [← hin2]; exact C.2.2.2.2.2.2.2.2.2) (by rw [q2]; exact h6) q1 q3 (by rw [hsl]; exact k2_hasslot (q4 k hk)) rfl rfl hd fun H1 e1 e2 e3 => ?_
  rw [hsl] at e1 ⊢
  refine kk H1 _ ls (HR_store hH (by rw [hki]; exact hx2) h1 h2 (by omega) e2 e3 ?_) (HL_put hL h1) hl
  rw [cE_obj (by rw [up_i (by omega)]; exact hki) (by omega), ← flds_set]
  exact ⟨_, hc, t_OB.to (V := updV (vp_V (flds G h ci a)) k (rv G (ft ci k, x))) ⟨_, e1, q2, q3, t_set q4 hap hk _⟩ (fun j _ => vp_updV_set (by rw [flds_len, hcN]; exact hk) _ j)⟩
theorem v_iald (C : Cx G X cc nL own d kc ks ret nm) {a i x : Int} (hk : h a (-1) = 101) (hi0 : 0 ≤ i) (hi1 : i < h a (-2)) (hv : h a i = x) (hd : decode cc pc = .ok (.iaload, 1)) (kk : V G X nL uc us Q (pc + 1) lv (iv x :: st) h) : V G X nL uc us Q pc lv (iv i :: rf a :: st) h := by
  subst hv
  intro H locs ls hH hL hl
  obtain ⟨h1, h2⟩ := hH.lt (a := a) (by omega)
  have he := wl_get (G := G) h1 h2
  rw [cE_int (k := 0) hk (by omega)] at he
  have hl2 := (hH.2.2.2.2.1 a).2
  rw [List.map_cons, List.map_cons, rv_ref (by omega)]
  refine va_iald C.1 C.2.1 C.2.2.2.2.2.2.2.1.1 hH.2.1 _ 0 he rfl (i := Int32.ofInt i) (i32in hi0 hi1 hl2) hd ?_
  have hkk := kk H locs ls hH hL hl
  rw [i32N ⟨by omega, by omega⟩ hi0, show ((i.toNat : Nat) : Int) = i by omega]
  exact hkk
theorem v_bald (C : Cx G X cc nL own d kc ks ret nm) {a i x : Int} (hk : h a (-1) = 102) (hi0 : 0 ≤ i) (hi1 : i < h a (-2)) (hv : h a i = x) (hd : decode cc pc = .ok (.baload, 1)) (kk : V G X nL uc us Q (pc + 1) lv (iv x :: st) h) : V G X nL uc us Q pc lv (iv i :: rf a :: st) h := by
  subst hv
  intro H locs ls hH hL hl
  obtain ⟨h1, h2⟩ := hH.lt (a := a) (by omega)
  have he := wl_get (G := G) h1 h2
  rw [cE_int (k := 1) hk (by omega)] at he
  have hl2 := (hH.2.2.2.2.1 a).2
  rw [List.map_cons, List.map_cons, rv_ref (by omega)]
  refine va_bald C.1 C.2.1 C.2.2.2.2.2.2.2.1.1 hH.2.1 _ 1 he rfl (i := Int32.ofInt i) (i32in hi0 hi1 hl2) hd ?_
  have hkk := kk H locs ls hH hL hl
  rw [i32N ⟨by omega, by omega⟩ hi0, show ((i.toNat : Nat) : Int) = i by omega]
  exact hkk
theorem v_zald (C : Cx G X cc nL own d kc ks ret nm) {a i x : Int} (hk : h a (-1) = 103) (hi0 : 0 ≤ i) (hi1 : i < h a (-2)) (hv : h a i = x) (hd : decode cc pc = .ok (.baload, 1)) (kk : V G X nL uc us Q (pc + 1) lv (iv x :: st) h) : V G X nL uc us Q pc lv (iv i :: rf a :: st) h := by
  subst hv
  intro H locs ls hH hL hl
  obtain ⟨h1, h2⟩ := hH.lt (a := a) (by omega)
  have he := wl_get (G := G) h1 h2
  rw [cE_int (k := 2) hk (by omega)] at he
  have hl2 := (hH.2.2.2.2.1 a).2
  rw [List.map_cons, List.map_cons, rv_ref (by omega)]
  refine va_zald C.1 C.2.1 C.2.2.2.2.2.2.2.1.1 hH.2.1 _ 2 he rfl (i := Int32.ofInt i) (i32in hi0 hi1 hl2) hd ?_
  have hkk := kk H locs ls hH hL hl
  rw [i32N ⟨by omega, by omega⟩ hi0, show ((i.toNat : Nat) : Int) = i by omega]
  exact hkk
theorem v_lald (C : Cx G X cc nL own d kc ks ret nm) {a i x : Int} (hk : h a (-1) = 104) (hi0 : 0 ≤ i) (hi1 : i < h a (-2)) (hv : h a i = x) (hd : decode cc pc = .ok (.laload, 1)) (kk : V G X nL uc us Q (pc + 1) lv (jv x :: st) h) : V G X nL uc us Q pc lv (iv i :: rf a :: st) h := by
  subst hv
  intro H locs ls hH hL hl
  obtain ⟨h1, h2⟩ := hH.lt (a := a) (by omega)
  have he := wl_get (G := G) h1 h2
  rw [cE_long hk] at he
  have hl2 := (hH.2.2.2.2.1 a).2
  rw [List.map_cons, List.map_cons, rv_ref (by omega)]
  refine va_lald C.1 C.2.1 C.2.2.2.2.2.2.2.1.1 hH.2.1 _ 3 he rfl (i := Int32.ofInt i) (i32in hi0 hi1 hl2) hd ?_
  have hkk := kk H locs ls hH hL hl
  rw [i32N ⟨by omega, by omega⟩ hi0, show ((i.toNat : Nat) : Int) = i by omega]
  exact hkk
theorem v_aald (C : Cx G X cc nL own d kc ks ret nm) {a i x : Int} (k : Nat) (hk4 : 4 ≤ k) (hk8 : k < 9) (hk : h a (-1) = (k : Int) + 101) (hi0 : 0 ≤ i) (hi1 : i < h a (-2)) (hv : h a i = x) (hd : decode cc pc = .ok (.aaload, 1)) (kk : V G X nL uc us Q (pc + 1) lv (rf x :: st) h) : V G X nL uc us Q pc lv (iv i :: rf a :: st) h := by
  subst hv
  intro H locs ls hH hL hl
  obtain ⟨h1, h2⟩ := hH.lt (a := a) (by omega)
  have he := wl_get (G := G) h1 h2
  rw [cE_ref hk hk4] at he
  have hl2 := (hH.2.2.2.2.1 a).2
  rw [List.map_cons, List.map_cons, rv_ref (by omega)]
  obtain ⟨cn, hcn⟩ : ∃ cn, (tysL G)[k]? = some (G.2.2.2.2.1 k, .object cn) := by
    match k, hk4, hk8 with
    | 4, _, _ => exact ⟨_, rfl⟩
    | 5, _, _ => exact ⟨_, rfl⟩
    | 6, _, _ => exact ⟨_, rfl⟩
    | 7, _, _ => exact ⟨_, rfl⟩
    | 8, _, _ => exact ⟨_, rfl⟩
  refine va_aldq C.1 C.2.1 C.2.2.2.2.2.2.2.1.1 hH.2.1 _ k he hcn (i := Int32.ofInt i) (i32in hi0 hi1 hl2) hd ?_
  have hkk := kk H locs ls hH hL hl
  rw [i32N ⟨by omega, by omega⟩ hi0, show ((i.toNat : Nat) : Int) = i by omega]
  exact hkk
theorem v_alen (C : Cx G X cc nL own d kc ks ret nm) {a x : Int} (k : Nat) (hk8 : k < 9) (hk : h a (-1) = (k : Int) + 101) (hv : h a (-2) = x) (hd : decode cc pc = .ok (.arraylength, 1)) (kk : V G X nL uc us Q (pc + 1) lv (iv x :: st) h) : V G X nL uc us Q pc lv (rf a :: st) h := by
  subst hv
  intro H locs ls hH hL hl
  obtain ⟨h1, h2⟩ := hH.lt (a := a) (by omega)
  have he := wl_get (G := G) h1 h2
  have hl2 := hH.2.2.2.2.1 a
  rw [List.map_cons, rv_ref (by omega)]
  have hkk := kk H locs ls hH hL hl
  have e : Int32.ofNat (h a (-2)).toNat = Int32.ofInt (h a (-2)) := by
    rw [show Int32.ofInt (h a (-2)) = Int32.ofInt (((h a (-2)).toNat : Nat) : Int) by rw [show (((h a (-2)).toNat : Nat) : Int) = h a (-2) by omega]]
    rfl
  obtain ⟨ty, hty⟩ : ∃ ty, (tysL G)[k]? = some (G.2.2.2.2.1 k, ty) := by
    match k, hk8 with
    | 0, _ => exact ⟨_, rfl⟩
    | 1, _ => exact ⟨_, rfl⟩
    | 2, _ => exact ⟨_, rfl⟩
    | 3, _ => exact ⟨_, rfl⟩
    | 4, _ => exact ⟨_, rfl⟩
    | 5, _ => exact ⟨_, rfl⟩
    | 6, _ => exact ⟨_, rfl⟩
    | 7, _ => exact ⟨_, rfl⟩
    | 8, _ => exact ⟨_, rfl⟩
  have he2 : (wl G h)[a.toNat - 1]? = some (ad G a, .inl (G.2.2.2.2.1 k, cA G h a)) := by
    rw [he, cE, if_neg (by omega), hk, show ((k : Int) + 101).toNat - 101 = k by omega]
  exact va_alen (v := Int32.ofInt (h a (-2))) C.1 C.2.1 C.2.2.2.2.2.2.2.1.1 hH.2.1 _ k he2 hty e hd hkk
theorem updI {f : Int → Int} {i x : Int} (h0 : 0 ≤ i) (g : Int → Int) (hg : ∀ j, g j = if j = i then x else f j) {α : Type} (F : Int → α) : (fun j : Nat => F (g j)) = fun j : Nat => if j = i.toNat then F x else F (f j) := by
  funext j
  rw [hg]
  by_cases hj : j = i.toNat
  · rw [if_pos (by omega), if_pos hj]
  · rw [if_neg (by omega), if_neg hj]
theorem up_row {h : Mem} {a i x : Int} (j : Int) : up h a i x a j = if j = i then x else h a j := by
  unfold up
  by_cases hj : j = i
  · rw [if_pos ⟨rfl, hj⟩, if_pos hj]
  · rw [if_neg (fun z => hj z.2), if_neg hj]
theorem v_iast (C : Cx G X cc nL own d kc ks ret nm) {a i x : Int} (hk : h a (-1) = 101) (hi0 : 0 ≤ i) (hi1 : i < h a (-2)) (hx : R32 x) (hd : decode cc pc = .ok (.iastore, 1)) (kk : V G X nL uc us Q (pc + 1) lv st (up h a i x)) : V G X nL uc us Q pc lv (iv x :: iv i :: rf a :: st) h := by
  intro H locs ls hH hL hl
  obtain ⟨h1, h2⟩ := hH.lt (a := a) (by omega)
  have he := wl_get (G := G) h1 h2
  rw [cE_int (k := 0) hk (by omega)] at he
  have hl2 := (hH.2.2.2.2.1 a).2
  have hK := C.2.2.2.2.2.2.2.1
  rw [List.map_cons, List.map_cons, List.map_cons, rv_ref (by omega)]
  refine W.iast C.1 C.2.1 (hH.2.1 _ _ he) ((hK.1.2 0 _ rfl).1 (h a (-2)).toNat (fun j => .int (Int32.ofInt (h a j)))) (fun q => by cases q) (j := Int32.ofInt i) (by show ¬ (Int32.ofInt i < 0 ∨ (arrV _ _ _).slots.size ≤ _); rw [arrV_size]; exact i32in hi0 hi1 hl2) rfl rfl hd fun H1 e z oq => ?_
  refine kk H1 _ ls (HR_store hH ⟨fun _ => hx, fun z => by rw [hk] at z; cases z⟩ h1 h2 hi0 z oq ?_) (HL_put hL h1) hl
  rw [cE_int (k := 0) (by rw [up_i (by omega)]; exact hk) (by omega)]
  show H1[ad G a]? = some (vp_cell _ _)
  rw [e, i32N ⟨by omega, by omega⟩ hi0, up_i (by omega), vp_cell_i, vp_cell_i, arrV_store]
  congr 2
  funext j
  rw [updV, up_row]
  by_cases hj : j = i.toNat
  · rw [if_pos hj, if_pos (by omega)]
  · rw [if_neg hj, if_neg (by omega)]
theorem v_bast (C : Cx G X cc nL own d kc ks ret nm) {a i x : Int} (hk : h a (-1) = 102) (hi0 : 0 ≤ i) (hi1 : i < h a (-2)) (hx0 : -128 ≤ x) (hx1 : x < 128) (hd : decode cc pc = .ok (.bastore, 1)) (kk : V G X nL uc us Q (pc + 1) lv st (up h a i x)) : V G X nL uc us Q pc lv (iv x :: iv i :: rf a :: st) h := by
  intro H locs ls hH hL hl
  obtain ⟨h1, h2⟩ := hH.lt (a := a) (by omega)
  have he := wl_get (G := G) h1 h2
  rw [cE_int (k := 1) hk (by omega)] at he
  have hl2 := (hH.2.2.2.2.1 a).2
  have hK := C.2.2.2.2.2.2.2.1
  have hnar : narrow .byte (.int (Int32.ofInt x)) = .int (Int32.ofInt x) := by
    show Value.int _ = _
    rw [w8_cong x, show w8 x = x by unfold w8; omega]
  rw [List.map_cons, List.map_cons, List.map_cons, rv_ref (by omega)]
  refine W.bast C.1 C.2.1 (hH.2.1 _ _ he) ((hK.1.2 1 _ rfl).1 (h a (-2)).toNat (fun j => .int (Int32.ofInt (h a j)))) (fun q => by cases q) (j := Int32.ofInt i) (by show ¬ (Int32.ofInt i < 0 ∨ (arrV _ _ _).slots.size ≤ _); rw [arrV_size]; exact i32in hi0 hi1 hl2) rfl rfl hd fun H1 e z oq => ?_
  rw [hnar] at e
  refine kk H1 _ ls (HR_store hH ⟨fun _ => ⟨by omega, by omega⟩, fun z => by rw [hk] at z; cases z⟩ h1 h2 hi0 z oq ?_) (HL_put hL h1) hl
  rw [cE_int (k := 1) (by rw [up_i (by omega)]; exact hk) (by omega)]
  show H1[ad G a]? = some (vp_cell _ _)
  rw [e, i32N ⟨by omega, by omega⟩ hi0, up_i (by omega), vp_cell_i, vp_cell_i, arrV_store]
  congr 2
  funext j
  rw [updV, up_row]
  by_cases hj : j = i.toNat
  · rw [if_pos hj, if_pos (by omega)]
  · rw [if_neg hj, if_neg (by omega)]
theorem v_zast (C : Cx G X cc nL own d kc ks ret nm) {a i x : Int} (hk : h a (-1) = 103) (hi0 : 0 ≤ i) (hi1 : i < h a (-2)) (hx : x = 0 ∨ x = 1) (hd : decode cc pc = .ok (.bastore, 1)) (kk : V G X nL uc us Q (pc + 1) lv st (up h a i x)) : V G X nL uc us Q pc lv (iv x :: iv i :: rf a :: st) h := by
  intro H locs ls hH hL hl
  obtain ⟨h1, h2⟩ := hH.lt (a := a) (by omega)
  have he := wl_get (G := G) h1 h2
  rw [cE_int (k := 2) hk (by omega)] at he
  have hl2 := (hH.2.2.2.2.1 a).2
  have hK := C.2.2.2.2.2.2.2.1
  have hnar : narrow .boolean (.int (Int32.ofInt x)) = .int (Int32.ofInt x) := by
    rcases hx with hx | hx <;> subst hx <;> rfl
  rw [List.map_cons, List.map_cons, List.map_cons, rv_ref (by omega)]
  refine W.zast C.1 C.2.1 (hH.2.1 _ _ he) ((hK.1.2 2 _ rfl).1 (h a (-2)).toNat (fun j => .int (Int32.ofInt (h a j)))) (fun q => by cases q) (j := Int32.ofInt i) (by show ¬ (Int32.ofInt i < 0 ∨ (arrV _ _ _).slots.size ≤ _); rw [arrV_size]; exact i32in hi0 hi1 hl2) rfl rfl hd fun H1 e z oq => ?_
  rw [hnar] at e
  refine kk H1 _ ls (HR_store hH ⟨fun _ => ⟨by omega, by omega⟩, fun z => by rw [hk] at z; cases z⟩ h1 h2 hi0 z oq ?_) (HL_put hL h1) hl
  rw [cE_int (k := 2) (by rw [up_i (by omega)]; exact hk) (by omega)]
  show H1[ad G a]? = some (vp_cell _ _)
  rw [e, i32N ⟨by omega, by omega⟩ hi0, up_i (by omega), vp_cell_i, vp_cell_i, arrV_store]
  congr 2
  funext j
  rw [updV, up_row]
  by_cases hj : j = i.toNat
  · rw [if_pos hj, if_pos (by omega)]
  · rw [if_neg hj, if_neg (by omega)]
theorem v_last (C : Cx G X cc nL own d kc ks ret nm) {a i x : Int} (hk : h a (-1) = 104) (hi0 : 0 ≤ i) (hi1 : i < h a (-2)) (hx : R64 x) (hd : decode cc pc = .ok (.lastore, 1)) (kk : V G X nL uc us Q (pc + 1) lv st (up h a i x)) : V G X nL uc us Q pc lv (jv x :: iv i :: rf a :: st) h := by
  intro H locs ls hH hL hl
  obtain ⟨h1, h2⟩ := hH.lt (a := a) (by omega)
  have he := wl_get (G := G) h1 h2
  rw [cE_long hk] at he
  have hl2 := (hH.2.2.2.2.1 a).2
  have hK := C.2.2.2.2.2.2.2.1
  rw [List.map_cons, List.map_cons, List.map_cons, rv_ref (by omega)]
  refine W.last C.1 C.2.1 (hH.2.1 _ _ he) ((hK.1.2 3 _ rfl).1 (h a (-2)).toNat (fun j => .long (Int64.ofInt (h a j)))) (fun q => by cases q) (j := Int32.ofInt i) (by show ¬ (Int32.ofInt i < 0 ∨ (arrV _ _ _).slots.size ≤ _); rw [arrV_size]; exact i32in hi0 hi1 hl2) rfl rfl hd fun H1 e z oq => ?_
  refine kk H1 _ ls (HR_store hH ⟨fun z => (by rw [hk] at z; cases z), fun _ => hx⟩ h1 h2 hi0 z oq ?_) (HL_put hL h1) hl
  rw [cE_long (by rw [up_i (by omega)]; exact hk)]
  show H1[ad G a]? = some (vp_cell _ _)
  rw [e, i32N ⟨by omega, by omega⟩ hi0, up_i (by omega), vp_cell_l, vp_cell_l, arrV_store]
  congr 2
  funext j
  rw [updV, up_row]
  by_cases hj : j = i.toNat
  · rw [if_pos hj, if_pos (by omega)]
  · rw [if_neg hj, if_neg (by omega)]
theorem HR_aast {H H1 : Heap} (hH : HR G h H) {a i x : Int} {k : Nat} (hk4 : 4 ≤ k) (hk : h a (-1) = (k : Int) + 101) (hi0 : 0 ≤ i) (hi1 : i < h a (-2)) {v : Value} (hv : va_rf (ro G x) = v) (z : H1.size = H.size) (oq : ∀ q : Nat, q ≠ ad G a → H1[q]? = H[q]?)
    (e : H1[ad G a]? = some ((vp_cell (G.2.2.2.2.1 k) ((h a (-2)).toNat, .inr (.inr (.inr (.inr fun j => ro G (h a j)))))).setSlot i.toNat v)) : HR G (up h a i x) H1 := by
  obtain ⟨h1, h2⟩ := hH.lt (a := a) (by omega)
  refine HR_store hH ⟨fun q => ?_, fun q => ?_⟩ h1 h2 hi0 z oq ?_
  · rw [hk, isI, if_pos (by omega)] at q
    have := of_decide_eq_true q
    omega
  · rw [hk, isJ, if_pos (by omega)] at q
    have := of_decide_eq_true q
    omega
  rw [cE_ref (by rw [up_i (by omega)]; exact hk) hk4]
  show H1[ad G a]? = some (vp_cell _ _)
  rw [e, up_i (by omega), vp_cell_q, vp_cell_q, arrV_store]
  congr 2
  funext j
  rw [updV, up_row]
  by_cases hj : j = i.toNat
  · rw [if_pos hj, if_pos (by omega), hv]
  · rw [if_neg hj, if_neg (by omega)]
theorem v_aastN (C : Cx G X cc nL own d kc ks ret nm) {a i : Int} (k : Nat) (cn : String) (hcn : (tysL G)[k]? = some (G.2.2.2.2.1 k, .object cn)) (hk4 : 4 ≤ k) (hk : h a (-1) = (k : Int) + 101) (hi0 : 0 ≤ i) (hi1 : i < h a (-2)) (hd : decode cc pc = .ok (.aastore, 1)) (kk : V G X nL uc us Q (pc + 1) lv st (up h a i 0)) : V G X nL uc us Q pc lv (rf 0 :: iv i :: rf a :: st) h := by
  intro H locs ls hH hL hl
  obtain ⟨h1, h2⟩ := hH.lt (a := a) (by omega)
  have he := wl_get (G := G) h1 h2
  rw [cE_ref hk hk4] at he
  have hl2 := (hH.2.2.2.2.1 a).2
  have hK := C.2.2.2.2.2.2.2.1
  rw [List.map_cons, List.map_cons, List.map_cons, rv_ref (x := a) (by omega)]
  refine va_WaastN (C := cn) C.1 C.2.1 (hH.2.1 _ _ he) ((hK.1.2 k _ hcn).1 (h a (-2)).toNat (fun j => va_rf (ro G (h a j)))) (fun q => by cases q) (j := Int32.ofInt i) (by show ¬ (Int32.ofInt i < 0 ∨ (arrV _ _ _).slots.size ≤ _); rw [arrV_size]; exact i32in hi0 hi1 hl2) rfl rfl hd fun H1 e z oq => ?_
  rw [i32N ⟨by omega, by omega⟩ hi0] at e
  exact kk H1 _ ls (HR_aast (x := 0) hH hk4 hk hi0 hi1 rfl z oq e) (HL_put hL h1) hl
theorem v_aast (C : Cx G X cc nL own d kc ks ret nm) {a i x : Int} (k : Nat) {ci N : Nat} {Cn : String} {T : u_T} (hcn : (tysL G)[k]? = some (G.2.2.2.2.1 k, .object Cn)) (hk4 : 4 ≤ k) (hk : h a (-1) = (k : Int) + 101) (hi0 : 0 ≤ i) (hi1 : i < h a (-2)) (hc : vwCl[ci]? = some (Cn, T, N)) (hx : h x (-1) = (ci : Int) + 1) (hd : decode cc pc = .ok (.aastore, 1)) (kk : V G X nL uc us Q (pc + 1) lv st (up h a i x)) : V G X nL uc us Q pc lv (rf x :: iv i :: rf a :: st) h := by
  intro H locs ls hH hL hl
  obtain ⟨h1, h2⟩ := hH.lt (a := a) (by omega)
  obtain ⟨x1, x2⟩ := hH.lt (a := x) (by omega)
  have hci : ci < 14 := (List.getElem?_eq_some_iff.mp hc).1
  have he := wl_get (G := G) h1 h2
  rw [cE_ref hk hk4] at he
  have hv := wl_get (G := G) x1 x2
  rw [cE_obj hx (by omega)] at hv
  have hl2 := (hH.2.2.2.2.1 a).2
  have hK := C.2.2.2.2.2.2.2.1
  rw [List.map_cons, List.map_cons, List.map_cons, rv_ref (x := a) (by omega), rv_ref (x := x) (by omega)]
  obtain ⟨r', hr', cellV, g1, g2, g3, -⟩ := hH.2.1 _ _ hv
  have hcls := (hK.1.1 ci _ hc).2
  obtain ⟨kA, comp, k1, k2, k3, -⟩ := (hK.1.2 k _ hcn).2
  have hcomp : comp = G.2.2.1 ci := Option.some.inj (k3.symm.trans hcls.1)
  subst hcomp
  obtain ⟨kC, hkC, -⟩ := hcls.2
  refine W.aast C.1 C.2.1 (hH.2.1 _ _ he) (fun q h => by cases h) (fun h => by cases h) k1 k2 rfl hkC (j := Int32.ofInt i) ⟨fun q => i32in hi0 hi1 hl2 (Or.inl q), by show _ < (arrV _ _ _).slots.size; rw [arrV_size]; exact Nat.not_le.mp fun q => i32in hi0 hi1 hl2 (Or.inr q)⟩ g1 (fun q h => by rw [g3] at h; cases h) (by rw [g2]; exact hkC) (by rw [g2]; exact va_assign hcls) rfl rfl hd fun H1 e z oq => ?_
  rw [i32N ⟨by omega, by omega⟩ hi0] at e
  exact kk H1 _ ls (HR_aast (x := x) hH hk4 hk hi0 hi1 (rv_ref (G := G) (by omega)) z oq e) (HL_put hL h1) hl
theorem v_aastS (C : Cx G X cc nL own d kc ks ret nm) {a i : Int} (n : Nat) (hn : n < 45) (hk : h a (-1) = 105) (hi0 : 0 ≤ i) (hi1 : i < h a (-2)) (hd : decode cc pc = .ok (.aastore, 1)) (kk : V G X nL uc us Q (pc + 1) lv st (up h a i (sK n))) : V G X nL uc us Q pc lv (rf (sK n) :: iv i :: rf a :: st) h := by
  intro H locs ls hH hL hl
  obtain ⟨h1, h2⟩ := hH.lt (a := a) (by omega)
  have he := wl_get (G := G) h1 h2
  rw [cE_ref (k := 4) hk (by omega)] at he
  have hl2 := (hH.2.2.2.2.1 a).2
  have hK := C.2.2.2.2.2.2.2.1
  rw [List.map_cons, List.map_cons, List.map_cons, rv_ref (x := a) (by omega), rv_ref (x := sK n) (sK_ne n)]
  obtain ⟨cellV, g1, g2, g3, g4⟩ := (hK.2.2.1.1 n hn).1.1
  have g1' : H[ad G (sK n)]? = some cellV := by rw [hH.2.2.1 _ (by have := g4; exact Nat.not_le.mp this)]; exact g1
  obtain ⟨kA, comp, k1, k2, k3, -⟩ := (hK.1.2 4 _ rfl).2
  have hcomp : comp = cellV.cls := Option.some.inj (k3.symm.trans g3)
  subst hcomp
  obtain ⟨kC, hkC, -⟩ := Vm.findClass_spec g3
  refine W.aast C.1 C.2.1 (hH.2.1 _ _ he) (fun q h => by cases h) (fun h => by cases h) k1 k2 rfl hkC (j := Int32.ofInt i) ⟨fun q => i32in hi0 hi1 hl2 (Or.inl q), by show _ < (arrV _ _ _).slots.size; rw [arrV_size]; exact Nat.not_le.mp fun q => i32in hi0 hi1 hl2 (Or.inr q)⟩ g1' (fun q h => by rw [h] at g2; cases g2) hkC (vb_asgS _ _ g3 g3) rfl rfl hd fun H1 e z oq => ?_
  rw [i32N ⟨by omega, by omega⟩ hi0] at e
  exact kk H1 _ ls (HR_aast (k := 4) (x := sK n) hH (by omega) hk hi0 hi1 (rv_ref (G := G) (sK_ne n)) z oq e) (HL_put hL h1) hl
/-- a new cell: its kind, its length -/
def alloc (h : Mem) (k n : Int) : Mem := fun a j => if a = 0 ∧ j = 0 then h 0 0 + 1 else if a = h 0 0 then (if j = -1 then k else if j = -2 then n else 0) else h a j
theorem alloc_0 (h : Mem) (k n : Int) : alloc h k n 0 0 = h 0 0 + 1 := if_pos ⟨rfl, rfl⟩
theorem alloc_old {h : Mem} {k n a j : Int} (h0 : ¬ (a = 0 ∧ j = 0)) (h1 : a ≠ h 0 0) : alloc h k n a j = h a j := by rw [alloc, if_neg h0, if_neg h1]
theorem alloc_new {h : Mem} {k n j : Int} (h0 : 1 ≤ h 0 0) : alloc h k n (h 0 0) j = if j = -1 then k else if j = -2 then n else 0 := by rw [alloc, if_neg (by omega), if_pos rfl]
theorem wl_alloc {G : GT} {h : Mem} {k n : Int} (h0 : 1 ≤ h 0 0) : wl G (alloc h k n) = wl G h ++ [(ad G (h 0 0), cE G (alloc h k n) (h 0 0))] := by
  have e : (alloc h k n 0 0).toNat - 1 = ((h 0 0).toNat - 1) + 1 := by rw [alloc_0]; omega
  rw [wl, e, List.range_succ, List.map_append, wl]
  congr 1
  · apply List.map_congr_left
    intro j hj
    have hj2 := List.mem_range.mp hj
    have q : ∀ i, alloc h k n ((j : Int) + 1) i = h ((j : Int) + 1) i := fun i => alloc_old (by omega) (by omega)
    simp only [cE, cA, flds, q]
  · rw [List.map_singleton, ad_pos G h0, show (((h 0 0).toNat - 1 : Nat) : Int) + 1 = h 0 0 by omega]
theorem HR_alloc {G : GT} {h : Mem} {H H1 : Heap} (hG : G.2.1.size = G.1) (hH : HR G h H) {k n : Int} (hk0 : 0 ≤ k) (hk1 : k < 1000) (hn0 : 0 ≤ n) (hn : n < 2147483648) (z : H1.size = H.size + 1) (oq : ∀ q : Nat, q < H.size → H1[q]? = H[q]?) (hat : va_at (gD G) vwCl (H.size, cE G (alloc h k n) (h 0 0)) H1) : HR G (alloc h k n) H1 ∧ H.size = ad G (h 0 0) := by
  have h1 := hH.1.1
  have h0 := hH.1.2
  have ea : H.size = ad G (h 0 0) := by rw [ad_pos G h0]; omega
  refine ⟨⟨⟨by rw [z, alloc_0]; omega, by rw [alloc_0]; omega⟩, ?_, fun q hq => (oq q (by omega)).trans (hH.2.2.1 q hq), fun a ha => ?_, fun a => ?_, fun a j ha => ?_⟩, ea⟩
  · rw [wl_alloc h0, ← ea]
    refine (hH.2.1.kept fun k x hx => oq x.1 ((hH.2.1 k x hx).lt)).app fun k x hx => ?_
    have hz : k < 1 := (List.getElem?_eq_some_iff.mp hx).1
    rw [show k = 0 by omega] at hx
    cases hx
    exact hat
  · rw [alloc_0]
    by_cases hae : a = h 0 0
    · omega
    · rw [alloc_old (by omega) hae] at ha
      have := hH.2.2.2.1 a ha
      omega
  · by_cases hae : a = h 0 0
    · rw [hae, alloc_new h0, if_neg (by omega), if_pos rfl]
      exact ⟨hn0, hn⟩
    · rw [alloc_old (by omega) hae]
      exact hH.2.2.2.2.1 a
  · by_cases hae : a = h 0 0
    · have e : R32 (alloc h k n a j) := by
        rw [hae, alloc_new h0]
        split
        · exact ⟨by omega, by omega⟩
        · split
          · exact ⟨by omega, by omega⟩
          · exact ⟨by omega, by omega⟩
      exact ⟨fun _ => e, fun _ => ⟨by have := e.1; omega, by have := e.2; omega⟩⟩
    · rw [alloc_old (by omega) hae, alloc_old (by omega) hae]
      exact hH.2.2.2.2.2 a j ha
theorem def_rv {G : GT} {ty : FieldType} (h : okf ty 0) : defaultValue ty = rv G (tg ty, 0) := by
  cases ty <;> first | rfl | exact h.elim
theorem v_new (C : Cx G X cc nL own d kc ks ret nm) {Cn : String} {T : u_T} {N ci index : Nat} (hin : ∀ w ∈ u_ws Cn T N, w ∈ lw_all) (hc : vwCl[ci]? = some (Cn, T, N)) (hcN : cN ci = N) (hty : ∀ k, k < N → parseFieldDescriptor (T k).2.2.1 = some (cty ci k)) (hok : ∀ k, k < N → okf (cty ci k) 0) (hcl : Cond.classLink own index Cn ∈ lw_all) (hins : Cond.instantiable Cn N ∈ lw_all) (hini : Cond.initialized Cn ∈ lw_all) (hu : uc + 1 ≤ kc) (hus : us + N ≤ ks) (hd : decode cc pc = .ok (.new index, 3)) (kk : V G X nL (uc + 1) (us + N) Q (pc + 3) lv (rf (h 0 0) :: st) (alloc h ((ci : Int) + 1) 0)) : V G X nL uc us Q pc lv st h := by
  intro H locs ls hH hL hl
  have hK := C.2.2.2.2.2.2.2.1
  have hts := C.2.2.2.2.1
  have hci : ci < 14 := (List.getElem?_eq_some_iff.mp hc).1
  have hKn := hK.1.1 ci _ hc
  have hR := C.2.2.2.2.2.2.1
  have h0 := hH.1.2
  refine W.newcK C.1 C.2.1 C.2.2.2.1 (hts _ hcl) (hts _ hins) (hts _ hini) rfl hd (by rw [hR]; exact hu) (by rw [hR]; exact hus) hKn.2.1 rfl fun H1 kC hkC e1 z1 o1 => ?_
  have hi : alloc h ((ci : Int) + 1) 0 (h 0 0) (-1) = (ci : Int) + 1 := by rw [alloc_new h0, if_pos rfl]
  obtain ⟨hH1, ea⟩ := HR_alloc (k := (ci : Int) + 1) (n := 0) hK.2.2.2 hH (by omega) (by omega) (by omega) (by omega) z1 o1 (by
    rw [cE_obj hi (by omega)]
    refine ⟨_, hc, (u_born (cty ci) hts hin hKn hkC e1 hty).to fun j hj => ?_⟩
    show _ = (flds G _ ci _).getD j .null
    rw [List.getD_eq_getElem?_getD, flds_get (by rw [hcN]; exact hj), Option.getD_some, alloc_new h0, if_neg (by omega), if_neg (by omega)]
    exact def_rv (hok j hj))
  have hkk := kk H1 locs ls hH1 hL hl
  rw [List.map_cons, rv_ref (by omega), ← ea] at hkk
  exact hkk
theorem v_newaI (C : Cx G X cc nL own d kc ks ret nm) (n : Nat) (hq : Cond.arrayClass .int ∈ lw_all) (hn : n < 100000) (hu : uc + 1 ≤ kc) (hus : us + n ≤ ks) (hd : decode cc pc = .ok (.newarray .int, 2)) (kk : V G X nL (uc + 1) (us + n) Q (pc + 2) lv (rf (h 0 0) :: st) (alloc h 101 n)) : V G X nL uc us Q pc lv (iv (n : Int) :: st) h := by
  intro H locs ls hH hL hl
  have hK := C.2.2.2.2.2.2.2.1
  have hR := C.2.2.2.2.2.2.1
  have h0 := hH.1.2
  have hnR : R32 (n : Int) := ⟨by omega, by omega⟩
  have hnn : (Int32.ofInt (n : Int)).toNatClampNeg = n := by rw [i32N hnR (by omega)]; omega
  refine va_newaK C.1 C.2.1 (atype := .int) (C.2.2.2.2.1 _ hq) rfl hd (n := Int32.ofInt (n : Int)) rfl (fun z => by rw [show (0 : Int32) = Int32.ofInt 0 from rfl, i32_lt hnR R32_0] at z; omega) hnn (by show n * 4 ≤ _; omega) (by rw [hR]; exact hu) (by rw [hR]; exact hus) rfl fun H1 cA e1 z1 o1 hA hN => ?_
  have hcA : cA = G.2.2.2.2.1 0 := Option.some.inj (hN.symm.trans (hK.1.2 0 _ rfl).2)
  have hi : alloc h 101 n (h 0 0) (-1) = 101 := by rw [alloc_new h0, if_pos rfl]
  obtain ⟨hH1, ea⟩ := HR_alloc (k := 101) (n := n) hK.2.2.2 hH (by omega) (by omega) (by omega) (by omega) z1 o1 (by
    rw [cE_int (k := 0) hi (by omega)]
    show H1[H.size]? = some (vp_cell _ _)
    have e2 : alloc h 101 n (h 0 0) (-2) = n := by rw [alloc_new h0, if_neg (by omega), if_pos rfl]
    rw [e1, hcA, e2, vp_cell_i]
    congr 1
    show arrV _ n _ = arrV _ (n : Int).toNat _
    rw [show (n : Int).toNat = n by omega]
    congr 1
    funext j
    rw [alloc_new h0, if_neg (by omega), if_neg (by omega)]
    rfl)
  have hkk := kk H1 locs ls hH1 hL hl
  rw [List.map_cons, rv_ref (by omega), ← ea] at hkk
  exact hkk
theorem v_newaB (C : Cx G X cc nL own d kc ks ret nm) (n : Nat) (hq : Cond.arrayClass .byte ∈ lw_all) (hn : n < 100000) (hu : uc + 1 ≤ kc) (hus : us + n ≤ ks) (hd : decode cc pc = .ok (.newarray .byte, 2)) (kk : V G X nL (uc + 1) (us + n) Q (pc + 2) lv (rf (h 0 0) :: st) (alloc h 102 n)) : V G X nL uc us Q pc lv (iv (n : Int) :: st) h := by
  intro H locs ls hH hL hl
  have hK := C.2.2.2.2.2.2.2.1
  have hR := C.2.2.2.2.2.2.1
  have h0 := hH.1.2
  have hnR : R32 (n : Int) := ⟨by omega, by omega⟩
  have hnn : (Int32.ofInt (n : Int)).toNatClampNeg = n := by rw [i32N hnR (by omega)]; omega
  refine va_newaK C.1 C.2.1 (atype := .byte) (C.2.2.2.2.1 _ hq) rfl hd (n := Int32.ofInt (n : Int)) rfl (fun z => by rw [show (0 : Int32) = Int32.ofInt 0 from rfl, i32_lt hnR R32_0] at z; omega) hnn (by show n * 1 ≤ _; omega) (by rw [hR]; exact hu) (by rw [hR]; exact hus) rfl fun H1 cA e1 z1 o1 hA hN => ?_
  have hcA : cA = G.2.2.2.2.1 1 := Option.some.inj (hN.symm.trans (hK.1.2 1 _ rfl).2)
  have hi : alloc h 102 n (h 0 0) (-1) = 102 := by rw [alloc_new h0, if_pos rfl]
  obtain ⟨hH1, ea⟩ := HR_alloc (k := 102) (n := n) hK.2.2.2 hH (by omega) (by omega) (by omega) (by omega) z1 o1 (by
    rw [cE_int (k := 1) hi (by omega)]
    show H1[H.size]? = some (vp_cell _ _)
    have e2 : alloc h 102 n (h 0 0) (-2) = n := by rw [alloc_new h0, if_neg (by omega), if_pos rfl]
    rw [e1, hcA, e2, vp_cell_i]
    congr 1
    show arrV _ n _ = arrV _ (n : Int).toNat _
    rw [show (n : Int).toNat = n by omega]
    congr 1
    funext j
    rw [alloc_new h0, if_neg (by omega), if_neg (by omega)]
    rfl)
  have hkk := kk H1 locs ls hH1 hL hl
  rw [List.map_cons, rv_ref (by omega), ← ea] at hkk
  exact hkk
theorem v_newaZ (C : Cx G X cc nL own d kc ks ret nm) (n : Nat) (hq : Cond.arrayClass .boolean ∈ lw_all) (hn : n < 100000) (hu : uc + 1 ≤ kc) (hus : us + n ≤ ks) (hd : decode cc pc = .ok (.newarray .boolean, 2)) (kk : V G X nL (uc + 1) (us + n) Q (pc + 2) lv (rf (h 0 0) :: st) (alloc h 103 n)) : V G X nL uc us Q pc lv (iv (n : Int) :: st) h := by
  intro H locs ls hH hL hl
  have hK := C.2.2.2.2.2.2.2.1
  have hR := C.2.2.2.2.2.2.1
  have h0 := hH.1.2
  have hnR : R32 (n : Int) := ⟨by omega, by omega⟩
  have hnn : (Int32.ofInt (n : Int)).toNatClampNeg = n := by rw [i32N hnR (by omega)]; omega
  refine va_newaK C.1 C.2.1 (atype := .boolean) (C.2.2.2.2.1 _ hq) rfl hd (n := Int32.ofInt (n : Int)) rfl (fun z => by rw [show (0 : Int32) = Int32.ofInt 0 from rfl, i32_lt hnR R32_0] at z; omega) hnn (by show n * 1 ≤ _; omega) (by rw [hR]; exact hu) (by rw [hR]; exact hus) rfl fun H1 cA e1 z1 o1 hA hN => ?_
  have hcA : cA = G.2.2.2.2.1 2 := Option.some.inj (hN.symm.trans (hK.1.2 2 _ rfl).2)
  have hi : alloc h 103 n (h 0 0) (-1) = 103 := by rw [alloc_new h0, if_pos rfl]
  obtain ⟨hH1, ea⟩ := HR_alloc (k := 103) (n := n) hK.2.2.2 hH (by omega) (by omega) (by omega) (by omega) z1 o1 (by
    rw [cE_int (k := 2) hi (by omega)]
    show H1[H.size]? = some (vp_cell _ _)
    have e2 : alloc h 103 n (h 0 0) (-2) = n := by rw [alloc_new h0, if_neg (by omega), if_pos rfl]
    rw [e1, hcA, e2, vp_cell_i]
    congr 1
    show arrV _ n _ = arrV _ (n : Int).toNat _
    rw [show (n : Int).toNat = n by omega]
    congr 1
    funext j
    rw [alloc_new h0, if_neg (by omega), if_neg (by omega)]
    rfl)
  have hkk := kk H1 locs ls hH1 hL hl
  rw [List.map_cons, rv_ref (by omega), ← ea] at hkk
  exact hkk
theorem v_newaJ (C : Cx G X cc nL own d kc ks ret nm) (n : Nat) (hq : Cond.arrayClass .long ∈ lw_all) (hn : n < 100000) (hu : uc + 1 ≤ kc) (hus : us + n ≤ ks) (hd : decode cc pc = .ok (.newarray .long, 2)) (kk : V G X nL (uc + 1) (us + n) Q (pc + 2) lv (rf (h 0 0) :: st) (alloc h 104 n)) : V G X nL uc us Q pc lv (iv (n : Int) :: st) h := by
  intro H locs ls hH hL hl
  have hK := C.2.2.2.2.2.2.2.1
  have hR := C.2.2.2.2.2.2.1
  have h0 := hH.1.2
  have hnR : R32 (n : Int) := ⟨by omega, by omega⟩
  have hnn : (Int32.ofInt (n : Int)).toNatClampNeg = n := by rw [i32N hnR (by omega)]; omega
  refine va_newaK C.1 C.2.1 (atype := .long) (C.2.2.2.2.1 _ hq) rfl hd (n := Int32.ofInt (n : Int)) rfl (fun z => by rw [show (0 : Int32) = Int32.ofInt 0 from rfl, i32_lt hnR R32_0] at z; omega) hnn (by show n * 8 ≤ _; omega) (by rw [hR]; exact hu) (by rw [hR]; exact hus) rfl fun H1 cA e1 z1 o1 hA hN => ?_
  have hcA : cA = G.2.2.2.2.1 3 := Option.some.inj (hN.symm.trans (hK.1.2 3 _ rfl).2)
  have hi : alloc h 104 n (h 0 0) (-1) = 104 := by rw [alloc_new h0, if_pos rfl]
  obtain ⟨hH1, ea⟩ := HR_alloc (k := 104) (n := n) hK.2.2.2 hH (by omega) (by omega) (by omega) (by omega) z1 o1 (by
    rw [cE_long hi]
    show H1[H.size]? = some (vp_cell _ _)
    have e2 : alloc h 104 n (h 0 0) (-2) = n := by rw [alloc_new h0, if_neg (by omega), if_pos rfl]
    rw [e1, hcA, e2, vp_cell_l]
    congr 1
    show arrV _ n _ = arrV _ (n : Int).toNat _
    rw [show (n : Int).toNat = n by omega]
    congr 1
    funext j
    rw [alloc_new h0, if_neg (by omega), if_neg (by omega)]
    rfl)
  have hkk := kk H1 locs ls hH1 hL hl
  rw [List.map_cons, rv_ref (by omega), ← ea] at hkk
  exact hkk
theorem v_anew (C : Cx G X cc nL own d kc ks ret nm) (n : Nat) (k : Nat) {cn : String} {index : Nat} (hk4 : 4 ≤ k) (hcn : (tysL G)[k]? = some (G.2.2.2.2.1 k, .object cn)) (hq : Cond.arrayOver (.object cn) ∈ lw_tbl) (hcl : Cond.classLink own index cn ∈ lw_all) (hn : n < 100000) (hu : uc + 1 ≤ kc) (hus : us + n ≤ ks) (hd : decode cc pc = .ok (.anewarray index, 3)) (kk : V G X nL (uc + 1) (us + n) Q (pc + 3) lv (rf (h 0 0) :: st) (alloc h ((k : Int) + 101) n)) : V G X nL uc us Q pc lv (iv (n : Int) :: st) h := by
  intro H locs ls hH hL hl
  have hK := C.2.2.2.2.2.2.2.1
  have hR := C.2.2.2.2.2.2.1
  have h0 := hH.1.2
  have hnR : R32 (n : Int) := ⟨by omega, by omega⟩
  have hnn : (Int32.ofInt (n : Int)).toNatClampNeg = n := by rw [i32N hnR (by omega)]; omega
  refine W.anew C.1 C.2.1 C.2.2.2.1 (C.2.2.2.2.1 _ hcl) (va_AO.use (hK.2.1 _ (lw_n hq rfl))) rfl hd (n := Int32.ofInt (n : Int)) rfl (fun z => by rw [show (0 : Int32) = Int32.ofInt 0 from rfl, i32_lt hnR R32_0] at z; omega) (by rw [hnn]; omega) (by rw [hR]; exact hu) (by rw [hR, hnn]; exact hus) fun cA kA comp f1 f2 f3 f4 => ?_
  rw [hnn]
  generalize hH1 : H.push ({ cls := cA, slots := Array.replicate n .null, vm := .none } : Cell) = H1
  have z1 : H1.size = H.size + 1 := by rw [← hH1, Array.size_push]
  have e1 : H1[H.size]? = some (arrV cA n (fun _ => .null)) := by rw [← hH1, Array.getElem?_push_size, ← arrV_new]
  have o1 : ∀ q : Nat, q < H.size → H1[q]? = H[q]? := fun q hq => by rw [← hH1, Array.getElem?_push, if_neg (Nat.ne_of_lt hq)]
  obtain ⟨kA', comp', g1, g2, g3, g4⟩ := (hK.1.2 k _ hcn).2
  have hcA : cA = G.2.2.2.2.1 k := Option.some.inj (f1.symm.trans g4)
  have hi : alloc h ((k : Int) + 101) n (h 0 0) (-1) = (k : Int) + 101 := by rw [alloc_new h0, if_pos rfl]
  obtain ⟨hH1', ea⟩ := HR_alloc (k := (k : Int) + 101) (n := n) hK.2.2.2 hH (by omega) (by have := (List.getElem?_eq_some_iff.mp hcn).1; have e9 : (tysL G).length = 9 := rfl; omega) (by omega) (by omega) z1 o1 (by
    rw [cE_ref hi hk4]
    show H1[H.size]? = some (vp_cell _ _)
    have e2 : alloc h ((k : Int) + 101) n (h 0 0) (-2) = n := by rw [alloc_new h0, if_neg (by omega), if_pos rfl]
    rw [e1, hcA, e2, vp_cell_q]
    congr 1
    show arrV _ n _ = arrV _ (n : Int).toNat _
    rw [show (n : Int).toNat = n by omega]
    congr 1
    funext j
    rw [alloc_new h0, if_neg (by omega), if_neg (by omega)]
    rfl)
  have hkk := kk H1 locs ls hH1' hL hl
  rw [List.map_cons, rv_ref (by omega), ← ea] at hkk
  exact hkk
theorem va_ldcwS {p : Program} {l : Launch} {e : Env} {R : Room} {s : State} {m : MethodId} {args : Array Value} {below : List Frame} {meth : Method} {c : Code} {locs : List Loc} {cells slots : Nat} {T : State} (X : Stand p l e R s m args below meth c T locs cells slots) (hexec : p.tables.exec = Jvm.exec) {own text : String} {index : Nat} {a : Addr} (hown : s.vm.findClass own = some m.cls)
    (hconst : (Cond.stringRef own index text).before args s = true) (hev : (Term.string own index).eval args s none [] s = some (.ref a)) {g : JFrame} (hg : g.method = m) (hdg : decode c.code g.pc = .ok (.ldc_w index, 3)) :
    ∀ target, Steps p.tables e below (T.setTop { g with pc := g.pc + 3, stack := .ref a :: g.stack }) target → Steps p.tables e below (T.setTop g) target := by
  obtain ⟨k, cf, i, a', hk, hcf, hcp, -, hr, hev'⟩ := Cond.stringRef_spec hown hconst
  cases hev.symm.trans hev'
  obtain ⟨k', hk', he⟩ := X.warmed.alike.2.2 _ _ hk
  have hr' : k'.resolved[index]? = some (some (.string a)) := by
    rcases X.warmed.entry hk hk' index with h | ⟨h, -⟩
    · rw [h]; exact hr
    · rw [hr] at h; cases h
  intro target hrest
  subst hg
  jvm_step X.here [hexec, hdg, ldc_w.wp_string (e := e) (s := T) (f := g) X.here.top hk' (by rw [he]; exact hcf) hcp hr']
  exact hrest
theorem old_at {H : Heap} (hH : HR G h H) {q : Nat} {cell : Cell} (hq : G.2.1[q]? = some cell) (hG : G.2.1.size = G.1) : H[q]? = some cell := by
  rw [hH.2.2.1 q (by rw [← hG]; exact (Array.getElem?_eq_some_iff.mp hq).1)]
  exact hq
theorem v_ldcS (C : Cx G X cc nL own d kc ks ret nm) (n : Nat) (hn : n < 45) {index : Nat} {tx : String} (ho : sO.getD n ("", 0, "") = (own, index, tx)) (hd : decode cc pc = .ok (.ldc index, 2)) (kk : V G X nL uc us Q (pc + 2) lv (rf (sK n) :: st) h) : V G X nL uc us Q pc lv st h := by
  intro H locs ls hH hL hl
  have hK := (C.2.2.2.2.2.2.2.1.2.2.1.1 n hn).2
  rw [ho] at hK
  have hkk := kk H locs ls hH hL hl
  rw [List.map_cons, rv_ref (sK_ne n)] at hkk
  exact va_ldcS C.1 C.2.1 C.2.2.2.1 hK hd hkk
theorem v_ldcSw (C : Cx G X cc nL own d kc ks ret nm) (n : Nat) (hn : n < 45) {index : Nat} {tx : String} (ho : sO.getD n ("", 0, "") = (own, index, tx)) (hd : decode cc pc = .ok (.ldc_w index, 3)) (kk : V G X nL uc us Q (pc + 3) lv (rf (sK n) :: st) h) : V G X nL uc us Q pc lv st h := by
  intro H locs ls hH hL hl
  have hK := (C.2.2.2.2.2.2.2.1.2.2.1.1 n hn).2
  rw [ho] at hK
  have hkk := kk H locs ls hH hL hl
  rw [List.map_cons, rv_ref (sK_ne n)] at hkk
  intro T hT X2
  obtain ⟨t, a1, b1⟩ := hkk T hT X2
  exact ⟨t, va_ldcwS X2 C.1 C.2.2.2.1 (text := tx) (a := ad G (sK n)) hK.1 hK.2 (g := F0 _ pc ls (st.map (rv G))) rfl (by rw [C.2.1]; exact hd) t a1, b1⟩
theorem v_sval (C : Cx G X cc nL own d kc ks ret nm) (n : Nat) (hn : n < 45) {index : Nat} (hlink : Cond.fieldLink own index "java/lang/String" "value" "[B" ∈ lw_all) (hd : decode cc pc = .ok (.getfield index, 3)) (kk : V G X nL uc us Q (pc + 3) lv (rf (sV n) :: st) h) : V G X nL uc us Q pc lv (rf (sK n) :: st) h := by
  intro H locs ls hH hL hl
  have hK := C.2.2.2.2.2.2.2.1
  obtain ⟨cf, k, fi, f, cell, h1, h2, h3, h4, h5, h6⟩ := (hK.2.2.1.1 n hn).1.2.2.1
  have hkk := kk H locs ls hH hL hl
  rw [List.map_cons, rv_ref (sV_ne n)] at hkk
  rw [List.map_cons, rv_ref (sK_ne n)]
  exact W.getf C.1 C.2.1 C.2.2.2.1 (C.2.2.2.2.1 _ hlink) h1 h2 (old_at hH h3 hK.2.2.2) h4 h5 rfl rfl hd hkk
theorem v_scod (C : Cx G X cc nL own d kc ks ret nm) (n : Nat) (hn : n < 45) {index : Nat} (hlink : Cond.fieldLink own index "java/lang/String" "coder" "B" ∈ lw_all) (hd : decode cc pc = .ok (.getfield index, 3)) (kk : V G X nL uc us Q (pc + 3) lv (iv 0 :: st) h) : V G X nL uc us Q pc lv (rf (sK n) :: st) h := by
  intro H locs ls hH hL hl
  have hK := C.2.2.2.2.2.2.2.1
  obtain ⟨cf, k, fi, f, cell, h1, h2, h3, h4, h5, h6⟩ := (hK.2.2.1.1 n hn).1.2.1
  have hkk := kk H locs ls hH hL hl
  rw [List.map_cons, rv_ref (sK_ne n)]
  exact W.getf C.1 C.2.1 C.2.2.2.1 (C.2.2.2.2.1 _ hlink) h1 h2 (old_at hH h3 hK.2.2.2) h4 h5 rfl rfl hd hkk
theorem v_slen (C : Cx G X cc nL own d kc ks ret nm) (n : Nat) (hn : n < 45) (hd : decode cc pc = .ok (.arraylength, 1)) (kk : V G X nL uc us Q (pc + 1) lv (iv (sL n) :: st) h) : V G X nL uc us Q pc lv (rf (sV n) :: st) h := by
  intro H locs ls hH hL hl
  have hK := C.2.2.2.2.2.2.2.1
  obtain ⟨cell, h1, h2, h3, h4, h5, h6, h7⟩ := (hK.2.2.1.1 n hn).1.2.2.2
  have hkk := kk H locs ls hH hL hl
  rw [List.map_cons, rv_ref (sV_ne n)]
  exact W.alen (n := Int32.ofInt (sL n)) C.1 C.2.1 (old_at hH h1 hK.2.2.2) h2 (by rw [h5]; rfl) rfl rfl hd hkk
theorem v_sald (C : Cx G X cc nL own d kc ks ret nm) (n : Nat) (hn : n < 45) {i : Int} (hi0 : 0 ≤ i) (hi1 : i < sL n) (hsm : sL n < 100) (hd : decode cc pc = .ok (.baload, 1)) (kk : V G X nL uc us Q (pc + 1) lv (iv (sC n i.toNat) :: st) h) : V G X nL uc us Q pc lv (iv i :: rf (sV n) :: st) h := by
  intro H locs ls hH hL hl
  have hK := C.2.2.2.2.2.2.2.1
  obtain ⟨cell, h1, h2, h3, h4, h5, h6, h7⟩ := (hK.2.2.1.1 n hn).1.2.2.2
  have hkk := kk H locs ls hH hL hl
  rw [List.map_cons, List.map_cons, rv_ref (sV_ne n)]
  have hR : R32 i := ⟨by omega, by omega⟩
  refine W.bald (j := Int32.ofInt i) (v := .int (Int32.ofInt (sC n i.toNat))) C.1 C.2.1 (old_at hH h1 hK.2.2.2) h2 h3 (fun q => ?_) ?_ rfl rfl hd hkk
  · rcases q with q | q
    · rw [show (0 : Int32) = Int32.ofInt 0 from rfl, i32_lt hR R32_0] at q
      omega
    · rw [i32N hR hi0] at q
      omega
  · rw [i32N hR hi0]
    exact h6 _ (by omega)
theorem v_gets (C : Cx G X cc nL own d kc ks ret nm) {Cn n ds : String} {v : AV} {index : Nat} (hZ : va_Z Cn n ds (rv G v) (gA G) X.2.2.2.2.1 G.2.1) (hlink : Cond.fieldLink own index Cn n ds ∈ lw_all) (hd : decode cc pc = .ok (.getstatic index, 3)) (kk : V G X nL uc us Q (pc + 3) lv (v :: st) h) : V G X nL uc us Q pc lv st h := by
  intro H locs ls hH hL hl
  obtain ⟨cf, kf, fi, f, a, cell, h1, h2, h3, h4, h5, h6, h7, h8⟩ := hZ
  have hK := C.2.2.2.2.2.2.2.1
  exact W.gets C.1 C.2.1 C.2.2.2.1 (C.2.2.2.2.1 _ hlink) h1 h2 h3 h4 (old_at hH h5 hK.2.2.2) (fun e => by rw [e] at h6; cases h6) h7 rfl hd (kk H locs ls hH hL hl)
def cpy (h : Mem) (src sp dst dp n : Int) : Mem := fun a j => if a = dst ∧ dp ≤ j ∧ j < dp + n then h src (sp + (j - dp)) else h a j
theorem v_copy (C : Cx G X cc nL own d kc ks ret nm) {src sp dst dp n : Int} {index : Nat} (hlink : Cond.methodLink own index arraycopyName ∈ lw_all) (hnat : Cond.native arraycopyName ∈ lw_all) (hstat : Cond.static arraycopyName ∈ lw_all) (hini : Cond.initialized "java/lang/System" ∈ lw_all) (hd1 : 1 ≤ d) (hst : (st.map fun v => (rv G v).category).sum ≤ 8)
    (hks : h src (-1) = 101) (hkd : h dst (-1) = 101) (h1 : 0 ≤ sp) (h2 : 0 ≤ dp) (h3 : 0 ≤ n) (h4 : sp + n ≤ h src (-2)) (h5 : dp + n ≤ h dst (-2)) (hd : decode cc pc = .ok (.invokestatic index, 3)) (kk : V G X nL uc us Q (pc + 3) lv st (cpy h src sp dst dp n)) : V G X nL uc us Q pc lv (iv n :: iv dp :: rf dst :: iv sp :: rf src :: st) h := by
  intro H locs ls hH hL hl
  obtain ⟨s1, s2⟩ := hH.lt (a := src) (by omega)
  obtain ⟨d1, d2⟩ := hH.lt (a := dst) (by omega)
  have hes := wl_get (G := G) s1 s2
  have hed := wl_get (G := G) d1 d2
  rw [cE_int (k := 0) hks (by omega)] at hes
  rw [cE_int (k := 0) hkd (by omega)] at hed
  have ls2 := (hH.2.2.2.2.1 src)
  have ld2 := (hH.2.2.2.2.1 dst)
  have hK := C.2.2.2.2.2.2.2.1
  have hts := C.2.2.2.2.1
  have hR := C.2.2.2.2.2.2.1
  simp only [List.map_cons]
  rw [rv_ref (x := src) (by omega), rv_ref (x := dst) (by omega), rv_i, rv_i, rv_i]
  intro T hT X2
  have hc0 : H[ad G src]? = some (vp_cell (G.2.2.2.2.1 0) ((h src (-2)).toNat, .inl (fun j => Int32.ofInt (h src j)))) := hH.2.1 _ _ hes
  have hc1 : H[ad G dst]? = some (vp_cell (G.2.2.2.2.1 0) ((h dst (-2)).toNat, .inl (fun j => Int32.ofInt (h dst j)))) := hH.2.1 _ _ hed
  obtain ⟨-, k0, hk0, cm0, hkk0⟩ := (hK.1.2 0 _ rfl).1 (h src (-2)).toNat (fun j => .int (Int32.ofInt (h src j)))
  obtain ⟨-, k1, hk1, cm1, hkk1⟩ := (hK.1.2 0 _ rfl).1 (h dst (-2)).toNat (fun j => .int (Int32.ofInt (h dst j)))
  have rs : R32 sp := ⟨by omega, by omega⟩
  have rd : R32 dp := ⟨by omega, by omega⟩
  have rn : R32 n := ⟨by omega, by omega⟩
  have nn : ∀ z : Int, R32 z → 0 ≤ z → ¬ Int32.ofInt z < 0 := fun z hz h0 q => by rw [show (0 : Int32) = Int32.ofInt 0 from rfl, i32_lt hz R32_0] at q; omega
  obtain ⟨vm', X', step⟩ := X2.arraycopy C.1 C.2.2.2.1 (hts _ hlink) (hts _ hnat) (hts _ hstat) (hts _ hini) (src := ad G src) (dst := ad G dst) (cs := vp_cell (G.2.2.2.2.1 0) ((h src (-2)).toNat, .inl (fun j => Int32.ofInt (h src j)))) (cd := vp_cell (G.2.2.2.2.1 0) ((h dst (-2)).toNat, .inl (fun j => Int32.ofInt (h dst j)))) (srcPos := Int32.ofInt sp) (destPos := Int32.ofInt dp) (n := Int32.ofInt n) (by rw [hT]; exact hc0) (by rw [hT]; exact hc1)
    (fun _ h => by cases h) (fun _ h => by cases h) (fun h => by cases h) (fun h => by cases h) hk0 hk1 hkk0 hkk1 (by simp [refKind]) (nn _ rs h1) (nn _ rd h2) (nn _ rn h3)
    (by rw [i32T rs, i32T rn]; show ¬ _ > ((arrV _ _ (fun j => .int (Int32.ofInt (h src j)))).slots.size : Int); rw [arrV_size]; omega)
    (by rw [i32T rd, i32T rn]; show ¬ _ > ((arrV _ _ (fun j => .int (Int32.ofInt (h dst j)))).slots.size : Int); rw [arrV_size]; omega)
    (fun vm₁ _ i hi => by
      rw [i32N rn h3] at hi
      have e : (vp_cell (G.2.2.2.2.1 0) ((h src (-2)).toNat, .inl (fun j => Int32.ofInt (h src j)))).slots.getD ((Int32.ofInt sp).toNatClampNeg + i) .null = .int (Int32.ofInt (h src (((Int32.ofInt sp).toNatClampNeg + i : Nat) : Int))) := by
        show (arrV _ _ (fun j => .int (Int32.ofInt (h src j)))).slots.getD _ _ = _
        rw [Array.getD_eq_getD_getElem?, arrV_read _ _ (by rw [i32N rs h1]; omega)]
        rfl
      refine ⟨?_, ?_⟩
      · rw [e]
        rfl
      · rw [e]
        exact trivial)
    (g := F0 _ pc ls (.int (Int32.ofInt n) :: .int (Int32.ofInt dp) :: .ref (ad G dst) :: .int (Int32.ofInt sp) :: .ref (ad G src) :: st.map (rv G))) rfl (by rw [C.2.2.1]; exact hl.1) (rest := st.map (rv G)) rfl (by rw [C.2.1]; exact hd) (by rw [hR]; exact hd1) (by
      rw [hR, List.map_map]
      show 2 * 0 + (st.map fun v => (rv G v).category).sum + (nativeFrameWords "java/lang/System" "arraycopy" 5 + 11) ≤ 64 * d
      have e5 : nativeFrameWords "java/lang/System" "arraycopy" 5 + 11 ≤ 56 := by decide +kernel
      omega)
  have e1 := va_copied (sp := (Int32.ofInt sp).toNatClampNeg) (dp := (Int32.ofInt dp).toNatClampNeg) (n := (Int32.ofInt n).toNatClampNeg) (fun z => .int z) (G.2.2.2.2.1 0) (G.2.2.2.2.1 0) (fun j : Nat => Int32.ofInt (h src j)) (fun j : Nat => Int32.ofInt (h dst j)) (n0 := (h src (-2)).toNat) (n1 := (h dst (-2)).toNat) (by rw [i32N rs h1, i32N rn h3]; omega)
  have e1 : copied (vp_cell (G.2.2.2.2.1 0) ((h src (-2)).toNat, .inl (fun j => Int32.ofInt (h src j)))) (vp_cell (G.2.2.2.2.1 0) ((h dst (-2)).toNat, .inl (fun j => Int32.ofInt (h dst j)))) (Int32.ofInt sp) (Int32.ofInt dp) (Int32.ofInt n) = vp_cell (G.2.2.2.2.1 0) ((h dst (-2)).toNat, .inl (va_cpy (fun j : Nat => Int32.ofInt (h src j)) (fun j : Nat => Int32.ofInt (h dst j)) (Int32.ofInt sp).toNatClampNeg (Int32.ofInt dp).toNatClampNeg (Int32.ofInt n).toNatClampNeg)) := e1
  rw [i32N rs h1, i32N rd h2, i32N rn h3] at e1
  rw [e1] at X' step
  have hlt : ad G dst < H.size := (Array.getElem?_eq_some_iff.mp hc1).1
  have hq0 : ∀ b j, ¬ (b = dst ∧ dp ≤ j ∧ j < dp + n) → cpy h src sp dst dp n b j = h b j := fun b j q => if_neg q
  have hH1 : HR G (cpy h src sp dst dp n) (H.setIfInBounds (ad G dst) (vp_cell (G.2.2.2.2.1 0) ((h dst (-2)).toNat, .inl (va_cpy (fun j : Nat => Int32.ofInt (h src j)) (fun j : Nat => Int32.ofInt (h dst j)) sp.toNat dp.toNat n.toNat)))) := by
    have e00 : cpy h src sp dst dp n 0 0 = h 0 0 := hq0 _ _ (by omega)
    have em : ∀ b j, j < 0 → cpy h src sp dst dp n b j = h b j := fun b j hj => hq0 _ _ (by omega)
    refine ⟨⟨by simp only [Array.size_setIfInBounds]; rw [e00]; exact hH.1.1, by rw [e00]; exact hH.1.2⟩, ?_, fun q hq => ?_, fun b hb => ?_, fun b => ?_, fun b j hb => ?_⟩
    · intro k q hk
      have hk0 : k < (h 0 0).toNat - 1 := by
        have := (List.getElem?_eq_some_iff.mp hk).1
        rw [wl_len, e00] at this
        exact this
      have g1 := wl_get (G := G) (h := cpy h src sp dst dp n) (a := (k : Int) + 1) (by omega) (by rw [e00]; omega)
      rw [show ((k : Int) + 1).toNat - 1 = k by omega, hk] at g1
      have g2 := wl_get (G := G) (h := h) (a := (k : Int) + 1) (by omega) (by omega)
      rw [show ((k : Int) + 1).toNat - 1 = k by omega] at g2
      rw [Option.some.inj g1]
      by_cases hkd2 : (k : Int) + 1 = dst
      · rw [hkd2, cE_int (k := 0) (by rw [em _ _ (by omega)]; exact hkd) (by omega)]
        show (H.setIfInBounds (ad G dst) _)[ad G dst]? = some (vp_cell _ _)
        rw [Array.getElem?_setIfInBounds, if_pos rfl, if_pos hlt, em dst (-2) (by omega)]
        congr 4
        funext j
        unfold va_cpy cpy
        by_cases hj : dp.toNat ≤ j ∧ j < dp.toNat + n.toNat
        · rw [if_pos hj, if_pos ⟨rfl, by omega, by omega⟩]
          show Int32.ofInt (h src ((sp.toNat + (j - dp.toNat) : Nat) : Int)) = Int32.ofInt (h src (sp + ((j : Int) - dp)))
          rw [show ((sp.toNat + (j - dp.toNat) : Nat) : Int) = sp + ((j : Int) - dp) by omega]
        · rw [if_neg hj, if_neg (by omega)]
      · have e3 : cE G (cpy h src sp dst dp n) ((k : Int) + 1) = cE G h ((k : Int) + 1) := by
          have q : ∀ i, cpy h src sp dst dp n ((k : Int) + 1) i = h ((k : Int) + 1) i := fun i => hq0 _ _ (fun z => hkd2 z.1)
          simp only [cE, cA, flds, q]
        rw [e3]
        refine (hH.2.1 k _ g2).kept ?_
        show (H.setIfInBounds (ad G dst) _)[ad G ((k : Int) + 1)]? = _
        rw [Array.getElem?_setIfInBounds, if_neg]
        rw [ad_pos G d1, ad_pos G (show (1 : Int) ≤ (k : Int) + 1 by omega)]
        omega
    · rw [Array.getElem?_setIfInBounds, if_neg]
      · exact hH.2.2.1 q hq
      · rw [ad_pos G d1]
        omega
    · rw [em _ _ (by omega)] at hb
      rw [e00]
      exact hH.2.2.2.1 b hb
    · rw [em _ _ (by omega)]
      exact hH.2.2.2.2.1 b
    · rw [em b (-1) (by omega)]
      by_cases q : b = dst ∧ dp ≤ j ∧ j < dp + n
      · have e9 : cpy h src sp dst dp n b j = h src (sp + (j - dp)) := if_pos q
        have e8 := hH.2.2.2.2.2 src (sp + (j - dp)) (by omega)
        rw [hks] at e8
        rw [e9, q.1, hkd]
        exact ⟨fun _ => e8.1 rfl, fun z => by cases z⟩
      · rw [hq0 b j q]
        exact hH.2.2.2.2.2 b j hb
  obtain ⟨t, a1, b1⟩ := kk _ _ ls hH1 (fun q hq => by
      rcases List.mem_append.mp hq with h9 | h9
      · exact hL q h9
      · obtain ⟨z, -, hz⟩ := List.mem_map.mp h9
        rw [← hz]
        show G.1 ≤ ad G dst
        rw [ad_pos G d1]
        omega) hl ((T.setVm vm').setCell (ad G dst) (vp_cell (G.2.2.2.2.1 0) ((h dst (-2)).toNat, .inl (va_cpy (fun j : Nat => Int32.ofInt (h src j)) (fun j : Nat => Int32.ofInt (h dst j)) sp.toNat dp.toNat n.toNat)))) (by rw [← hT]; rfl) X'
  exact ⟨t, step t a1, b1⟩
end HEAP
