/-! ROWS: constants, locals, stack, arithmetic, branches -/
set_option maxRecDepth 100000
def w64 (x : Int) : Int := (x + 9223372036854775808) % 18446744073709551616 - 9223372036854775808
def w32 (x : Int) : Int := (x + 2147483648) % 4294967296 - 2147483648
def w8 (x : Int) : Int := (x + 128) % 256 - 128
theorem i32T {x : Int} (h : R32 x) : (Int32.ofInt x).toInt = x := Int32.toInt_ofInt_of_le h.1 h.2
theorem i64T {x : Int} (h : R64 x) : (Int64.ofInt x).toInt = x := Int64.toInt_ofInt_of_le h.1 h.2
theorem R32_toInt (x : Int32) : R32 x.toInt := ⟨Int32.le_toInt x, Int32.toInt_lt x⟩
theorem i32o (x : Int32) : Int32.ofInt x.toInt = x := Int32.ofInt_toInt x
theorem i32_le {x y : Int} (hx : R32 x) (hy : R32 y) : Int32.ofInt x ≤ Int32.ofInt y ↔ x ≤ y := by rw [Int32.le_iff_toInt_le, i32T hx, i32T hy]
theorem i32_lt {x y : Int} (hx : R32 x) (hy : R32 y) : Int32.ofInt x < Int32.ofInt y ↔ x < y := by rw [Int32.lt_iff_toInt_lt, i32T hx, i32T hy]
theorem i32_eq {x y : Int} (hx : R32 x) (hy : R32 y) : Int32.ofInt x = Int32.ofInt y ↔ x = y := ⟨fun e => by have := congrArg Int32.toInt e; rwa [i32T hx, i32T hy] at this, fun e => by rw [e]⟩
theorem i64_le {x y : Int} (hx : R64 x) (hy : R64 y) : Int64.ofInt x ≤ Int64.ofInt y ↔ x ≤ y := by rw [Int64.le_iff_toInt_le, i64T hx, i64T hy]
theorem i64_lt {x y : Int} (hx : R64 x) (hy : R64 y) : Int64.ofInt x < Int64.ofInt y ↔ x < y := by rw [Int64.lt_iff_toInt_lt, i64T hx, i64T hy]
theorem i64_eq {x y : Int} (hx : R64 x) (hy : R64 y) : Int64.ofInt x = Int64.ofInt y ↔ x = y := ⟨fun e => by have := congrArg Int64.toInt e; rwa [i64T hx, i64T hy] at this, fun e => by rw [e]⟩
theorem R32_0 : R32 0 := ⟨by decide, by decide⟩
theorem i32N {x : Int} (h : R32 x) (h0 : 0 ≤ x) : (Int32.ofInt x).toNatClampNeg = x.toNat := by show (Int32.ofInt x).toInt.toNat = _; rw [i32T h]
theorem i32in {x : Int} {n : Int} (h0 : 0 ≤ x) (h1 : x < n) (h2 : n < 2147483648) : vp_in (Int32.ofInt x) n.toNat := by
  have hR : R32 x := ⟨by omega, by omega⟩
  rw [vp_in_iff, i32T hR]
  omega
theorem w64_id {x : Int} (h : R64 x) : w64 x = x := by obtain ⟨h1, h2⟩ := h; unfold w64; omega
theorem w64_R (x : Int) : R64 (w64 x) := by unfold w64; exact ⟨by omega, by omega⟩
theorem w64_cong (x : Int) : Int64.ofInt (w64 x) = Int64.ofInt x := by
  apply Int64.toInt_inj.mp
  rw [i64T (w64_R x), Int64.toInt_ofInt]
  unfold w64
  simp only [Int.bmod, show ((Int32.size : Nat) : Int) = 4294967296 from rfl, show ((Int64.size : Nat) : Int) = 18446744073709551616 from rfl]
  split <;> omega
theorem w32_R (x : Int) : R32 (w32 x) := by unfold w32; exact ⟨by omega, by omega⟩
theorem w32_id {x : Int} (h : R32 x) : w32 x = x := by obtain ⟨h1, h2⟩ := h; unfold w32; omega
theorem w32_cong (x : Int) : Int32.ofInt (w32 x) = Int32.ofInt x := by
  apply Int32.toInt_inj.mp
  rw [i32T (w32_R x), Int32.toInt_ofInt]
  unfold w32
  simp only [Int.bmod, show ((Int32.size : Nat) : Int) = 4294967296 from rfl, show ((Int64.size : Nat) : Int) = 18446744073709551616 from rfl]
  split <;> omega
/-- bits: by the machine's own numbers -/
def bAnd (x y : Int) : Int := (Int32.ofInt x &&& Int32.ofInt y).toInt
def bOr (x y : Int) : Int := (Int32.ofInt x ||| Int32.ofInt y).toInt
def bShl (x y : Int) : Int := (Int32.ofInt x <<< (Int32.ofInt y &&& 31)).toInt
def bShr (x y : Int) : Int := (Int32.ofInt x >>> (Int32.ofInt y &&& 31)).toInt
def bUshr (x y : Int) : Int := (((Int32.ofInt x).toUInt32 >>> ((Int32.ofInt y).toUInt32 &&& Int32.toUInt32 31)).toInt32).toInt
def lAnd (x y : Int) : Int := (Int64.ofInt x &&& Int64.ofInt y).toInt
def lOr (x y : Int) : Int := (Int64.ofInt x ||| Int64.ofInt y).toInt
/-- lcmp -/
def lc (x y : Int) : Int := if y < x then 1 else if x = y then 0 else -1
section OPS
variable {G : GT} {X : MX} {cc : ByteArray} {nL : Nat} {own : String} {d kc ks : Nat} {ret : Option FieldType} {nm : String} {uc us : Nat} {Q : State → Prop} {pc : Nat} {lv : List (Nat × AV)} {st : List AV} {h : Mem}
theorem v_iconst (C : Cx G X cc nL own d kc ks ret nm) {n : Int} (hd : decode cc pc = .ok (.iconst n, 1)) (kk : V G X nL uc us Q ((pc + 1)) lv (iv n :: st) h) : V G X nL uc us Q pc lv st h := fun H locs ls hH hL hl => lv_iconst C.1 C.2.1 hd rfl (kk H locs ls hH hL hl)
theorem v_bipush (C : Cx G X cc nL own d kc ks ret nm) {n : Int} (hv : (Int8.ofInt n).toInt32 = Int32.ofInt n) (hd : decode cc pc = .ok (.bipush n, 2)) (kk : V G X nL uc us Q ((pc + 2)) lv (iv n :: st) h) : V G X nL uc us Q pc lv st h := fun H locs ls hH hL hl => lv_bipush C.1 C.2.1 hd hv (kk H locs ls hH hL hl)
theorem v_sipush (C : Cx G X cc nL own d kc ks ret nm) {n : Int} (hv : (Int16.ofInt n).toInt32 = Int32.ofInt n) (hd : decode cc pc = .ok (.sipush n, 3)) (kk : V G X nL uc us Q ((pc + 3)) lv (iv n :: st) h) : V G X nL uc us Q pc lv st h := fun H locs ls hH hL hl => lv_sipush C.1 C.2.1 hd hv (kk H locs ls hH hL hl)
theorem v_lconst (C : Cx G X cc nL own d kc ks ret nm) {n : Fin 2} {x : Int} (hx : ((n : Nat) : Int) = x) (hd : decode cc pc = .ok (.lconst n, 1)) (kk : V G X nL uc us Q ((pc + 1)) lv (jv x :: st) h) : V G X nL uc us Q pc lv st h := fun H locs ls hH hL hl => lv_lconst C.1 C.2.1 hd (v := Int64.ofInt x) (by subst hx; match n with | 0 => rfl | 1 => rfl) (kk H locs ls hH hL hl)
theorem v_null (C : Cx G X cc nL own d kc ks ret nm) (hd : decode cc pc = .ok (.aconst_null, 1)) (kk : V G X nL uc us Q ((pc + 1)) lv (rf 0 :: st) h) : V G X nL uc us Q pc lv st h := fun H locs ls hH hL hl => lv_null C.1 C.2.1 hd (kk H locs ls hH hL hl)
theorem v_ldc (C : Cx G X cc nL own d kc ks ret nm) {i : Nat} {x : Int} (hq : Cond.constant own i (Int32.ofInt x) ∈ lw_all) (hd : decode cc pc = .ok (.ldc i, 2)) (kk : V G X nL uc us Q ((pc + 2)) lv (iv x :: st) h) : V G X nL uc us Q pc lv st h := fun H locs ls hH hL hl => lv_ldc C.1 C.2.1 C.2.2.2.1 (C.2.2.2.2.1 _ hq) hd (kk H locs ls hH hL hl)
theorem v_ldcw (C : Cx G X cc nL own d kc ks ret nm) {i : Nat} {x : Int} (hq : Cond.constant own i (Int32.ofInt x) ∈ lw_all) (hd : decode cc pc = .ok (.ldc_w i, 3)) (kk : V G X nL uc us Q ((pc + 3)) lv (iv x :: st) h) : V G X nL uc us Q pc lv st h := fun H locs ls hH hL hl => lv_ldcw C.1 C.2.1 C.2.2.2.1 (C.2.2.2.2.1 _ hq) hd (kk H locs ls hH hL hl)
theorem v_ldc2 (C : Cx G X cc nL own d kc ks ret nm) {i : Nat} {x : Int} (hq : Cond.constantLong own i (Int64.ofInt x) ∈ lw_all) (hd : decode cc pc = .ok (.ldc2_w i, 3)) (kk : V G X nL uc us Q ((pc + 3)) lv (jv x :: st) h) : V G X nL uc us Q pc lv st h := fun H locs ls hH hL hl => lv_ldc2 C.1 C.2.1 C.2.2.2.1 (C.2.2.2.2.1 _ hq) hd (kk H locs ls hH hL hl)
theorem lvm {ls : Array Slot} {lv : List (Nat × AV)} (hl : lv_has ls nL (lv.map fun q => (q.1, rv G q.2))) (n : Nat) {i : Nat} {x : AV} (e : lv[n]? = some (i, x)) : ls[i]? = some (.val (rv G x)) := lv_at hl n (by rw [List.getElem?_map, e]; rfl)
theorem v_iload_n (C : Cx G X cc nL own d kc ks ret nm) {k : Fin 4} {i : Nat} {x : Int} (n : Nat) (e : lv[n]? = some (i, iv x)) (hi : (k : Nat) = i) (hd : decode cc pc = .ok (.iload_n k, 1)) (kk : V G X nL uc us Q ((pc + 1)) lv (iv x :: st) h) : V G X nL uc us Q pc lv st h := fun H locs ls hH hL hl => lv_iload_n C.1 C.2.1 hd hi (lvm hl n e) (kk H locs ls hH hL hl)
theorem v_iload (C : Cx G X cc nL own d kc ks ret nm) {i : Nat} {x : Int} (n : Nat) (e : lv[n]? = some (i, iv x)) (hd : decode cc pc = .ok (.iload i, 2)) (kk : V G X nL uc us Q ((pc + 2)) lv (iv x :: st) h) : V G X nL uc us Q pc lv st h := fun H locs ls hH hL hl => lv_iload C.1 C.2.1 hd (lvm hl n e) (kk H locs ls hH hL hl)
theorem v_lload_n (C : Cx G X cc nL own d kc ks ret nm) {k : Fin 4} {i : Nat} {x : Int} (n : Nat) (e : lv[n]? = some (i, jv x)) (hi : (k : Nat) = i) (hd : decode cc pc = .ok (.lload_n k, 1)) (kk : V G X nL uc us Q ((pc + 1)) lv (jv x :: st) h) : V G X nL uc us Q pc lv st h := fun H locs ls hH hL hl => lv_lload_n C.1 C.2.1 hd hi (lvm hl n e) (kk H locs ls hH hL hl)
theorem v_lload (C : Cx G X cc nL own d kc ks ret nm) {i : Nat} {x : Int} (n : Nat) (e : lv[n]? = some (i, jv x)) (hd : decode cc pc = .ok (.lload i, 2)) (kk : V G X nL uc us Q ((pc + 2)) lv (jv x :: st) h) : V G X nL uc us Q pc lv st h := fun H locs ls hH hL hl => lv_lload C.1 C.2.1 hd (lvm hl n e) (kk H locs ls hH hL hl)
theorem v_aload_n (C : Cx G X cc nL own d kc ks ret nm) {k : Fin 4} {i : Nat} {x : Int} (n : Nat) (e : lv[n]? = some (i, rf x)) (hi : (k : Nat) = i) (hd : decode cc pc = .ok (.aload_n k, 1)) (kk : V G X nL uc us Q ((pc + 1)) lv (rf x :: st) h) : V G X nL uc us Q pc lv st h := by
  intro H locs ls hH hL hl
  have h1 := lvm hl n e
  have h2 := kk H locs ls hH hL hl
  by_cases hx : x = 0
  · subst hx
    exact lv_aload_nN C.1 C.2.1 hd hi h1 h2
  · rw [List.map_cons, rv_ref hx] at h2
    rw [rv_ref hx] at h1
    exact lv_aload_n C.1 C.2.1 hd hi h1 h2
theorem v_aload (C : Cx G X cc nL own d kc ks ret nm) {i : Nat} {x : Int} (n : Nat) (e : lv[n]? = some (i, rf x)) (hd : decode cc pc = .ok (.aload i, 2)) (kk : V G X nL uc us Q ((pc + 2)) lv (rf x :: st) h) : V G X nL uc us Q pc lv st h := by
  intro H locs ls hH hL hl
  have h1 := lvm hl n e
  have h2 := kk H locs ls hH hL hl
  by_cases hx : x = 0
  · subst hx
    exact lv_aloadN C.1 C.2.1 hd h1 h2
  · rw [List.map_cons, rv_ref hx] at h2
    rw [rv_ref hx] at h1
    exact lv_aload C.1 C.2.1 hd h1 h2
def ls1 (i : Nat) (v : AV) (lv : List (Nat × AV)) : List (Nat × AV) := (i, v) :: lv.filter (fun q => !(q.1 == i) && !(q.1 + 1 == i && q.2.1 == 1))
def ls2 (i : Nat) (v : AV) (lv : List (Nat × AV)) : List (Nat × AV) := (i, v) :: lv.filter (fun q => !(q.1 == i) && (!(q.1 == i + 1) && !(q.1 + 1 == i && q.2.1 == 1)))
theorem rv_c2 (G : GT) (v : AV) : ((rv G v).category == 2) = (v.1 == 1) := by
  rw [rv_cat]
  by_cases h1 : v.1 = 1
  · simp [h1]
  · simp [h1]
theorem ls1_map (i : Nat) (v : AV) (lv : List (Nat × AV)) : (i, rv G v) :: (lv.map fun q => (q.1, rv G q.2)).filter (fun q => !(q.1 == i) && !(q.1 + 1 == i && q.2.category == 2)) = (ls1 i v lv).map fun q => (q.1, rv G q.2) := by
  simp only [ls1, List.map_cons, List.filter_map]
  congr 2
  apply List.filter_congr
  intro q _
  show (!(q.1 == i) && !(q.1 + 1 == i && (rv G q.2).category == 2)) = _
  rw [rv_c2]
theorem ls2_map (i : Nat) (v : AV) (lv : List (Nat × AV)) : (i, rv G v) :: (lv.map fun q => (q.1, rv G q.2)).filter (fun q => !(q.1 == i) && (!(q.1 == i + 1) && !(q.1 + 1 == i && q.2.category == 2))) = (ls2 i v lv).map fun q => (q.1, rv G q.2) := by
  simp only [ls2, List.map_cons, List.filter_map]
  congr 2
  apply List.filter_congr
  intro q _
  show (!(q.1 == i) && (!(q.1 == i + 1) && !(q.1 + 1 == i && (rv G q.2).category == 2))) = _
  rw [rv_c2]
theorem v_istore_n (C : Cx G X cc nL own d kc ks ret nm) {k : Fin 4} {i : Nat} {x : Int} {lv2 : List (Nat × AV)} (hi : (k : Nat) = i) (hn : i < nL) (hd : decode cc pc = .ok (.istore_n k, 1)) (hs : ls1 i (iv x) lv = lv2) (kk : V G X nL uc us Q ((pc + 1)) lv2 st h) : V G X nL uc us Q pc lv (iv x :: st) h := by
  subst hs
  intro H locs ls hH hL hl
  exact lv_istore_n C.1 C.2.1 hd hi hl hn (ls1_map i (iv x) lv) (fun ls2 hl2 => kk H locs ls2 hH hL hl2)
theorem v_istore (C : Cx G X cc nL own d kc ks ret nm) {i : Nat} {x : Int} {lv2 : List (Nat × AV)} (hn : i < nL) (hd : decode cc pc = .ok (.istore i, 2)) (hs : ls1 i (iv x) lv = lv2) (kk : V G X nL uc us Q ((pc + 2)) lv2 st h) : V G X nL uc us Q pc lv (iv x :: st) h := by
  subst hs
  intro H locs ls hH hL hl
  exact lv_istore C.1 C.2.1 hd hl hn (ls1_map i (iv x) lv) (fun ls2 hl2 => kk H locs ls2 hH hL hl2)
theorem v_lstore_n (C : Cx G X cc nL own d kc ks ret nm) {k : Fin 4} {i : Nat} {x : Int} {lv2 : List (Nat × AV)} (hi : (k : Nat) = i) (hn : i + 1 < nL) (hd : decode cc pc = .ok (.lstore_n k, 1)) (hs : ls2 i (jv x) lv = lv2) (kk : V G X nL uc us Q ((pc + 1)) lv2 st h) : V G X nL uc us Q pc lv (jv x :: st) h := by
  subst hs
  intro H locs ls hH hL hl
  exact lv_lstore_n C.1 C.2.1 hd hi hl hn (ls2_map i (jv x) lv) (fun ls2 hl2 => kk H locs ls2 hH hL hl2)
theorem v_lstore (C : Cx G X cc nL own d kc ks ret nm) {i : Nat} {x : Int} {lv2 : List (Nat × AV)} (hn : i + 1 < nL) (hd : decode cc pc = .ok (.lstore i, 2)) (hs : ls2 i (jv x) lv = lv2) (kk : V G X nL uc us Q ((pc + 2)) lv2 st h) : V G X nL uc us Q pc lv (jv x :: st) h := by
  subst hs
  intro H locs ls hH hL hl
  exact lv_lstore C.1 C.2.1 hd hl hn (ls2_map i (jv x) lv) (fun ls2 hl2 => kk H locs ls2 hH hL hl2)
theorem v_astore_n (C : Cx G X cc nL own d kc ks ret nm) {k : Fin 4} {i : Nat} {x : Int} {lv2 : List (Nat × AV)} (hi : (k : Nat) = i) (hn : i < nL) (hd : decode cc pc = .ok (.astore_n k, 1)) (hs : ls1 i (rf x) lv = lv2) (kk : V G X nL uc us Q ((pc + 1)) lv2 st h) : V G X nL uc us Q pc lv (rf x :: st) h := by
  subst hs
  intro H locs ls hH hL hl
  have h1 := ls1_map (G := G) i (rf x) lv
  by_cases hx : x = 0
  · subst hx
    exact lv_astore_nN C.1 C.2.1 hd hi hl hn h1 (fun ls2 hl2 => kk H locs ls2 hH hL hl2)
  · have k2 := fun ls2 hl2 => kk H locs ls2 hH hL hl2
    rw [rv_ref hx] at h1
    show W _ _ _ _ _ _ _ _ _ _ _ _ _ _ _ (F0 _ pc ls (rv G (rf x) :: st.map (rv G)))
    rw [rv_ref hx]
    exact lv_astore_n C.1 C.2.1 hd hi hl hn h1 k2
theorem v_astore (C : Cx G X cc nL own d kc ks ret nm) {i : Nat} {x : Int} {lv2 : List (Nat × AV)} (hn : i < nL) (hd : decode cc pc = .ok (.astore i, 2)) (hs : ls1 i (rf x) lv = lv2) (kk : V G X nL uc us Q ((pc + 2)) lv2 st h) : V G X nL uc us Q pc lv (rf x :: st) h := by
  subst hs
  intro H locs ls hH hL hl
  have h1 := ls1_map (G := G) i (rf x) lv
  by_cases hx : x = 0
  · subst hx
    exact lv_astoreN C.1 C.2.1 hd  hl hn h1 (fun ls2 hl2 => kk H locs ls2 hH hL hl2)
  · have k2 := fun ls2 hl2 => kk H locs ls2 hH hL hl2
    rw [rv_ref hx] at h1
    show W _ _ _ _ _ _ _ _ _ _ _ _ _ _ _ (F0 _ pc ls (rv G (rf x) :: st.map (rv G)))
    rw [rv_ref hx]
    exact lv_astore C.1 C.2.1 hd  hl hn h1 k2
theorem v_iinc (C : Cx G X cc nL own d kc ks ret nm) {i : Nat} {n x : Int} {lv2 : List (Nat × AV)} (j : Nat) (e : lv[j]? = some (i, iv x)) (hn : i < nL) (hd : decode cc pc = .ok (.iinc i n, 3)) (hs : ls1 i (iv (x + n)) lv = lv2) (kk : V G X nL uc us Q ((pc + 3)) lv2 st h) : V G X nL uc us Q pc lv st h := by
  subst hs
  intro H locs ls hH hL hl
  have e2 : (lv.map fun q => (q.1, rv G q.2))[j]? = some (i, .int (Int32.ofInt x)) := by rw [List.getElem?_map, e]; rfl
  exact lv_iinc C.1 C.2.1 hd hl e2 (v := Int32.ofInt (x + n)) (Int32.ofInt_add x n).symm hn (ls1_map i (iv (x + n)) lv) (fun ls2 hl2 => kk H locs ls2 hH hL hl2)
theorem v_dup (C : Cx G X cc nL own d kc ks ret nm) {v : AV} (hv : v.1 ≠ 1) (hd : decode cc pc = .ok (.dup, 1)) (kk : V G X nL uc us Q ((pc + 1)) lv (v :: v :: st) h) : V G X nL uc us Q pc lv (v :: st) h := fun H locs ls hH hL hl => lv_dup C.1 C.2.1 hd (by rw [rv_cat, if_neg hv]) (kk H locs ls hH hL hl)
theorem v_dup2 (C : Cx G X cc nL own d kc ks ret nm) {v w : AV} (hv : v.1 ≠ 1) (hw : w.1 ≠ 1) (hd : decode cc pc = .ok (.dup2, 1)) (kk : V G X nL uc us Q ((pc + 1)) lv (v :: w :: v :: w :: st) h) : V G X nL uc us Q pc lv (v :: w :: st) h := fun H locs ls hH hL hl => lv_dup2_11 C.1 C.2.1 hd (by rw [rv_cat, if_neg hv]) (by rw [rv_cat, if_neg hw]) (kk H locs ls hH hL hl)
theorem v_pop (C : Cx G X cc nL own d kc ks ret nm) {v : AV} (hv : v.1 ≠ 1) (hd : decode cc pc = .ok (.pop, 1)) (kk : V G X nL uc us Q ((pc + 1)) lv st h) : V G X nL uc us Q pc lv (v :: st) h := fun H locs ls hH hL hl => lv_pop C.1 C.2.1 hd (by rw [rv_cat, if_neg hv]) (kk H locs ls hH hL hl)
theorem v_iadd (C : Cx G X cc nL own d kc ks ret nm) {x y : Int} (hd : decode cc pc = .ok (.iadd, 1)) (kk : V G X nL uc us Q ((pc + 1)) lv (iv (x + y) :: st) h) : V G X nL uc us Q pc lv (iv y :: iv x :: st) h := by
  intro H locs ls hH hL hl
  have h2 := kk H locs ls hH hL hl
  rw [List.map_cons, rv_i] at h2
  refine lv_iadd C.1 C.2.1 hd ?_
  rw [← Int32.ofInt_add]
  exact h2
theorem v_isub (C : Cx G X cc nL own d kc ks ret nm) {x y : Int} (hd : decode cc pc = .ok (.isub, 1)) (kk : V G X nL uc us Q ((pc + 1)) lv (iv (x - y) :: st) h) : V G X nL uc us Q pc lv (iv y :: iv x :: st) h := by
  intro H locs ls hH hL hl
  have h2 := kk H locs ls hH hL hl
  rw [List.map_cons, rv_i] at h2
  refine lv_isub C.1 C.2.1 hd ?_
  rw [← Int32.ofInt_sub]
  exact h2
theorem v_imul (C : Cx G X cc nL own d kc ks ret nm) {x y : Int} (hd : decode cc pc = .ok (.imul, 1)) (kk : V G X nL uc us Q ((pc + 1)) lv (iv (x * y) :: st) h) : V G X nL uc us Q pc lv (iv y :: iv x :: st) h := by
  intro H locs ls hH hL hl
  have h2 := kk H locs ls hH hL hl
  rw [List.map_cons, rv_i] at h2
  refine lv_imul C.1 C.2.1 hd ?_
  rw [← Int32.ofInt_mul]
  exact h2
theorem v_iand (C : Cx G X cc nL own d kc ks ret nm) {x y : Int} (hd : decode cc pc = .ok (.iand, 1)) (kk : V G X nL uc us Q ((pc + 1)) lv (iv (bAnd x y) :: st) h) : V G X nL uc us Q pc lv (iv y :: iv x :: st) h := by
  intro H locs ls hH hL hl
  have h2 := kk H locs ls hH hL hl
  rw [List.map_cons, rv_i] at h2
  refine lv_iand C.1 C.2.1 hd ?_
  rw [show Int32.ofInt x &&& Int32.ofInt y = Int32.ofInt (bAnd x y) from (i32o _).symm]
  exact h2
theorem v_ior (C : Cx G X cc nL own d kc ks ret nm) {x y : Int} (hd : decode cc pc = .ok (.ior, 1)) (kk : V G X nL uc us Q ((pc + 1)) lv (iv (bOr x y) :: st) h) : V G X nL uc us Q pc lv (iv y :: iv x :: st) h := by
  intro H locs ls hH hL hl
  have h2 := kk H locs ls hH hL hl
  rw [List.map_cons, rv_i] at h2
  refine lv_ior C.1 C.2.1 hd ?_
  rw [show Int32.ofInt x ||| Int32.ofInt y = Int32.ofInt (bOr x y) from (i32o _).symm]
  exact h2
theorem v_ishl (C : Cx G X cc nL own d kc ks ret nm) {x y : Int} (hd : decode cc pc = .ok (.ishl, 1)) (kk : V G X nL uc us Q ((pc + 1)) lv (iv (bShl x y) :: st) h) : V G X nL uc us Q pc lv (iv y :: iv x :: st) h := by
  intro H locs ls hH hL hl
  have h2 := kk H locs ls hH hL hl
  rw [List.map_cons, rv_i] at h2
  refine lv_ishl C.1 C.2.1 hd ?_
  rw [show Int32.ofInt x <<< (Int32.ofInt y &&& 31) = Int32.ofInt (bShl x y) from (i32o _).symm]
  exact h2
theorem v_ishr (C : Cx G X cc nL own d kc ks ret nm) {x y : Int} (hd : decode cc pc = .ok (.ishr, 1)) (kk : V G X nL uc us Q ((pc + 1)) lv (iv (bShr x y) :: st) h) : V G X nL uc us Q pc lv (iv y :: iv x :: st) h := by
  intro H locs ls hH hL hl
  have h2 := kk H locs ls hH hL hl
  rw [List.map_cons, rv_i] at h2
  refine lv_ishr C.1 C.2.1 hd ?_
  rw [show Int32.ofInt x >>> (Int32.ofInt y &&& 31) = Int32.ofInt (bShr x y) from (i32o _).symm]
  exact h2
theorem i32_div {x y : Int} (hx : R32 x) (hy : R32 y) (h0 : 0 < y) : Int32.ofInt x / Int32.ofInt y = Int32.ofInt (x.tdiv y) := by
  apply Int32.toInt_inj.mp
  have hb : -2147483648 ≤ x.tdiv y ∧ x.tdiv y < 2147483648 := by
    obtain ⟨h1, h2⟩ := hx
    rcases Int.lt_or_le x 0 with hn | hn
    · have e : x.tdiv y = -((-x) / y) := by
        have := Int.tdiv_eq_ediv_of_nonneg (a := -x) (b := y) (by omega)
        rw [Int.neg_tdiv] at this
        omega
      have h3 : (-x) / y ≤ -x := Int.ediv_le_self _ (by omega)
      have h4 : 0 ≤ (-x) / y := Int.ediv_nonneg (by omega) (by omega)
      rw [e]
      exact ⟨by omega, by omega⟩
    · rw [Int.tdiv_eq_ediv_of_nonneg hn]
      have h3 : x / y ≤ x := Int.ediv_le_self _ hn
      have h4 : 0 ≤ x / y := Int.ediv_nonneg hn (by omega)
      exact ⟨by omega, by omega⟩
  rw [Int32.toInt_div, i32T hx, i32T hy, i32T hb, Int.bmod_eq_of_le (by omega) (by omega)]
theorem tdiv_rem (x y : Int) : x - x.tdiv y * y = x.tmod y := by
  have := Int.mul_tdiv_add_tmod x y
  rw [Int.mul_comm] at this
  omega
theorem tdivR64 {x y : Int} (hx : R64 x) (h0 : 0 < y) : R64 (x.tdiv y) := by
  obtain ⟨h1, h2⟩ := hx
  rcases Int.lt_or_le x 0 with hn | hn
  · have e : x.tdiv y = -((-x) / y) := by
      have := Int.tdiv_eq_ediv_of_nonneg (a := -x) (b := y) (by omega)
      rw [Int.neg_tdiv] at this
      omega
    have h3 : (-x) / y ≤ -x := Int.ediv_le_self _ (by omega)
    have h4 : 0 ≤ (-x) / y := Int.ediv_nonneg (by omega) (by omega)
    rw [e]
    exact ⟨by omega, by omega⟩
  · rw [Int.tdiv_eq_ediv_of_nonneg hn]
    have h3 : x / y ≤ x := Int.ediv_le_self _ hn
    have h4 : 0 ≤ x / y := Int.ediv_nonneg hn (by omega)
    exact ⟨by omega, by omega⟩
theorem i64_div {x y : Int} (hx : R64 x) (hy : R64 y) : Int64.ofInt x / Int64.ofInt y = Int64.ofInt (w64 (x.tdiv y)) := by
  rw [w64_cong]
  apply Int64.toInt_inj.mp
  rw [Int64.toInt_div, i64T hx, i64T hy, Int64.toInt_ofInt]
theorem v_idiv (C : Cx G X cc nL own d kc ks ret nm) {x y : Int} (hx : R32 x) (hy : R32 y) (h0 : 0 < y) (hd : decode cc pc = .ok (.idiv, 1)) (kk : V G X nL uc us Q ((pc + 1)) lv (iv (x.tdiv y) :: st) h) : V G X nL uc us Q pc lv (iv y :: iv x :: st) h := by
  intro H locs ls hH hL hl
  have h2 := kk H locs ls hH hL hl
  rw [List.map_cons, rv_i] at h2
  refine lv_idiv C.1 C.2.1 hd (fun z => by rw [show (0 : Int32) = Int32.ofInt 0 from rfl, i32_eq hy R32_0] at z; omega) ?_
  rw [i32_div hx hy h0]
  exact h2
theorem v_irem (C : Cx G X cc nL own d kc ks ret nm) {x y : Int} (hx : R32 x) (hy : R32 y) (h0 : 0 < y) (hd : decode cc pc = .ok (.irem, 1)) (kk : V G X nL uc us Q ((pc + 1)) lv (iv (x.tmod y) :: st) h) : V G X nL uc us Q pc lv (iv y :: iv x :: st) h := by
  intro H locs ls hH hL hl
  have h2 := kk H locs ls hH hL hl
  rw [List.map_cons, rv_i] at h2
  refine lv_irem C.1 C.2.1 hd (fun z => by rw [show (0 : Int32) = Int32.ofInt 0 from rfl, i32_eq hy R32_0] at z; omega) ?_
  rw [i32_div hx hy h0, ← Int32.ofInt_mul, ← Int32.ofInt_sub, tdiv_rem]
  exact h2
theorem v_ladd (C : Cx G X cc nL own d kc ks ret nm) {x y : Int} (hd : decode cc pc = .ok (.ladd, 1)) (kk : V G X nL uc us Q ((pc + 1)) lv (jv (w64 (x + y)) :: st) h) : V G X nL uc us Q pc lv (jv y :: jv x :: st) h := by
  intro H locs ls hH hL hl
  have h2 := kk H locs ls hH hL hl
  rw [List.map_cons, rv_j] at h2
  refine lv_ladd C.1 C.2.1 hd ?_
  rw [← Int64.ofInt_add, ← w64_cong]
  exact h2
theorem v_lsub (C : Cx G X cc nL own d kc ks ret nm) {x y : Int} (hd : decode cc pc = .ok (.lsub, 1)) (kk : V G X nL uc us Q ((pc + 1)) lv (jv (w64 (x - y)) :: st) h) : V G X nL uc us Q pc lv (jv y :: jv x :: st) h := by
  intro H locs ls hH hL hl
  have h2 := kk H locs ls hH hL hl
  rw [List.map_cons, rv_j] at h2
  refine lv_lsub C.1 C.2.1 hd ?_
  rw [← Int64.ofInt_sub, ← w64_cong]
  exact h2
theorem v_lmul (C : Cx G X cc nL own d kc ks ret nm) {x y : Int} (hd : decode cc pc = .ok (.lmul, 1)) (kk : V G X nL uc us Q ((pc + 1)) lv (jv (w64 (x * y)) :: st) h) : V G X nL uc us Q pc lv (jv y :: jv x :: st) h := by
  intro H locs ls hH hL hl
  have h2 := kk H locs ls hH hL hl
  rw [List.map_cons, rv_j] at h2
  refine lv_lmul C.1 C.2.1 hd ?_
  rw [← Int64.ofInt_mul, ← w64_cong]
  exact h2
theorem v_land (C : Cx G X cc nL own d kc ks ret nm) {x y : Int} (hd : decode cc pc = .ok (.land, 1)) (kk : V G X nL uc us Q ((pc + 1)) lv (jv (lAnd x y) :: st) h) : V G X nL uc us Q pc lv (jv y :: jv x :: st) h := by
  intro H locs ls hH hL hl
  have h2 := kk H locs ls hH hL hl
  rw [List.map_cons, rv_j] at h2
  refine lv_land C.1 C.2.1 hd ?_
  rw [show Int64.ofInt x &&& Int64.ofInt y = Int64.ofInt (lAnd x y) from (Int64.ofInt_toInt _).symm]
  exact h2
theorem v_lor (C : Cx G X cc nL own d kc ks ret nm) {x y : Int} (hd : decode cc pc = .ok (.lor, 1)) (kk : V G X nL uc us Q ((pc + 1)) lv (jv (lOr x y) :: st) h) : V G X nL uc us Q pc lv (jv y :: jv x :: st) h := by
  intro H locs ls hH hL hl
  have h2 := kk H locs ls hH hL hl
  rw [List.map_cons, rv_j] at h2
  refine lv_lor C.1 C.2.1 hd ?_
  rw [show Int64.ofInt x ||| Int64.ofInt y = Int64.ofInt (lOr x y) from (Int64.ofInt_toInt _).symm]
  exact h2
theorem R64_0 : R64 0 := ⟨by decide, by decide⟩
theorem v_ldiv (C : Cx G X cc nL own d kc ks ret nm) {x y : Int} (hx : R64 x) (hy : R64 y) (h0 : y ≠ 0) (hd : decode cc pc = .ok (.ldiv, 1)) (kk : V G X nL uc us Q ((pc + 1)) lv (jv (w64 (x.tdiv y)) :: st) h) : V G X nL uc us Q pc lv (jv y :: jv x :: st) h := by
  intro H locs ls hH hL hl
  have h2 := kk H locs ls hH hL hl
  rw [List.map_cons, rv_j] at h2
  refine lv_ldiv C.1 C.2.1 hd (fun z => by rw [show (0 : Int64) = Int64.ofInt 0 from rfl, i64_eq hy R64_0] at z; omega) ?_
  rw [i64_div hx hy]
  exact h2
theorem v_lrem (C : Cx G X cc nL own d kc ks ret nm) {x y : Int} (hx : R64 x) (hy : R64 y) (h0 : y ≠ 0) (hd : decode cc pc = .ok (.lrem, 1)) (kk : V G X nL uc us Q ((pc + 1)) lv (jv (w64 (x.tmod y)) :: st) h) : V G X nL uc us Q pc lv (jv y :: jv x :: st) h := by
  intro H locs ls hH hL hl
  have h2 := kk H locs ls hH hL hl
  rw [List.map_cons, rv_j] at h2
  refine lv_lrem C.1 C.2.1 hd (fun z => by rw [show (0 : Int64) = Int64.ofInt 0 from rfl, i64_eq hy R64_0] at z; omega) ?_
  rw [i64_div hx hy, w64_cong, ← Int64.ofInt_mul, ← Int64.ofInt_sub, tdiv_rem, ← w64_cong]
  exact h2
theorem v_i2l (C : Cx G X cc nL own d kc ks ret nm) {x : Int} (hx : R32 x) (hd : decode cc pc = .ok (.i2l, 1)) (kk : V G X nL uc us Q ((pc + 1)) lv (jv x :: st) h) : V G X nL uc us Q pc lv (iv x :: st) h := fun H locs ls hH hL hl => lv_i2l C.1 C.2.1 hd (v := Int64.ofInt x) (by apply Int64.toInt_inj.mp; rw [Int32.toInt_toInt64, i32T hx, i64T ⟨by have := hx.1; omega, by have := hx.2; omega⟩]) (kk H locs ls hH hL hl)
theorem v_l2i (C : Cx G X cc nL own d kc ks ret nm) {x : Int} (hx : R64 x) (hd : decode cc pc = .ok (.l2i, 1)) (kk : V G X nL uc us Q ((pc + 1)) lv (iv x :: st) h) : V G X nL uc us Q pc lv (jv x :: st) h := fun H locs ls hH hL hl => lv_l2i C.1 C.2.1 hd (v := Int32.ofInt x) (by apply Int32.toInt_inj.mp; rw [Int64.toInt_toInt32, i64T hx, Int32.toInt_ofInt]) (kk H locs ls hH hL hl)
theorem w8_cong (x : Int) : (Int32.ofInt x).toInt8.toInt32 = Int32.ofInt (w8 x) := by
  apply Int32.toInt_inj.mp
  have h1 : R32 (w8 x) := by unfold w8; exact ⟨by omega, by omega⟩
  rw [Int8.toInt_toInt32, Int32.toInt_toInt8, Int32.toInt_ofInt, i32T h1]
  unfold w8
  simp only [Int.bmod, show ((Int32.size : Nat) : Int) = 4294967296 from rfl, show ((Int64.size : Nat) : Int) = 18446744073709551616 from rfl]
  repeat' split
  all_goals omega
theorem v_i2b (C : Cx G X cc nL own d kc ks ret nm) {x : Int} (hd : decode cc pc = .ok (.i2b, 1)) (kk : V G X nL uc us Q ((pc + 1)) lv (iv (w8 x) :: st) h) : V G X nL uc us Q pc lv (iv x :: st) h := fun H locs ls hH hL hl => lv_i2b C.1 C.2.1 hd (v := Int32.ofInt (w8 x)) (w8_cong x) (kk H locs ls hH hL hl)
theorem i2c_ok {x : Int} (h0 : 0 ≤ x) (h1 : x < 65536) : ((Int32.ofInt x).toUInt32 % 65536).toInt32 = Int32.ofInt x := lg_i2c_word (by rw [i32T ⟨by omega, by omega⟩]; exact h0) (by rw [i32T ⟨by omega, by omega⟩]; exact h1)
theorem v_i2c (C : Cx G X cc nL own d kc ks ret nm) {x : Int} (h0 : 0 ≤ x) (h1 : x < 65536) (hd : decode cc pc = .ok (.i2c, 1)) (kk : V G X nL uc us Q ((pc + 1)) lv (iv x :: st) h) : V G X nL uc us Q pc lv (iv x :: st) h := fun H locs ls hH hL hl => lv_i2c C.1 C.2.1 hd (v := Int32.ofInt x) (i2c_ok h0 h1) (kk H locs ls hH hL hl)
theorem v_iushr (C : Cx G X cc nL own d kc ks ret nm) {x y : Int} (hd : decode cc pc = .ok (.iushr, 1)) (kk : V G X nL uc us Q ((pc + 1)) lv (iv (bUshr x y) :: st) h) : V G X nL uc us Q pc lv (iv y :: iv x :: st) h := fun H locs ls hH hL hl => lv_iushr C.1 C.2.1 hd (v := Int32.ofInt (bUshr x y)) (i32o _).symm (kk H locs ls hH hL hl)
theorem lg_lc {x y : Int} (hx : R64 x) (hy : R64 y) : lg_cmp (Int64.ofInt x) (Int64.ofInt y) = Int32.ofInt (lc x y) := by
  unfold lg_cmp lc
  by_cases h1 : y < x
  · rw [if_pos ((i64_lt hy hx).mpr h1), if_pos h1]; rfl
  · rw [if_neg (fun z => h1 ((i64_lt hy hx).mp z)), if_neg h1]
    by_cases h2 : x = y
    · rw [if_pos ((i64_eq hx hy).mpr h2), if_pos h2]; rfl
    · rw [if_neg (fun z => h2 ((i64_eq hx hy).mp z)), if_neg h2]; rfl
theorem v_lcmp (C : Cx G X cc nL own d kc ks ret nm) {x y : Int} (hx : R64 x) (hy : R64 y) (hd : decode cc pc = .ok (.lcmp, 1)) (kk : V G X nL uc us Q ((pc + 1)) lv (iv (lc x y) :: st) h) : V G X nL uc us Q pc lv (jv y :: jv x :: st) h := by
  intro H locs ls hH hL hl
  have h2 := kk H locs ls hH hL hl
  rw [List.map_cons, rv_i, ← lg_lc hx hy] at h2
  exact W.lcmp C.1 C.2.1 hd h2
theorem lcR (x y : Int) : R32 (lc x y) := by unfold lc; split; exact ⟨by decide, by decide⟩; split; exact ⟨by decide, by decide⟩; exact ⟨by decide, by decide⟩
theorem lc_ge {x y : Int} : lc x y ≥ 0 ↔ x ≥ y := by unfold lc; split; omega; split <;> omega
theorem lc_lt {x y : Int} : lc x y < 0 ↔ x < y := by unfold lc; split; omega; split <;> omega
theorem lc_gt {x y : Int} : lc x y > 0 ↔ x > y := by unfold lc; split; omega; split <;> omega
theorem lc_le {x y : Int} : lc x y ≤ 0 ↔ x ≤ y := by unfold lc; split; omega; split <;> omega
theorem lc_eq {x y : Int} : lc x y = 0 ↔ x = y := by unfold lc; split; omega; split <;> omega
theorem v_icmp_eq (C : Cx G X cc nL own d kc ks ret nm) {x y : Int} {off : Int} (tgt : Nat) (hx : R32 x) (hy : R32 y) (hd : decode cc pc = .ok (.if_icmp .eq off, 3)) (ht : (pc : Int) + off = (tgt : Int)) (kt : x = y → V G X nL uc us Q tgt lv st h) (kf : x ≠ y → V G X nL uc us Q ((pc + 3)) lv st h) : V G X nL uc us Q pc lv (iv y :: iv x :: st) h := fun H locs ls hH hL hl => lv_icmp_eq C.1 C.2.1 hd ht (fun z => kt ((i32_eq hx hy).mp z) H locs ls hH hL hl) (fun z => kf (fun e => z ((i32_eq hx hy).mpr e)) H locs ls hH hL hl)
theorem v_if_eq (C : Cx G X cc nL own d kc ks ret nm) {x : Int} {off : Int} (tgt : Nat) (hx : R32 x) (hd : decode cc pc = .ok (.ifCond .eq off, 3)) (ht : (pc : Int) + off = (tgt : Int)) (kt : x = 0 → V G X nL uc us Q tgt lv st h) (kf : x ≠ 0 → V G X nL uc us Q ((pc + 3)) lv st h) : V G X nL uc us Q pc lv (iv x :: st) h := fun H locs ls hH hL hl => lv_if_eq C.1 C.2.1 hd ht (fun z => kt ((i32_eq hx R32_0).mp z) H locs ls hH hL hl) (fun z => kf (fun e => z ((i32_eq hx R32_0).mpr e)) H locs ls hH hL hl)
theorem v_icmp_ne (C : Cx G X cc nL own d kc ks ret nm) {x y : Int} {off : Int} (tgt : Nat) (hx : R32 x) (hy : R32 y) (hd : decode cc pc = .ok (.if_icmp .ne off, 3)) (ht : (pc : Int) + off = (tgt : Int)) (kt : x ≠ y → V G X nL uc us Q tgt lv st h) (kf : x = y → V G X nL uc us Q ((pc + 3)) lv st h) : V G X nL uc us Q pc lv (iv y :: iv x :: st) h := fun H locs ls hH hL hl => lv_icmp_ne C.1 C.2.1 hd ht (fun z => kt (fun e => z (by rw [e])) H locs ls hH hL hl) (fun z => kf ((i32_eq hx hy).mp z) H locs ls hH hL hl)
theorem v_if_ne (C : Cx G X cc nL own d kc ks ret nm) {x : Int} {off : Int} (tgt : Nat) (hx : R32 x) (hd : decode cc pc = .ok (.ifCond .ne off, 3)) (ht : (pc : Int) + off = (tgt : Int)) (kt : x ≠ 0 → V G X nL uc us Q tgt lv st h) (kf : x = 0 → V G X nL uc us Q ((pc + 3)) lv st h) : V G X nL uc us Q pc lv (iv x :: st) h := fun H locs ls hH hL hl => lv_if_ne C.1 C.2.1 hd ht (fun z => kt (fun e => z (by rw [e]; rfl)) H locs ls hH hL hl) (fun z => kf ((i32_eq hx R32_0).mp z) H locs ls hH hL hl)
theorem v_icmp_lt (C : Cx G X cc nL own d kc ks ret nm) {x y : Int} {off : Int} (tgt : Nat) (hx : R32 x) (hy : R32 y) (hd : decode cc pc = .ok (.if_icmp .lt off, 3)) (ht : (pc : Int) + off = (tgt : Int)) (kt : x < y → V G X nL uc us Q tgt lv st h) (kf : x ≥ y → V G X nL uc us Q ((pc + 3)) lv st h) : V G X nL uc us Q pc lv (iv y :: iv x :: st) h := fun H locs ls hH hL hl => lv_icmp_lt C.1 C.2.1 hd ht (fun z => kt ((i32_lt hx hy).mp z) H locs ls hH hL hl) (fun z => kf (Int.not_lt.mp (fun e => z ((i32_lt hx hy).mpr e))) H locs ls hH hL hl)
theorem v_if_lt (C : Cx G X cc nL own d kc ks ret nm) {x : Int} {off : Int} (tgt : Nat) (hx : R32 x) (hd : decode cc pc = .ok (.ifCond .lt off, 3)) (ht : (pc : Int) + off = (tgt : Int)) (kt : x < 0 → V G X nL uc us Q tgt lv st h) (kf : x ≥ 0 → V G X nL uc us Q ((pc + 3)) lv st h) : V G X nL uc us Q pc lv (iv x :: st) h := fun H locs ls hH hL hl => lv_if_lt C.1 C.2.1 hd ht (fun z => kt ((i32_lt hx R32_0).mp z) H locs ls hH hL hl) (fun z => kf (Int.not_lt.mp (fun e => z ((i32_lt hx R32_0).mpr e))) H locs ls hH hL hl)
theorem v_icmp_ge (C : Cx G X cc nL own d kc ks ret nm) {x y : Int} {off : Int} (tgt : Nat) (hx : R32 x) (hy : R32 y) (hd : decode cc pc = .ok (.if_icmp .ge off, 3)) (ht : (pc : Int) + off = (tgt : Int)) (kt : x ≥ y → V G X nL uc us Q tgt lv st h) (kf : x < y → V G X nL uc us Q ((pc + 3)) lv st h) : V G X nL uc us Q pc lv (iv y :: iv x :: st) h := fun H locs ls hH hL hl => lv_icmp_ge C.1 C.2.1 hd ht (fun z => kt ((i32_le hy hx).mp z) H locs ls hH hL hl) (fun z => kf (Int.not_le.mp (fun e => z ((i32_le hy hx).mpr e))) H locs ls hH hL hl)
theorem v_if_ge (C : Cx G X cc nL own d kc ks ret nm) {x : Int} {off : Int} (tgt : Nat) (hx : R32 x) (hd : decode cc pc = .ok (.ifCond .ge off, 3)) (ht : (pc : Int) + off = (tgt : Int)) (kt : x ≥ 0 → V G X nL uc us Q tgt lv st h) (kf : x < 0 → V G X nL uc us Q ((pc + 3)) lv st h) : V G X nL uc us Q pc lv (iv x :: st) h := fun H locs ls hH hL hl => lv_if_ge C.1 C.2.1 hd ht (fun z => kt ((i32_le R32_0 hx).mp z) H locs ls hH hL hl) (fun z => kf (Int.not_le.mp (fun e => z ((i32_le R32_0 hx).mpr e))) H locs ls hH hL hl)
theorem v_icmp_gt (C : Cx G X cc nL own d kc ks ret nm) {x y : Int} {off : Int} (tgt : Nat) (hx : R32 x) (hy : R32 y) (hd : decode cc pc = .ok (.if_icmp .gt off, 3)) (ht : (pc : Int) + off = (tgt : Int)) (kt : x > y → V G X nL uc us Q tgt lv st h) (kf : x ≤ y → V G X nL uc us Q ((pc + 3)) lv st h) : V G X nL uc us Q pc lv (iv y :: iv x :: st) h := fun H locs ls hH hL hl => lv_icmp_gt C.1 C.2.1 hd ht (fun z => kt ((i32_lt hy hx).mp z) H locs ls hH hL hl) (fun z => kf (Int.not_lt.mp (fun e => z ((i32_lt hy hx).mpr e))) H locs ls hH hL hl)
theorem v_if_gt (C : Cx G X cc nL own d kc ks ret nm) {x : Int} {off : Int} (tgt : Nat) (hx : R32 x) (hd : decode cc pc = .ok (.ifCond .gt off, 3)) (ht : (pc : Int) + off = (tgt : Int)) (kt : x > 0 → V G X nL uc us Q tgt lv st h) (kf : x ≤ 0 → V G X nL uc us Q ((pc + 3)) lv st h) : V G X nL uc us Q pc lv (iv x :: st) h := fun H locs ls hH hL hl => lv_if_gt C.1 C.2.1 hd ht (fun z => kt ((i32_lt R32_0 hx).mp z) H locs ls hH hL hl) (fun z => kf (Int.not_lt.mp (fun e => z ((i32_lt R32_0 hx).mpr e))) H locs ls hH hL hl)
theorem v_icmp_le (C : Cx G X cc nL own d kc ks ret nm) {x y : Int} {off : Int} (tgt : Nat) (hx : R32 x) (hy : R32 y) (hd : decode cc pc = .ok (.if_icmp .le off, 3)) (ht : (pc : Int) + off = (tgt : Int)) (kt : x ≤ y → V G X nL uc us Q tgt lv st h) (kf : x > y → V G X nL uc us Q ((pc + 3)) lv st h) : V G X nL uc us Q pc lv (iv y :: iv x :: st) h := fun H locs ls hH hL hl => lv_icmp_le C.1 C.2.1 hd ht (fun z => kt ((i32_le hx hy).mp z) H locs ls hH hL hl) (fun z => kf (Int.not_le.mp (fun e => z ((i32_le hx hy).mpr e))) H locs ls hH hL hl)
theorem v_if_le (C : Cx G X cc nL own d kc ks ret nm) {x : Int} {off : Int} (tgt : Nat) (hx : R32 x) (hd : decode cc pc = .ok (.ifCond .le off, 3)) (ht : (pc : Int) + off = (tgt : Int)) (kt : x ≤ 0 → V G X nL uc us Q tgt lv st h) (kf : x > 0 → V G X nL uc us Q ((pc + 3)) lv st h) : V G X nL uc us Q pc lv (iv x :: st) h := fun H locs ls hH hL hl => lv_if_le C.1 C.2.1 hd ht (fun z => kt ((i32_le hx R32_0).mp z) H locs ls hH hL hl) (fun z => kf (Int.not_le.mp (fun e => z ((i32_le hx R32_0).mpr e))) H locs ls hH hL hl)
theorem v_goto (C : Cx G X cc nL own d kc ks ret nm) {off : Int} (tgt : Nat) (hd : decode cc pc = .ok (.goto off, 3)) (ht : (pc : Int) + off = (tgt : Int)) (kk : V G X nL uc us Q tgt lv st h) : V G X nL uc us Q pc lv st h := fun H locs ls hH hL hl => lv_goto C.1 C.2.1 hd ht (kk H locs ls hH hL hl)
theorem v_ifnull (C : Cx G X cc nL own d kc ks ret nm) {x : Int} {off : Int} (tgt : Nat) (hd : decode cc pc = .ok (.ifnull off, 3)) (ht : (pc : Int) + off = (tgt : Int)) (kt : x = 0 → V G X nL uc us Q tgt lv st h) (kf : x ≠ 0 → V G X nL uc us Q ((pc + 3)) lv st h) : V G X nL uc us Q pc lv (rf x :: st) h := by
  intro H locs ls hH hL hl
  by_cases hx : x = 0
  · subst hx
    exact lv_ifnullN C.1 C.2.1 hd ht (kt rfl H locs ls hH hL hl)
  · rw [List.map_cons, rv_ref hx]
    exact lv_ifnull C.1 C.2.1 hd (kf hx H locs ls hH hL hl)
theorem v_ifnonnull (C : Cx G X cc nL own d kc ks ret nm) {x : Int} {off : Int} (tgt : Nat) (hd : decode cc pc = .ok (.ifnonnull off, 3)) (ht : (pc : Int) + off = (tgt : Int)) (kt : x ≠ 0 → V G X nL uc us Q tgt lv st h) (kf : x = 0 → V G X nL uc us Q ((pc + 3)) lv st h) : V G X nL uc us Q pc lv (rf x :: st) h := by
  intro H locs ls hH hL hl
  by_cases hx : x = 0
  · subst hx
    exact lv_ifnonnullN C.1 C.2.1 hd (kf rfl H locs ls hH hL hl)
  · rw [List.map_cons, rv_ref hx]
    exact lv_ifnonnull C.1 C.2.1 hd ht (kt hx H locs ls hH hL hl)
theorem v_tableOut (C : Cx G X cc nL own d kc ks ret nm) {dflt lo hi : Int} {offs : Array Int} {len : Nat} {x : Int} (tgt : Nat) (hx : R32 x) (h1 : x < lo ∨ hi < x) (hd : decode cc pc = .ok (.tableswitch dflt lo hi offs, len)) (ht : (pc : Int) + dflt = (tgt : Int)) (kk : V G X nL uc us Q tgt lv st h) : V G X nL uc us Q pc lv (iv x :: st) h := fun H locs ls hH hL hl => lv_tableOut C.1 C.2.1 hd (by rw [i32T hx]; exact h1) ht (kk H locs ls hH hL hl)
theorem v_tableIn (C : Cx G X cc nL own d kc ks ret nm) {dflt lo hi : Int} {offs : Array Int} {len : Nat} {x off : Int} (tgt : Nat) (k : Int) (hx : R32 k) (hk : x = k) (hd : decode cc pc = .ok (.tableswitch dflt lo hi offs, len)) (h1 : ¬ k < lo) (h2 : ¬ hi < k) (ho : offs[(k - lo).toNat]? = some off) (ht : (pc : Int) + off = (tgt : Int)) (kk : V G X nL uc us Q tgt lv st h) : V G X nL uc us Q pc lv (iv x :: st) h := by
  subst hk
  exact fun H locs ls hH hL hl => lv_tableIn C.1 C.2.1 hd (by rw [i32T hx]; exact h1) (by rw [i32T hx]; exact h2) (by rw [i32T hx]; exact ho) ht (kk H locs ls hH hL hl)
theorem v_sub {lv2 : List (Nat × AV)} (ns : List Nat) (hs : ns.filterMap (fun k => lv[k]?) = lv2) (kk : V G X nL uc us Q pc lv2 st h) : V G X nL uc us Q pc lv st h := by
  subst hs
  intro H locs ls hH hL hl
  refine kk H locs ls hH hL ⟨hl.1, hl.2.1, fun q hq => ?_⟩
  obtain ⟨z, hz, ez⟩ := List.mem_map.mp hq
  obtain ⟨k, -, hk⟩ := List.mem_filterMap.mp hz
  exact hl.2.2 q (List.mem_map.mpr ⟨z, List.mem_of_getElem? hk, ez⟩)
theorem v_mem {m2 : Mem} (e : m2 = h) (kk : V G X nL uc us Q pc lv st m2) : V G X nL uc us Q pc lv st h := e ▸ kk
theorem v_to {lv2 : List (Nat × AV)} {st2 : List AV} {h2 : Mem} {pc2 : Nat} (ep : pc2 = pc) (e1 : lv2 = lv) (e2 : st2 = st) (e3 : h2 = h) (kk : V G X nL uc us Q pc2 lv2 st2 h2) : V G X nL uc us Q pc lv st h := by
  subst ep e1 e2 e3
  exact kk
end OPS
theorem iv_n1 (x : Int) : (iv x).1 ≠ 1 := by show (0 : Nat) ≠ 1; decide
theorem rf_n1 (x : Int) : (rf x).1 ≠ 1 := by show (2 : Nat) ≠ 1; decide
theorem R32.of {x y : Int} (e : x = y) (h : R32 x) : R32 y := e ▸ h
theorem R64.of {x y : Int} (e : x = y) (h : R64 x) : R64 y := e ▸ h
theorem R32.l {x : Int} (h : R32 x) : R64 x := ⟨by have := h.1; omega, by have := h.2; omega⟩
theorem R64_toInt (x : Int64) : R64 x.toInt := ⟨Int64.le_toInt x, Int64.toInt_lt x⟩
theorem w8_R32 (x : Int) : R32 (w8 x) := by unfold w8; exact ⟨by omega, by omega⟩
theorem w8_b (x : Int) : -128 ≤ w8 x ∧ w8 x < 128 := by unfold w8; exact ⟨by omega, by omega⟩
theorem bR {x : Int} (h : x = 0 ∨ x = 1) : R32 x := by rcases h with e | e <;> subst e <;> exact ⟨by decide, by decide⟩
theorem tdivR32 {x y : Int} (hx : R32 x) (h0 : 0 < y) : R32 (x.tdiv y) := by
  obtain ⟨h1, h2⟩ := hx
  rcases Int.lt_or_le x 0 with hn | hn
  · have e : x.tdiv y = -((-x) / y) := by
      have := Int.tdiv_eq_ediv_of_nonneg (a := -x) (b := y) (by omega)
      rw [Int.neg_tdiv] at this
      omega
    have h3 : (-x) / y ≤ -x := Int.ediv_le_self _ (by omega)
    have h4 : 0 ≤ (-x) / y := Int.ediv_nonneg (by omega) (by omega)
    rw [e]
    exact ⟨by omega, by omega⟩
  · rw [Int.tdiv_eq_ediv_of_nonneg hn]
    have h3 : x / y ≤ x := Int.ediv_le_self _ hn
    have h4 : 0 ≤ x / y := Int.ediv_nonneg hn (by omega)
    exact ⟨by omega, by omega⟩
theorem tmodR32 {x y : Int} (hy : R32 y) (h0 : 0 < y) : R32 (x.tmod y) := by
  obtain ⟨h1, h2⟩ := hy
  have a := Int.lt_tmod_of_pos x h0
  have b := Int.tmod_lt_of_pos x h0
  exact ⟨by omega, by omega⟩
