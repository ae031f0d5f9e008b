/-! THE MEMORY LAYER: cells by codes, rows by numbers -/
set_option maxRecDepth 100000
abbrev Mem : Type := Int → Int → Int
abbrev AV : Type := Nat × Int
abbrev iv (x : Int) : AV := (0, x)
abbrev jv (x : Int) : AV := (1, x)
abbrev rf (x : Int) : AV := (2, x)
/-- base, heap at the start, class numbers, slots, array classes, external addresses -/
abbrev GT : Type := Nat × Heap × (Nat → ClassId) × (Nat → Nat → Nat) × (Nat → ClassId) × (Nat → Nat) × (Nat → Int)
abbrev MX : Type := Program × Launch × Env × Room × State × MethodId × Array Value × List Frame × Method × Code
def ad (G : GT) (x : Int) : Nat := if 0 < x then G.1 + (x.toNat - 1) else G.2.2.2.2.2.1 (-x).toNat
def ro (G : GT) (x : Int) : Option Nat := if x = 0 then none else some (ad G x)
def rv (G : GT) (v : AV) : Value := match v.1 with
  | 0 => .int (Int32.ofInt v.2)
  | 1 => .long (Int64.ofInt v.2)
  | _ => va_rf (ro G v.2)
theorem rv_i (G : GT) (x : Int) : rv G (iv x) = .int (Int32.ofInt x) := rfl
theorem rv_j (G : GT) (x : Int) : rv G (jv x) = .long (Int64.ofInt x) := rfl
theorem rv_r (G : GT) (x : Int) : rv G (rf x) = va_rf (ro G x) := rfl
theorem rv_ref {G : GT} {x : Int} (h : x ≠ 0) : rv G (rf x) = .ref (ad G x) := by
  rw [rv_r, ro, if_neg h]; rfl
theorem rv_null (G : GT) : rv G (rf 0) = .null := rfl
theorem ad_pos (G : GT) {x : Int} (h : 1 ≤ x) : ad G x = G.1 + (x.toNat - 1) := by
  rw [ad, if_pos (by omega)]
theorem rv_cat (G : GT) (v : AV) : (rv G v).category = if v.1 = 1 then 2 else 1 := by
  obtain ⟨t, x⟩ := v
  match t with
  | 0 => rfl
  | 1 => rfl
  | t + 2 =>
    show (va_rf (ro G x)).category = _
    rw [if_neg (by omega)]
    cases ro G x <;> rfl
abbrev vwCl : List vw_C := [(RX0, TX0, 25), (RX1, TX1, 30), (RX2, TX2, 8), (RX3, TX3, 65), (RX4, TX4, 7), (RX5, TX5, 2), (RX6, TX6, 2), (RX8, TX8, 1), (RX9, TX9, 1), (RX10, TX10, 3), (RX12, TX12, 1), (RX13, TX13, 3), (RX14, TX14, 3), (RX15, TX15, 4)]
def cN : Nat → Nat := fun c => match c with
  | 0 => 25
  | 1 => 30
  | 2 => 8
  | 3 => 65
  | 4 => 7
  | 5 => 2
  | 6 => 2
  | 7 => 1
  | 8 => 1
  | 9 => 3
  | 10 => 1
  | 11 => 3
  | 12 => 3
  | _ => 4
def cty : Nat → Nat → FieldType := fun c => match c with
  | 0 => tyX0
  | 1 => tyX1
  | 2 => tyX2
  | 3 => tyX3
  | 4 => tyX4
  | 5 => tyX5
  | 6 => tyX6
  | 7 => tyX8
  | 8 => tyX9
  | 9 => tyX10
  | 10 => tyX12
  | 11 => tyX13
  | 12 => tyX14
  | _ => tyX15
def tg : FieldType → Nat
  | .long => 1
  | .object _ => 2
  | .array _ => 2
  | _ => 0
def ft (c j : Nat) : Nat := tg (cty c j)
def R32 (x : Int) : Prop := -2147483648 ≤ x ∧ x < 2147483648
def R64 (x : Int) : Prop := -9223372036854775808 ≤ x ∧ x < 9223372036854775808
/-- an int stands there; a long stands there -/
def isI (K j : Int) : Bool := if 100 ≤ K then decide (K ≤ 103) else if 1 ≤ K then ft (K.toNat - 1) j.toNat == 0 else false
def isJ (K j : Int) : Bool := if 100 ≤ K then decide (K = 104) else if 1 ≤ K then ft (K.toNat - 1) j.toNat == 1 else false
def okI (K j x : Int) : Prop := (isI K j = true → R32 x) ∧ (isJ K j = true → R64 x)
def OkM (h : Mem) : Prop := ∀ a j : Int, 1 ≤ a → okI (h a (-1)) j (h a j)
/-- the fields of an object -/
def flds (G : GT) (h : Mem) (c : Nat) (a : Int) : List Value := (List.range (cN c)).map fun j => rv G (ft c j, h a j)
/-- an array's contents: kinds 101 int, 102 byte, 103 boolean, 104 long, 105 .. references -/
def cA (G : GT) (h : Mem) (a : Int) : vp_A := ((h a (-2)).toNat,
  if h a (-1) < 104 then .inl (fun j => Int32.ofInt (h a j))
  else if h a (-1) = 104 then .inr (.inl fun j => Int64.ofInt (h a j))
  else .inr (.inr (.inr (.inr fun j => ro G (h a j)))))
def cE (G : GT) (h : Mem) (a : Int) : va_E := if h a (-1) < 100 then .inr ((h a (-1)).toNat - 1, flds G h ((h a (-1)).toNat - 1) a) else .inl (G.2.2.2.2.1 ((h a (-1)).toNat - 101), cA G h a)
def wl (G : GT) (h : Mem) : va_W := (List.range ((h 0 0).toNat - 1)).map fun (k : Nat) => (G.1 + k, cE G h ((k : Int) + 1))
abbrev gD (G : GT) : va_G := (G.2.2.1, G.2.2.2.1)
abbrev gA (G : GT) : Nat → Prop := fun q => G.1 ≤ q
/-- the heap holds the memory -/
def HR (G : GT) (h : Mem) (H : Heap) : Prop :=
  (H.size + 1 = G.1 + (h 0 0).toNat ∧ 1 ≤ h 0 0) ∧ va_P (gD G) vwCl (wl G h) H ∧ (∀ q : Nat, q < G.1 → H[q]? = G.2.1[q]?) ∧ (∀ a : Int, h a (-1) ≠ 0 → 1 ≤ a ∧ a < h 0 0) ∧ (∀ a : Int, 0 ≤ h a (-2) ∧ h a (-2) < 2147483648) ∧ OkM h
def HL (G : GT) (locs : List Loc) : Prop := ∀ q ∈ locs, G.1 ≤ q.base
abbrev tysL (G : GT) : List (ClassId × FieldType) := [(G.2.2.2.2.1 0, .int), (G.2.2.2.2.1 1, .byte), (G.2.2.2.2.1 2, .boolean), (G.2.2.2.2.1 3, .long), (G.2.2.2.2.1 4, .object "java/lang/String"), (G.2.2.2.2.1 5, .object RX1), (G.2.2.2.2.1 6, .object RX5), (G.2.2.2.2.1 7, .object RX15), (G.2.2.2.2.1 8, .object RX6)]
theorem wl_len (G : GT) (h : Mem) : (wl G h).length = (h 0 0).toNat - 1 := by simp [wl]
theorem wl_get {G : GT} {h : Mem} {a : Int} (h1 : 1 ≤ a) (h2 : a < h 0 0) : (wl G h)[a.toNat - 1]? = some (ad G a, cE G h a) := by
  have e : ((a.toNat - 1 : Nat) : Int) + 1 = a := by omega
  rw [wl, List.getElem?_map, List.getElem?_range (by omega)]
  show some (G.1 + (a.toNat - 1), cE G h (((a.toNat - 1 : Nat) : Int) + 1)) = _
  rw [e, ad_pos G h1]
theorem wl_D (G : GT) (h : Mem) : va_D (gA G) (wl G h) := by
  refine ⟨fun i j p q hi hj hpq => ?_, fun k q hk => ?_⟩
  · rw [wl, List.getElem?_map] at hi hj
    obtain ⟨i', hi', ei⟩ := Option.map_eq_some_iff.mp hi
    obtain ⟨j', hj', ej⟩ := Option.map_eq_some_iff.mp hj
    obtain ⟨li, ei'⟩ := List.getElem?_eq_some_iff.mp hi'
    obtain ⟨lj, ej'⟩ := List.getElem?_eq_some_iff.mp hj'
    rw [List.getElem_range] at ei' ej'
    subst ei' ej' ei ej
    exact Nat.add_left_cancel hpq
  · rw [wl, List.getElem?_map] at hk
    obtain ⟨i', hi', ei⟩ := Option.map_eq_some_iff.mp hk
    subst ei
    exact Nat.le_add_right _ _
/-- one slot changes -/
def up (h : Mem) (b i v : Int) : Mem := fun a j => if a = b ∧ j = i then v else h a j
theorem up_s (h : Mem) (b i v : Int) : up h b i v b i = v := if_pos ⟨rfl, rfl⟩
theorem up_n {h : Mem} {b i v a j : Int} (q : ¬ (a = b ∧ j = i)) : up h b i v a j = h a j := if_neg q
theorem up_a {h : Mem} {b i v a j : Int} (q : a ≠ b) : up h b i v a j = h a j := up_n fun z => q z.1
theorem up_i {h : Mem} {b i v a j : Int} (q : j ≠ i) : up h b i v a j = h a j := up_n fun z => q z.2
theorem cE_up_ne {G : GT} {h : Mem} {a b i v : Int} (hn : b ≠ a) : cE G (up h a i v) b = cE G h b := by
  have e : ∀ j, up h a i v b j = h b j := fun j => up_a hn
  simp only [cE, cA, flds, e]
theorem wl_set {G : GT} {h : Mem} {a i v : Int} (h1 : 1 ≤ a) (hi : 0 ≤ i) {E : va_E} (hE : E = cE G (up h a i v) a) : (wl G h).set (a.toNat - 1) (ad G a, E) = wl G (up h a i v) := by
  have e0 : up h a i v 0 0 = h 0 0 := up_a (by omega)
  apply List.ext_getElem?
  intro k
  by_cases hk : k < (h 0 0).toNat - 1
  · by_cases hka : a.toNat - 1 = k
    · subst hka
      rw [List.getElem?_set_self (by rw [wl_len]; exact hk), wl_get (h := up h a i v) h1 (by rw [e0]; omega), hE]
    · rw [List.getElem?_set_ne hka]
      have hk' := wl_get (G := G) (h := h) (a := (k : Int) + 1) (by omega) (by omega)
      have hk2 := wl_get (G := G) (h := up h a i v) (a := (k : Int) + 1) (by omega) (by rw [e0]; omega)
      rw [show ((k : Int) + 1).toNat - 1 = k by omega] at hk' hk2
      rw [hk', hk2, cE_up_ne (by omega)]
  · rw [List.getElem?_eq_none (by rw [List.length_set, wl_len]; omega), List.getElem?_eq_none (by rw [wl_len, e0]; omega)]
theorem HR.lt {G : GT} {h : Mem} {H : Heap} (hH : HR G h H) {a : Int} (ha : h a (-1) ≠ 0) : 1 ≤ a ∧ a < h 0 0 := hH.2.2.2.1 a ha
theorem OkM_up {h : Mem} (O : OkM h) {a i v : Int} (hi : 0 ≤ i) (hv : okI (h a (-1)) i v) : OkM (up h a i v) := by
  intro b j hb
  rw [up_i (show (-1 : Int) ≠ i by omega)]
  by_cases q : b = a ∧ j = i
  · rw [q.1, q.2, up_s]
    exact hv
  · rw [up_n q]
    exact O b j hb
theorem HR_up {G : GT} {h : Mem} {H H1 : Heap} (hH : HR G h H) {a i v : Int} (hv : okI (h a (-1)) i v) (ha : 1 ≤ a) (hi : 0 ≤ i) (hs : H1.size = H.size) (hP : va_P (gD G) vwCl (wl G (up h a i v)) H1) (ho : ∀ q : Nat, q < G.1 → H1[q]? = H[q]?) : HR G (up h a i v) H1 := by
  have e0 : up h a i v 0 0 = h 0 0 := up_a (by omega)
  refine ⟨⟨by rw [hs, e0]; exact hH.1.1, by rw [e0]; exact hH.1.2⟩, hP, fun q hq => (ho q hq).trans (hH.2.2.1 q hq), fun b hb => ?_, fun b => ?_, OkM_up hH.2.2.2.2.2 hi hv⟩
  · rw [up_i (by omega)] at hb
    rw [e0]
    exact hH.2.2.2.1 b hb
  · rw [up_i (by omega)]
    exact hH.2.2.2.2.1 b
/-- as the kit says it -/
theorem HR.S {G : GT} {h : Mem} {H : Heap} {locs : List Loc} (hG : G.2.1.size = G.1) (hH : HR G h H) (hl : HL G locs) : va_S (gA G) G.2.1 H locs := by
  refine ⟨?_, fun q hq _ => hH.2.2.1 q (by rw [← hG]; exact hq), hl⟩
  have h1 := hH.1.1
  have h2 := hH.1.2
  rw [hG]
  omega
theorem HR.ofS {G : GT} {H H1 : Heap} {locs : List Loc} (hG : G.2.1.size = G.1) (h0 : ∀ q : Nat, q < G.1 → H[q]? = G.2.1[q]?) (hS : va_S (gA G) G.2.1 H1 locs) : (∀ q : Nat, q < G.1 → H1[q]? = H[q]?) ∧ HL G locs :=
  ⟨fun q hq => (hS.2.1 q (by rw [hG]; exact hq) (fun z => by exact absurd z (Nat.not_le.mpr hq))).trans (h0 q hq).symm, hS.2.2⟩
