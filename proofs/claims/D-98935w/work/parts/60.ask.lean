/-! what there is: cell, coat, thing, painter, rain, count -/
set_option maxRecDepth 100000
def cmO : Option Tn → Int
  | none => 0
  | some T => T.en.cm
def tmO : Option Tn → Int
  | none => 0
  | some T => T.en.tm
def pmO : Option Tn → Int
  | none => 0
  | some T => T.en.pm
theorem cmO_s {s : Option Tn} {c : Int} (h : 0 ≤ c ∧ c < cmO s) : ∃ T : Tn, s = some T ∧ 0 ≤ c ∧ c < T.en.cm := by
  cases s with
  | none => have : cmO none = 0 := rfl; omega
  | some T => exact ⟨T, rfl, h⟩
theorem tmO_s {s : Option Tn} {c : Int} (h : 0 ≤ c ∧ c < tmO s) : ∃ T : Tn, s = some T ∧ 0 ≤ c ∧ c < T.en.tm := by
  cases s with
  | none => have : tmO none = 0 := rfl; omega
  | some T => exact ⟨T, rfl, h⟩
theorem pmO_s {s : Option Tn} {c : Int} (h : 0 ≤ c ∧ c < pmO s) : ∃ T : Tn, s = some T ∧ 0 ≤ c ∧ c < T.en.pm := by
  cases s with
  | none => have : pmO none = 0 := rfl; omega
  | some T => exact ⟨T, rfl, h⟩
theorem IX.tn {h : Mem} {Z : Zt} (I : IX h Z) {T : Tn} (e : Z.s = some T) : h 1 0 = 2 ∧ TownX h 2 T := by
  have z := I.str
  rw [e] at z
  exact z
theorem IM.tn {h : Mem} {Z : Zt} (I : IM h Z) {T : Tn} (e : Z.s = some T) : TownM h T := by
  have z := I.str
  rw [e] at z
  exact z
theorem IX.no {h : Mem} {Z : Zt} (I : IX h Z) (e : Z.s = none) : h 1 0 = 0 := by
  have z := I.str
  rw [e] at z
  exact z
theorem IM.no {h : Mem} {Z : Zt} (I : IM h Z) (e : Z.s = none) : NoM h := by
  have z := I.str
  rw [e] at z
  exact z
theorem IX.oz {h : Mem} {Z : Zt} (I : IX h Z) : OkZ h := I.fx.2.2
theorem IM.oz {h : Mem} {Z : Zt} (I : IM h Z) : OkZ h := I.fx.2.2
theorem IM.n3 {h : Mem} {Z : Zt} (I : IM h Z) : h 178 3 = tmO Z.s ∧ 0 ≤ tmO Z.s ∧ tmO Z.s ≤ 4 := by
  cases e : Z.s with
  | none => exact ⟨(I.no e).1 3 (by decide) (by decide), by decide, by decide⟩
  | some T => have q := (I.tn e).mr; exact ⟨q.te.1.2.2.2.1, q.en.tm.1, q.en.tm.2⟩
theorem IM.n4 {h : Mem} {Z : Zt} (I : IM h Z) : h 178 4 = cmO Z.s ∧ 0 ≤ cmO Z.s ∧ cmO Z.s ≤ 16 := by
  cases e : Z.s with
  | none => exact ⟨(I.no e).1 4 (by decide) (by decide), by decide, by decide⟩
  | some T => have q := (I.tn e).mr; exact ⟨q.te.1.2.2.2.2.1, q.en.cm.1, q.en.cm.2⟩
theorem IM.n5 {h : Mem} {Z : Zt} (I : IM h Z) : h 178 5 = pmO Z.s ∧ 0 ≤ pmO Z.s ∧ pmO Z.s ≤ 4 := by
  cases e : Z.s with
  | none => exact ⟨(I.no e).1 5 (by decide) (by decide), by decide, by decide⟩
  | some T => have q := (I.tn e).mr; exact ⟨q.te.1.2.2.2.2.2.1, q.en.pm.1, q.en.pm.2⟩
section
variable {G : GT} {h : Mem} {Z : Zt} {P : Int → Mem → Prop} {l : Launch}
theorem IX.isCell (I : IX h Z) {c : Int} (hp : P (if 0 ≤ c ∧ c < cmO Z.s then 1 else 0) h) : kX0_isCell G l c h P := by
  refine sX0_isCell I.xs I.xt (n := cmO Z.s) (fun t => ?_) ?_
  · cases e : Z.s with
    | none => have := I.no e; omega
    | some T => exact (I.tn e).2.tr.te.1.2.2.2.2.1
  · by_cases q : 0 ≤ c ∧ c < cmO Z.s
    · obtain ⟨T, e, _⟩ := cmO_s q
      rw [if_pos ⟨(I.tn e).1, q⟩]
      rw [if_pos q] at hp; exact hp
    · rw [if_neg fun z => q z.2]
      rw [if_neg q] at hp; exact hp
theorem IX.isThing (I : IX h Z) {c : Int} (hp : P (if 0 ≤ c ∧ c < tmO Z.s then 1 else 0) h) : kX0_isThing G l c h P := by
  refine sX0_isThing I.xs I.xt (n := tmO Z.s) (fun t => ?_) ?_
  · cases e : Z.s with
    | none => have := I.no e; omega
    | some T => exact (I.tn e).2.tr.te.1.2.2.2.1
  · by_cases q : 0 ≤ c ∧ c < tmO Z.s
    · obtain ⟨T, e, _⟩ := tmO_s q
      rw [if_pos ⟨(I.tn e).1, q⟩]
      rw [if_pos q] at hp; exact hp
    · rw [if_neg fun z => q z.2]
      rw [if_neg q] at hp; exact hp
theorem IX.isPainter (I : IX h Z) {c : Int} (hp : P (if 0 ≤ c ∧ c < pmO Z.s then 1 else 0) h) : kX0_isPainter G l c h P := by
  refine sX0_isPainter I.xs I.xt (n := pmO Z.s) (fun t => ?_) ?_
  · cases e : Z.s with
    | none => have := I.no e; omega
    | some T => exact (I.tn e).2.tr.te.1.2.2.2.2.2.1
  · by_cases q : 0 ≤ c ∧ c < pmO Z.s
    · obtain ⟨T, e, _⟩ := pmO_s q
      rw [if_pos ⟨(I.tn e).1, q⟩]
      rw [if_pos q] at hp; exact hp
    · rw [if_neg fun z => q z.2]
      rw [if_neg q] at hp; exact hp
theorem IM.isCell (I : IM h Z) {c : Int} (hp : P (if 0 ≤ c ∧ c < cmO Z.s then 1 else 0) h) : kX3_isCell G l c h P :=
  sX3_isCell I.ms I.n4.1 ⟨I.n4.2.1, by have := I.n4.2.2; omega⟩ hp
theorem IM.isThing (I : IM h Z) {c : Int} (hp : P (if 0 ≤ c ∧ c < tmO Z.s then 1 else 0) h) : kX3_isThing G l c h P :=
  sX3_isThing I.ms I.n3.1 ⟨I.n3.2.1, by have := I.n3.2.2; omega⟩ hp
theorem IM.isPainter (I : IM h Z) {c : Int} (hp : P (if 0 ≤ c ∧ c < pmO Z.s then 1 else 0) h) : kX3_isPainter G l c h P :=
  sX3_isPainter I.ms I.n5.1 ⟨I.n5.2.1, by have := I.n5.2.2; omega⟩ hp
theorem IM.isStreet (I : IM h Z) (hp : P (if Z.s = none then 0 else 1) h) : kX3_isStreet G l h P := by
  refine sX3_isStreet I.ms ?_
  cases e : Z.s with
  | none => rw [e, if_pos rfl] at hp; rw [if_neg (by rw [(I.no e).1 0 (by decide) (by decide)]; decide)]; exact hp
  | some T => rw [e, if_neg (by intro z; cases z)] at hp; rw [if_pos (by rw [(I.tn e).mr.te.1.1]; have := (I.tn e).mr.en.dry; omega)]; exact hp
/-! cell -/
def aCell (s : Option Tn) (c w : Int) : Int := if 0 ≤ c ∧ c < cmO s then (match s with
  | none => -2
  | some T => if w = 0 then T.en.thingOf c else if w = 1 then ((T.st.co c).length : Int) else if w = 2 then ownC T.en T.st T.st.now c else if w = 3 then topL (T.st.co c) else if w = 4 then (if wetL T.en T.st.now (T.st.co c) = true then 1 else 0) else -2) else -2
theorem oX_cell (I : IX h Z) {c w : Int} (hp : P (aCell Z.s c w) h) : kX0_cell G l c w h P := by
  refine eX0_cell fun X C e B => ⟨I.xs, I.isCell fun _ => ?_⟩
  by_cases hc : 0 ≤ c ∧ c < cmO Z.s
  · obtain ⟨T, hs, c0, c1⟩ := cmO_s hc
    have t := I.tn hs
    have q := t.2.tr
    have Kc := q.en.cm
    unfold aCell at hp; rw [if_pos hc, hs] at hp
    rw [if_pos hc]
    dsimp only at hp
    refine ⟨fun _ => ⟨fun w0 => ⟨t.1, c0, by omega, ?_⟩, fun w1 => ⟨t.1, c0, by omega, ?_⟩, fun w2 => ⟨t.1, sX1_ownerOf q c0 c1 fun _ => ?_⟩, fun w3 => ⟨t.1, sX1_top q c0 c1 fun _ => ?_⟩, fun w4 => ⟨t.1, sX1_isWet q c0 c1 fun _ => ⟨fun z => ?_, fun z => ?_⟩⟩, fun w5 => ?_⟩, fun z => by cases z⟩
    · rw [if_pos w0] at hp; rw [show (6 : Int) = 2 + 4 from rfl, q.te.2.2.1 c c0 c1]; exact hp
    · rw [if_neg (by omega), if_pos w1] at hp; rw [show (13 : Int) = 2 + 11 from rfl, (q.co c0 c1).1]; exact hp
    · rw [if_neg (by omega), if_neg (by omega), if_pos w2] at hp; exact hp
    · rw [if_neg (by omega), if_neg (by omega), if_neg (by omega), if_pos w3] at hp; exact hp
    · rw [if_neg (by omega), if_neg (by omega), if_neg (by omega), if_neg (by omega), if_pos w4, z] at hp; exact hp
    · rw [if_neg (by omega), if_neg (by omega), if_neg (by omega), if_neg (by omega), if_pos w4] at hp
      split at hp
      · exact hp
      · next y => rw [if_neg y] at z; exact absurd rfl z
    · rw [if_neg (by omega), if_neg (by omega), if_neg (by omega), if_neg (by omega), if_neg (by omega)] at hp; exact hp
  · unfold aCell at hp; rw [if_neg hc] at hp
    rw [if_neg hc]
    exact ⟨fun z => absurd rfl z, fun _ => hp⟩
theorem oM_cell (I : IM h Z) {c w : Int} (hp : P (aCell Z.s c w) h) : kX3_cell G l c w h P := by
  refine eX3_cell fun X C e B => ⟨I.ms, I.isCell fun _ => ?_⟩
  by_cases hc : 0 ≤ c ∧ c < cmO Z.s
  · obtain ⟨T, hs, c0, c1⟩ := cmO_s hc
    have q := (I.tn hs).mr
    have Kc := q.en.cm
    unfold aCell at hp; rw [if_pos hc, hs] at hp
    rw [if_pos hc]
    dsimp only at hp
    refine ⟨fun _ => ⟨fun w0 => sX3_thingOf q c0 c1 fun _ => ?_, fun w1 => ⟨c0, by omega, ?_⟩, fun w2 => sX3_ownerOf q c0 c1 fun _ => ?_, fun w3 => sX3_topOf q c0 c1 fun _ => ?_, fun w4 => sX3_isTopWet q c0 c1 fun _ => ⟨fun z => ?_, fun z => ?_⟩, fun w5 => ?_⟩, fun z => by cases z⟩
    · rw [if_pos w0] at hp; exact hp
    · rw [if_neg (by omega), if_pos w1] at hp; rw [(q.co c0 c1).1]; exact hp
    · rw [if_neg (by omega), if_neg (by omega), if_pos w2] at hp; exact hp
    · rw [if_neg (by omega), if_neg (by omega), if_neg (by omega), if_pos w3] at hp; exact hp
    · rw [if_neg (by omega), if_neg (by omega), if_neg (by omega), if_neg (by omega), if_pos w4, z] at hp; exact hp
    · rw [if_neg (by omega), if_neg (by omega), if_neg (by omega), if_neg (by omega), if_pos w4] at hp
      split at hp
      · exact hp
      · next y => rw [if_neg y] at z; exact absurd rfl z
    · rw [if_neg (by omega), if_neg (by omega), if_neg (by omega), if_neg (by omega), if_neg (by omega)] at hp; exact hp
  · unfold aCell at hp; rw [if_neg hc] at hp
    rw [if_neg hc]
    exact ⟨fun z => absurd rfl z, fun _ => hp⟩
/-! coat: the k-th from the top -/
def coatF (E : En) (x : Int × Int) (w : Int) : Int := if w = 0 then x.1 else if w = 1 then E.colour x.1 else x.2
def aCoat (s : Option Tn) (c k w : Int) : Int := if 0 ≤ c ∧ c < cmO s then (match s with
  | none => -2
  | some T => if 0 ≤ k ∧ k < ((T.st.co c).length : Int) ∧ 0 ≤ w ∧ w ≤ 2 then (match (T.st.co c)[k.toNat]? with
    | none => -2
    | some x => coatF T.en x w) else -2) else -2
theorem Col.at {f g : Int → Int} {e : Int → Int} {base : Int} : ∀ {l : Co} {k : Nat} {x : Int × Int}, Col f g e base l → l[k]? = some x → f (base + (l.length : Int) - 1 - k) = x.1 ∧ g (base + (l.length : Int) - 1 - k) = e x.2
  | [], _, _, _, hk => by simp at hk
  | (b, w) :: r, 0, x, h, hk => by
    rw [List.getElem?_cons_zero] at hk
    cases hk
    rw [List.length_cons, show base + ((r.length + 1 : Nat) : Int) - 1 - ((0 : Nat) : Int) = base + (r.length : Int) by omega]
    exact ⟨h.1, h.2.1⟩
  | (b, w) :: r, k + 1, x, h, hk => by
    rw [List.getElem?_cons_succ] at hk
    have := Col.at h.2.2 hk
    rw [List.length_cons, show base + ((r.length + 1 : Nat) : Int) - 1 - ((k + 1 : Nat) : Int) = base + (r.length : Int) - 1 - k by omega]
    exact this
theorem coat_get {T : Tn} {c k : Int} (h0 : 0 ≤ k) (h1 : k < ((T.st.co c).length : Int)) : ∃ x : Int × Int, (T.st.co c)[k.toNat]? = some x := ⟨_, List.getElem?_eq_getElem (show k.toNat < (T.st.co c).length by omega)⟩
theorem oX_coat (I : IX h Z) {c k w : Int} (hp : P (aCoat Z.s c k w) h) : kX0_coat G l c k w h P := by
  refine eX0_coat fun X C e B => ⟨I.xs, I.isCell fun _ => ?_⟩
  by_cases hc : 0 ≤ c ∧ c < cmO Z.s
  · obtain ⟨T, hs, c0, c1⟩ := cmO_s hc
    have t := I.tn hs
    have q := t.2.tr
    have Kc := q.en.cm
    have Kp := q.en.pm
    have O := q.st.co c c0 c1
    have Kn := q.st.now
    have O1 := O.1
    have m := (q.co c0 c1).1
    have m2 := (q.co c0 c1).2
    rw [show (2 : Int) + 11 = 13 from rfl] at m
    rw [show (2 : Int) + 12 = 14 from rfl, show (2 : Int) + 13 = 15 from rfl] at m2
    unfold aCoat at hp; rw [if_pos hc, hs] at hp
    rw [if_pos hc]
    dsimp only at hp
    refine ⟨fun z => (by cases z), fun _ => ⟨fun k0 => ?_, fun k0 => ⟨t.1, c0, by omega, ?_⟩⟩⟩
    · rw [if_neg (by omega)] at hp; exact hp
    · rw [m]
      refine ⟨fun k1 => ?_, fun k1 => sX0_in fun _ => ⟨fun w0 => ?_, fun w0 => ?_⟩⟩
      · rw [if_neg (by omega)] at hp; exact hp
      · have hw : 0 ≤ w ∧ w ≤ 2 := Classical.byContradiction fun z => by rw [if_neg z] at w0; exact w0 rfl
        obtain ⟨x, hx⟩ := coat_get (T := T) (c := c) k0 k1
        rw [if_pos ⟨k0, k1, hw⟩, hx] at hp
        dsimp only at hp
        have g := m2.at hx
        rw [show (5 * c + ((T.st.co c).length : Int) - 1 - ((k.toNat : Nat) : Int)) = 5 * c + ((T.st.co c).length : Int) - 1 - k by omega] at g
        have r := O.2.1 x.1 x.2 (List.mem_of_getElem? hx)
        refine ⟨t.1, ⟨by omega, by omega⟩, fun y ey => ?_⟩
        subst ey
        rw [m, g.1, g.2]
        refine ⟨fun n0 => ⟨fun n1 => ⟨by omega, by omega, ?_⟩, fun n1 => ⟨by omega, by omega, by omega, by omega, ?_⟩⟩, fun n0 => ⟨by omega, by omega, ?_⟩⟩
        · rw [coatF, if_neg n0, if_neg n1] at hp
          have := eX_rng r.2.2.1 r.2.2.2
          rw [show max (-1) (eX x.2) = x.2 by omega]; exact hp
        · rw [coatF, if_neg n0, if_pos n1] at hp
          rw [show (7 : Int) = 2 + 5 from rfl, q.te.2.2.2.1 x.1 r.1 r.2.1]; exact hp
        · rw [coatF, if_pos n0] at hp; exact hp
      · have hw : ¬ (0 ≤ w ∧ w ≤ 2) := fun z => by rw [if_pos z] at w0; cases w0
        rw [if_neg fun z => hw z.2.2] at hp; exact hp
  · unfold aCoat at hp; rw [if_neg hc] at hp
    rw [if_neg hc]
    exact ⟨fun _ => hp, fun z => absurd rfl z⟩
theorem oM_coat (I : IM h Z) {c k w : Int} (hp : P (aCoat Z.s c k w) h) : kX3_coat G l c k w h P := by
  refine eX3_coat fun X C e B => ⟨I.ms, I.isCell fun _ => ?_⟩
  by_cases hc : 0 ≤ c ∧ c < cmO Z.s
  · obtain ⟨T, hs, c0, c1⟩ := cmO_s hc
    have q := (I.tn hs).mr
    have Kc := q.en.cm
    have Kp := q.en.pm
    have O := q.st.co c c0 c1
    have O1 := O.1
    have m := (q.co c0 c1).1
    have m2 := (q.co c0 c1).2
    unfold aCoat at hp; rw [if_pos hc, hs] at hp
    rw [if_pos hc]
    dsimp only at hp
    refine ⟨fun z => (by cases z), fun _ => ⟨fun k0 => ?_, fun k0 => ⟨c0, by omega, ?_⟩⟩⟩
    · rw [if_neg (by omega)] at hp; exact hp
    · rw [m]
      refine ⟨fun k1 => ⟨⟨by omega, by omega⟩, fun y ey => ?_⟩, fun k1 => ?_⟩
      · obtain ⟨x, hx⟩ := coat_get (T := T) (c := c) k0 k1
        have g := m2.at hx
        rw [show (5 * c + ((T.st.co c).length : Int) - 1 - ((k.toNat : Nat) : Int)) = 5 * c + ((T.st.co c).length : Int) - 1 - k by omega] at g
        have r := O.2.1 x.1 x.2 (List.mem_of_getElem? hx)
        subst ey
        rw [g.1, g.2]
        refine ⟨fun n0 => ⟨by omega, by omega, ?_⟩, fun n1 => ⟨by omega, by omega, by omega, by omega, ?_⟩, fun n2 => ⟨by omega, by omega, ?_⟩, fun n3 => ?_⟩
        · rw [if_pos (by omega), hx] at hp
          dsimp only at hp
          rw [coatF, if_pos n0] at hp; exact hp
        · rw [if_pos (by omega), hx] at hp
          dsimp only at hp
          rw [coatF, if_neg (by omega), if_pos n1] at hp
          rw [q.te.2.2.2.1 x.1 r.1 r.2.1]; exact hp
        · rw [if_pos (by omega), hx] at hp
          dsimp only at hp
          rw [coatF, if_neg (by omega), if_neg (by omega)] at hp; exact hp
        · rw [if_neg (by omega)] at hp; exact hp
      · rw [if_neg (by omega)] at hp; exact hp
  · unfold aCoat at hp; rw [if_neg hc] at hp
    rw [if_neg hc]
    exact ⟨fun _ => hp, fun z => absurd rfl z⟩
/-! thing -/
def aThing (s : Option Tn) (t w : Int) : Int := if 0 ≤ t ∧ t < tmO s then (match s with
  | none => -2
  | some T => if w = 0 then T.en.first t else if w = 1 then T.en.first (t + 1) - T.en.first t else if w = 2 then T.en.rent t else if w = 3 then whoF T.en T.st t else if w = 4 then (if hs T.st.bare t then 1 else 0) else -2) else -2
theorem oX_thing (I : IX h Z) {c w : Int} (hp : ∀ h' : Mem, EX h h' → Fr sQx h h' → P (aThing Z.s c w) h') : kX0_thing G l c w h P := by
  refine eX0_thing fun X C e B => ⟨I.xs, I.isThing fun _ => ?_⟩
  have hp0 := hp h (EX.rf I.oz) (Fr.rf _ _)
  by_cases hc : 0 ≤ c ∧ c < tmO Z.s
  · obtain ⟨T, hs, c0, c1⟩ := tmO_s hc
    have t := I.tn hs
    have q := t.2.tr
    have Kc := q.en.tm
    have te := q.te.2.1 c c0 c1
    unfold aThing at hp hp0; rw [if_pos hc, hs] at hp hp0
    rw [if_pos hc]
    dsimp only at hp hp0
    refine ⟨fun _ => ⟨fun w0 => ⟨t.1, c0, by omega, ?_⟩, fun w1 => ⟨t.1, c0, by omega, ?_⟩, fun w2 => ⟨t.1, c0, by omega, ?_⟩, fun w3 => ⟨t.1, sX1_whose q c0 c1 fun h' e' f' _ => ?_⟩, fun w4 => ⟨t.1, sX0_has fun _ => ⟨fun z => ?_, fun z => ?_⟩⟩, fun w5 => ?_⟩, fun z => by cases z⟩
    · rw [if_pos w0] at hp0; rw [show (3 : Int) = 2 + 1 from rfl, te.1]; exact hp0
    · rw [if_neg (by omega), if_pos w1] at hp0; rw [show (4 : Int) = 2 + 2 from rfl, te.2.1]; exact hp0
    · rw [if_neg (by omega), if_neg (by omega), if_pos w2] at hp0; rw [show (5 : Int) = 2 + 3 from rfl, te.2.2]; exact hp0
    · have := hp h' e' (f'.mono fun b j z => by unfold sOw at z; unfold sQx; omega)
      rw [if_neg (by omega), if_neg (by omega), if_neg (by omega), if_pos w3] at this; exact this
    · rw [if_neg (by omega), if_neg (by omega), if_neg (by omega), if_neg (by omega), if_pos w4] at hp0
      rw [q.td.1.2] at z
      split at hp0
      · next y => rw [if_pos y] at z; cases z
      · exact hp0
    · rw [if_neg (by omega), if_neg (by omega), if_neg (by omega), if_neg (by omega), if_pos w4] at hp0
      rw [q.td.1.2] at z
      split at hp0
      · exact hp0
      · next y => rw [if_neg y] at z; exact absurd rfl z
    · rw [if_neg (by omega), if_neg (by omega), if_neg (by omega), if_neg (by omega), if_neg (by omega)] at hp0; exact hp0
  · unfold aThing at hp0; rw [if_neg hc] at hp0
    rw [if_neg hc]
    exact ⟨fun z => absurd rfl z, fun _ => hp0⟩
theorem oM_thing (I : IM h Z) {c w : Int} (hp : ∀ h' : Mem, EX h h' → QM h h' → P (aThing Z.s c w) h') : kX3_thing G l c w h P := by
  refine eX3_thing fun X C e B => ⟨I.ms, I.isThing fun _ => ?_⟩
  have hp0 := hp h (EX.rf I.oz) (QM.rf _)
  by_cases hc : 0 ≤ c ∧ c < tmO Z.s
  · obtain ⟨T, hs, c0, c1⟩ := tmO_s hc
    have q := (I.tn hs).mr
    have Kc := q.en.tm
    unfold aThing at hp hp0; rw [if_pos hc, hs] at hp hp0
    rw [if_pos hc]
    dsimp only at hp hp0
    refine ⟨fun _ => ⟨fun w0 => ⟨c0, by omega, ?_⟩, fun w1 => sX3_cellsIn q c0 c1 fun _ => ?_, fun w2 => ⟨c0, by omega, ?_⟩, fun w3 => sX3_thingOwner q c0 c1 fun h' e' f' _ => ?_, fun w4 => sX3_isBare I.ms fun _ => ⟨fun z => ?_, fun z => ?_⟩, fun w5 => ?_⟩, fun z => by cases z⟩
    · rw [if_pos w0] at hp0; rw [q.te.2.1 c c0 (by omega)]; exact hp0
    · rw [if_neg (by omega), if_pos w1] at hp0; exact hp0
    · rw [if_neg (by omega), if_neg (by omega), if_pos w2] at hp0; rw [q.te.2.2.1 c c0 c1]; exact hp0
    · have := hp h' e' (QM.cn f')
      rw [if_neg (by omega), if_neg (by omega), if_neg (by omega), if_pos w3] at this; exact this
    · rw [if_neg (by omega), if_neg (by omega), if_neg (by omega), if_neg (by omega), if_pos w4] at hp0
      rw [q.td.1.2] at z
      split at hp0
      · next y => rw [if_pos y] at z; cases z
      · exact hp0
    · rw [if_neg (by omega), if_neg (by omega), if_neg (by omega), if_neg (by omega), if_pos w4] at hp0
      rw [q.td.1.2] at z
      split at hp0
      · exact hp0
      · next y => rw [if_neg y] at z; exact absurd rfl z
    · rw [if_neg (by omega), if_neg (by omega), if_neg (by omega), if_neg (by omega), if_neg (by omega)] at hp0; exact hp0
  · unfold aThing at hp0; rw [if_neg hc] at hp0
    rw [if_neg hc]
    exact ⟨fun z => absurd rfl z, fun _ => hp0⟩
/-! rain -/
def aRain (s : Option Tn) (n : Int) : Int := match s with
  | none => -1
  | some T => if n < 0 then -1 else if rainF T.en n = true then 1 else 0
theorem oX_rain (I : IX h Z) {n : Int} (hp : P (aRain Z.s n) h) : kX0_rain G l n h P := by
  refine eX0_rain fun X C e B => ⟨I.xs, fun q => ?_, fun q => ?_⟩
  · cases hs : Z.s with
    | none => rw [hs] at hp; exact hp
    | some T => have := (I.tn hs).1; omega
  · cases hs : Z.s with
    | none => exact absurd (I.no hs) q
    | some T =>
      rw [hs] at hp
      have t := I.tn hs
      refine ⟨fun n0 => ⟨t.1, sX1_isRain t.2.tr fun _ => ?_⟩, fun n0 => ?_⟩
      · unfold aRain at hp; dsimp only at hp; rw [if_neg (by omega)] at hp
        refine ⟨fun z => ?_, fun z => ?_⟩
        · rw [z] at hp; exact hp
        · split at hp
          · exact hp
          · next y => rw [if_neg y] at z; exact absurd rfl z
      · unfold aRain at hp; dsimp only at hp; rw [if_pos (by omega)] at hp; exact hp
theorem oM_rain (I : IM h Z) {n : Int} (hp : P (aRain Z.s n) h) : kX3_rain G l n h P := by
  refine eX3_rain fun X C e B => ⟨I.ms, I.isStreet fun _ => ?_⟩
  cases hs : Z.s with
  | none => rw [hs] at hp; exact ⟨fun _ => hp, fun z => absurd rfl z⟩
  | some T =>
    rw [hs] at hp
    have t := I.tn hs
    refine ⟨fun z => (by cases z), fun _ => ⟨fun n0 => sX3_rains t.mr fun _ => ?_, fun n0 => ?_⟩⟩
    · unfold aRain at hp; dsimp only at hp; rw [if_neg (by omega)] at hp
      refine ⟨fun z => ?_, fun z => ?_⟩
      · rw [z] at hp; exact hp
      · split at hp
        · exact hp
        · next y => rw [if_neg y] at z; exact absurd rfl z
    · unfold aRain at hp; dsimp only at hp; rw [if_pos (by omega)] at hp; exact hp
end
