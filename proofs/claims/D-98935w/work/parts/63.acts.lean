/-! acts: log, undo, hour, paint, scrape, vote -/
set_option maxRecDepth 100000
/-- a row of the past, as a memory -/
def gU (h : Mem) (a k : Int) : Mem := fun b j => if b = a then (if j = 11 then h (a + 15) (182 * k) else h (a + 15) (182 * k + 1)) else if b = a + 11 then h (a + 15) (182 * k + 2 + j) else if b = a + 12 then h (a + 15) (182 * k + 18 + j) else if b = a + 13 then h (a + 15) (182 * k + 98 + j) else h (a + 15) (182 * k + 178 + j)
theorem gU_11 (h : Mem) (a k : Int) : gU h a k a 11 = h (a + 15) (182 * k) := by unfold gU; rw [if_pos rfl, if_pos rfl]
theorem gU_12 (h : Mem) (a k : Int) : gU h a k a 12 = h (a + 15) (182 * k + 1) := by unfold gU; rw [if_pos rfl, if_neg (by decide)]
theorem gU_m (h : Mem) (a k j : Int) : gU h a k (a + 11) j = h (a + 15) (182 * k + 2 + j) := by unfold gU; rw [if_neg (by omega), if_pos rfl]
theorem gU_b (h : Mem) (a k j : Int) : gU h a k (a + 12) j = h (a + 15) (182 * k + 18 + j) := by unfold gU; rw [if_neg (by omega), if_neg (by omega), if_pos rfl]
theorem gU_w (h : Mem) (a k j : Int) : gU h a k (a + 13) j = h (a + 15) (182 * k + 98 + j) := by unfold gU; rw [if_neg (by omega), if_neg (by omega), if_neg (by omega), if_pos rfl]
theorem gU_p (h : Mem) (a k j : Int) : gU h a k (a + 14) j = h (a + 15) (182 * k + 178 + j) := by unfold gU; rw [if_neg (by omega), if_neg (by omega), if_neg (by omega), if_neg (by omega)]
theorem gU_ok (h : Mem) (a k : Int) : UndoAt h a k (gU h a k) :=
  ⟨(gU_11 h a k).symm, (gU_12 h a k).symm, fun i _ _ => (gU_m h a k i).symm, fun i _ _ => (gU_b h a k i).symm, fun i _ _ => (gU_w h a k i).symm, fun i _ _ => (gU_p h a k i).symm⟩
theorem RowX.gU {h : Mem} {a k : Int} {E : En} {S : St} (r : RowX h a k E S) : TD (gU h a k) a E S := by
  refine ⟨⟨(gU_11 h a k).trans r.1.1, (gU_12 h a k).trans r.1.2⟩, fun c c0 c1 => ⟨(gU_m h a k c).trans (r.2.1 c c0 c1).1, (r.2.1 c c0 c1).2.mono fun i _ _ => ⟨gU_b h a k i, gU_w h a k i⟩⟩, fun p p0 p1 => (gU_p h a k p).trans (r.2.2 p p0 p1)⟩
def gP (h : Mem) (k : Int) : Mem := fun b j => if b = 178 then (if j = 8 then h 216 (182 * k) else h 216 (182 * k + 1)) else if b = 182 then h 216 (182 * k + 2 + j) else if b = 185 then h 216 (182 * k + 6 + j) else if b = 186 then h 216 (182 * k + 22 + j) else h 216 (182 * k + 102 + j)
theorem gP_ok (h : Mem) (k : Int) : PastAt h k (gP h k) := by
  refine ⟨?_, ?_, fun i _ _ => ?_, fun i _ _ => ?_, fun i _ _ => ?_, fun i _ _ => ?_⟩ <;> rfl
theorem RowM.gP {h : Mem} {k : Int} {E : En} {S : St} (r : RowM h k E S) : MD (gP h k) E S :=
  ⟨⟨r.1.1, r.1.2⟩, fun c c0 c1 => ⟨(r.2.1 c c0 c1).1, (r.2.1 c c0 c1).2.mono fun i _ _ => ⟨rfl, rfl⟩⟩, fun p p0 p1 => r.2.2 p p0 p1⟩
/-- the past with one street more -/
def keepL (u : List St) (S : St) : List St := if u.length = 20 then u.tail ++ [S] else u ++ [S]
def keepT (T : Tn) : Tn := (T.en, T.st, T.told, keepL T.un T.st, T.lg)
def stT (T : Tn) (S : St) : Tn := (T.en, S, T.told, T.un, T.lg)
def lgT (T : Tn) (q : Lg) : Tn := (T.en, T.st, T.told, T.un, q)
theorem keepL_get {u : List St} (h20 : u.length ≤ 20) {S R : St} {k : Nat} (hk : (keepL u S)[k]? = some R) :
    ((k : Int) = pastN (u.length : Int) - 1 ∧ R = S) ∨ ((k : Int) < pastN (u.length : Int) - 1 ∧ u[if u.length = 20 then k + 1 else k]? = some R) := by
  unfold keepL at hk
  unfold pastN
  by_cases c : u.length = 20
  · rw [if_pos c] at hk
    rw [if_pos (by omega), if_pos c]
    have lt : u.tail.length = 19 := by rw [List.length_tail]; omega
    by_cases q : k < 19
    · rw [List.getElem?_append_left (by omega), List.getElem?_tail] at hk
      exact Or.inr ⟨by omega, hk⟩
    · rw [List.getElem?_append_right (by omega), lt] at hk
      have : k - 19 = 0 := by have := (getq hk).1; rw [List.length_singleton] at this; omega
      rw [this] at hk
      exact Or.inl ⟨by omega, by simpa using hk.symm⟩
  · rw [if_neg c] at hk
    rw [if_neg (by omega), if_neg c]
    by_cases q : k < u.length
    · rw [List.getElem?_append_left q] at hk
      exact Or.inr ⟨by omega, hk⟩
    · rw [List.getElem?_append_right (by omega)] at hk
      have : k - u.length = 0 := by have := (getq hk).1; rw [List.length_singleton] at this; omega
      rw [this] at hk
      exact Or.inl ⟨by omega, by simpa using hk.symm⟩
theorem keepL_len {u : List St} (h20 : u.length ≤ 20) (S : St) : ((keepL u S).length : Int) = pastN (u.length : Int) := by
  unfold keepL pastN
  by_cases c : u.length = 20
  · rw [if_pos c, if_pos (by omega), List.length_append, List.length_tail, List.length_singleton]; omega
  · rw [if_neg c, if_neg (by omega), List.length_append, List.length_singleton]; omega
theorem keepL_mem {u : List St} {S R : St} (h : R ∈ keepL u S) : R = S ∨ R ∈ u := by
  unfold keepL at h
  split at h
  · rcases List.mem_append.mp h with z | z
    · exact Or.inr (List.mem_of_mem_tail z)
    · exact Or.inl (by simpa using z)
  · rcases List.mem_append.mp h with z | z
    · exact Or.inr z
    · exact Or.inl (by simpa using z)
theorem TnOk.keep {T : Tn} (q : TnOk T) (O : StOk T.en T.st) : TnOk (keepT T) := by
  refine ⟨?_, q.lg, q.told, q.now, fun S hS => ?_, q.lgs⟩
  · have := keepL_len q.un T.st
    have h1 := q.un
    show (keepL T.un T.st).length ≤ 20
    unfold pastN at this
    split at this <;> omega
  · rcases keepL_mem hS with z | z
    · rw [z]; exact ⟨O, q.now⟩
    · exact q.uns S z
theorem TnOk.stT {T : Tn} (q : TnOk T) {S : St} (n : S.now ≤ 999) : TnOk (stT T S) := ⟨q.un, q.lg, q.told, n, q.uns, q.lgs⟩
theorem TownX.step {h h' : Mem} {a : Int} {T : Tn} (q : TownX h a T) {S : St} (T' : TR h' a T.en S) (ha : aOk a) (f : Fr (sTg a) h h') (n : S.now ≤ 999) : TownX h' a (stT T S) := by
  have Kc := q.tr.en.cm
  have Kp := q.tr.en.pm
  have f8 : ∀ b j : Int, (b = a ∧ (j = 8 ∨ j = 9 ∨ j = 10)) ∨ (a + 6 ≤ b ∧ b ≤ a + 10) ∨ b = a + 15 → h' b j = h b j := fun b j z => f b j (by unfold sTg sTw; unfold aOk at ha; omega)
  exact ⟨q.ok.stT n, T', q.tt.like (by omega) (by omega) q.ok.told (f8 a 10 (by omega)) (fun k x k0 k1 _ _ => f8 (a + k) x (by omega)), q.un.like (by omega) (by omega) q.ok.un q.ok.uns (f8 a 9 (by omega)) (fun j _ _ => f8 (a + 15) j (by omega)), q.lg.like q.ok.lg (f8 a 8 (by omega)) (fun j _ _ => f8 (a + 10) j (by omega))⟩
theorem TownM.step {h h' : Mem} {T : Tn} (q : TownM h T) {S : St} (T' : MR h' T.en S) (f : ∀ b j : Int, (b = 177 ∧ j = 51) ∨ (b = 178 ∧ j = 10) ∨ (188 ≤ b ∧ b ≤ 194) ∨ b = 216 → h' b j = h b j) (n : S.now ≤ 999) : TownM h' (stT T S) := by
  have Kc := q.mr.en.cm
  have Kp := q.mr.en.pm
  exact ⟨q.ok.stT n, T', q.td.like (by omega) (by omega) q.ok.told (f 194 0 (by omega)) (fun i _ _ => f 191 i (by omega)) (fun i _ _ => f 192 i (by omega)) (fun i _ _ => f 193 i (by omega)), q.un.like (by omega) (by omega) q.ok.un q.ok.uns (f 177 51 (by omega)) (fun j _ _ => f 216 j (by omega)), q.lg.like q.ok.lg (f 178 10 (by omega)) fun j _ _ => ⟨f 188 j (by omega), f 189 j (by omega), f 190 j (by omega)⟩⟩
section
variable {G : GT} {h : Mem} {Z : Zt} {T : Tn} {P : Int → Mem → Prop} {l : Launch}
theorem sX0_keeps (A : XS h) (t2 : h 1 0 = 2) (q : TownX h 2 T) (hp : ∀ h' : Mem, EX h h' → Fr (sUd 2) h h' → TownX h' 2 (keepT T) → P 0 h') : kX0_keepsAct G l h P := by
  have Kc := q.tr.en.cm
  have Kp := q.tr.en.pm
  have h20 := q.ok.un
  refine sX0_keepsAct A t2 (n := (T.un.length : Int)) (g := gU h 2) ⟨q.un.1, by omega, by omega, fun k _ _ => gU_ok h 2 k⟩ fun h' hk e f fk ud => ?_
  have fd : ∀ b j : Int, (b = 2 ∧ j ≠ 9) ∨ (2 < b ∧ b ≤ 16) → h' b j = h b j := fun b j z => f b j (by unfold sUd; omega)
  refine hp h' e f ⟨q.ok.keep q.tr.st, q.tr.keep e.1 fun b j z => fd b j (by unfold tIn at z; omega), q.tt.like (by omega) (by omega) q.ok.told (fd 2 10 (by omega)) (fun k x k0 k1 _ _ => fd (2 + k) x (by omega)), ⟨ud.1.trans (keepL_len h20 T.st).symm, fun k R hR => ?_⟩, q.lg.like q.ok.lg (fd 2 8 (by omega)) (fun j _ _ => fd (2 + 10) j (by omega))⟩
  have hR : (keepL T.un T.st)[k]? = some R := hR
  have kl := (getq hR).1
  have ll := keepL_len h20 T.st
  have uk := ud.2.2.2 k (by omega) (by omega)
  unfold pastG at uk
  rcases keepL_get h20 hR with ⟨a1, a2⟩ | ⟨a1, a2⟩
  · have hd : TD hk 2 T.en T.st := by
      have fk2 : ∀ b j : Int, (b = 2 ∧ (j = 11 ∨ j = 12)) ∨ (13 ≤ b ∧ b ≤ 16) → hk b j = h b j := fun b j z => fk b j (by unfold sUd; omega)
      exact ⟨⟨(fk2 2 11 (by omega)).trans q.tr.td.1.1, (fk2 2 12 (by omega)).trans q.tr.td.1.2⟩, fun c c0 c1 => ⟨(fk2 13 c (by omega)).trans (q.tr.co c0 c1).1, (q.tr.co c0 c1).2.mono fun i _ _ => ⟨fk2 14 i (by omega), fk2 15 i (by omega)⟩⟩, fun p p0 p1 => (fk2 16 p (by omega)).trans (q.tr.td.2.2 p p0 p1)⟩
    have e2 : UndoAt h' 2 k hk := by
      unfold pastN at a1
      by_cases c : (T.un.length : Int) = 20
      · rw [if_pos c] at uk a1; rw [if_pos (by omega)] at uk; exact uk
      · rw [if_neg c] at uk a1; rw [if_pos (by omega)] at uk; exact uk
    rw [a2]
    exact e2.row q.tr.en q.tr.st hd
  · have O := (q.ok.uns R (List.mem_of_getElem? a2)).1
    have r := q.un.2 _ R a2
    unfold pastN at a1
    by_cases c : (T.un.length : Int) = 20
    · rw [if_pos c] at uk a1
      rw [if_neg (by omega)] at uk
      rw [if_pos (by omega), show ((k + 1 : Nat) : Int) = (k : Int) + 1 by omega] at r
      exact uk.row q.tr.en O r.gU
    · rw [if_neg c] at uk a1
      rw [if_neg (by omega)] at uk
      rw [if_neg (by omega)] at r
      exact uk.row q.tr.en O r.gU
theorem sX3_keeps (q : TownM h T) (hp : ∀ h' : Mem, EX h h' → Fr sKp h h' → TownM h' (keepT T) → P 0 h') : kX3_keepsAct G l h P := by
  have Kc := q.mr.en.cm
  have Kp := q.mr.en.pm
  have h20 := q.ok.un
  refine sX3_keepsAct q.mr.ms (n := (T.un.length : Int)) (g := gP h) ⟨q.un.1, by omega, by omega, fun k _ _ => gP_ok h k⟩ fun h' hk e f fk ud => ?_
  have fd : ∀ b j : Int, 178 ≤ b → b ≤ 194 → h' b j = h b j := fun b j z0 z1 => f b j (by unfold sKp; omega)
  refine hp h' e f ⟨q.ok.keep q.mr.st, q.mr.keep e.1 fun b j z => fd b j (by unfold mIn at z; omega) (by unfold mIn at z; omega), q.td.like (by omega) (by omega) q.ok.told (fd 194 0 (by omega) (by omega)) (fun i _ _ => fd 191 i (by omega) (by omega)) (fun i _ _ => fd 192 i (by omega) (by omega)) (fun i _ _ => fd 193 i (by omega) (by omega)), ⟨ud.1.trans (keepL_len h20 T.st).symm, fun k R hR => ?_⟩, q.lg.like q.ok.lg (fd 178 10 (by omega) (by omega)) fun j _ _ => ⟨fd 188 j (by omega) (by omega), fd 189 j (by omega) (by omega), fd 190 j (by omega) (by omega)⟩⟩
  have hR : (keepL T.un T.st)[k]? = some R := hR
  have kl := (getq hR).1
  have ll := keepL_len h20 T.st
  have uk := ud.2.2.2 k (by omega) (by omega)
  unfold pastG at uk
  rcases keepL_get h20 hR with ⟨a1, a2⟩ | ⟨a1, a2⟩
  · have hd : MD hk T.en T.st := by
      have fk2 : ∀ b j : Int, 178 ≤ b → b ≤ 187 → hk b j = h b j := fun b j z0 z1 => fk b j (by omega) (by omega)
      exact ⟨⟨(fk2 178 9 (by omega) (by omega)).trans q.mr.td.1.1, (fk2 178 8 (by omega) (by omega)).trans q.mr.td.1.2⟩, fun c c0 c1 => ⟨(fk2 185 c (by omega) (by omega)).trans (q.mr.co c0 c1).1, (q.mr.co c0 c1).2.mono fun i _ _ => ⟨fk2 186 i (by omega) (by omega), fk2 187 i (by omega) (by omega)⟩⟩, fun p p0 p1 => (fk2 182 p (by omega) (by omega)).trans (q.mr.td.2.2 p p0 p1)⟩
    have e2 : PastAt h' k hk := by
      unfold pastN at a1
      by_cases c : (T.un.length : Int) = 20
      · rw [if_pos c] at uk a1; rw [if_pos (by omega)] at uk; exact uk
      · rw [if_neg c] at uk a1; rw [if_pos (by omega)] at uk; exact uk
    rw [a2]
    exact e2.row q.mr.en q.mr.st hd
  · have O := (q.ok.uns R (List.mem_of_getElem? a2)).1
    have r := q.un.2 _ R a2
    unfold pastN at a1
    by_cases c : (T.un.length : Int) = 20
    · rw [if_pos c] at uk a1
      rw [if_neg (by omega)] at uk
      rw [if_pos (by omega), show ((k + 1 : Nat) : Int) = (k : Int) + 1 by omega] at r
      exact uk.row q.mr.en O r.gP
    · rw [if_neg c] at uk a1
      rw [if_neg (by omega)] at uk
      rw [if_neg (by omega)] at r
      exact uk.row q.mr.en O r.gP
/-! X's state with another street -/
theorem IX.town {h' : Mem} (I : IX h Z) (e : EX h h') (f : ∀ b j : Int, 1 ≤ b → b < h 0 0 → ¬ sQx b j → ¬ (2 ≤ b ∧ b ≤ 17) → h' b j = h b j) {T : Tn} (t2 : h 1 0 = 2) (q : TownX h' 2 T) : IX h' (zS Z (some T)) := by
  have hb := I.xs.1
  have f1 : ∀ j : Int, j ≠ 19 → j ≠ 20 → j ≠ 23 → h' 1 j = h 1 j := fun j n1 n2 n3 => f 1 j (by omega) (by omega) (by unfold sQx; omega) (by omega)
  exact I.part e (fun b j b0 b1 n1 n2 => f b j b0 b1 (fun z => n1 (Or.inl z)) (by unfold sHotX at n2; omega)) (I.ok.zS _) ⟨(f1 0 (by omega) (by omega) (by omega)).trans t2, q⟩ ((f1 7 (by omega) (by omega) (by omega)).trans I.e7) ((f1 8 (by omega) (by omega) (by omega)).trans I.e8) ⟨(f1 11 (by omega) (by omega) (by omega)).trans I.tp.1, fun i i0 i1 => (f 167 i (by omega) (by omega) (by unfold sQx; omega) (by omega)).trans (I.tp.2 i i0 i1)⟩ rfl rfl
theorem IM.town {h' : Mem} (I : IM h Z) (e : EX h h') (f : ∀ b j : Int, 177 ≤ b → b ≤ 225 → ¬ (sQm b j ∧ ¬ (b = 178 ∧ (j = 11 ∨ j = 12))) → ¬ (179 ≤ b ∧ b ≤ 194) → b ≠ 216 → ¬ (b = 177 ∧ j = 51) → h' b j = h b j) {T : Tn} (q : TownM h' T) : IM h' (zS Z (some T)) :=
  I.part e (fun b j b0 b1 n1 n2 => f b j b0 b1 (fun z => n1 z.1) (by unfold sHotM at n2; omega) (by unfold sHotM at n2; omega) (by unfold sHotM at n2; omega)) (I.ok.zS _) q ((f 178 11 (by omega) (by omega) (fun z => z.2 ⟨rfl, Or.inl rfl⟩) (by omega) (by omega) (by omega)).trans I.e11) ((f 178 12 (by omega) (by omega) (fun z => z.2 ⟨rfl, Or.inr rfl⟩) (by omega) (by omega) (by omega)).trans I.e12) ⟨(f 177 27 (by omega) (by omega) (by unfold sQm; omega) (by omega) (by omega) (by omega)).trans I.tp.1, fun i i0 i1 => (f 204 i (by omega) (by omega) (by unfold sQm; omega) (by omega) (by omega) (by omega)).trans (I.tp.2 i i0 i1)⟩ rfl rfl
/-! hour -/
def zHour (Z : Zt) : Zt := match Z.s with
  | none => Z
  | some T => if T.st.now = 999 then Z else zS Z (some (stT (keepT T) (passS T.en T.st (lawZ Z))))
def aHour (Z : Zt) : Int := match Z.s with
  | none => -1
  | some T => if T.st.now = 999 then -1 else (paintF T.en T.st (lawZ Z)).2
theorem oX_hour (I : IX h Z) (hp : ∀ h' : Mem, EX h h' → FrX h h' → IX h' (zHour Z) → P (aHour Z) h') : kX0_hour G l h P := by
  have no : zHour Z = Z → aHour Z = -1 → P (-1) h := fun a b => by
    have := hp h (EX.rf I.oz) (fun _ _ _ _ => rfl) (by rw [a]; exact I)
    rw [b] at this; exact this
  refine eX0_hour fun X C e9 B => ⟨I.xs, fun q => ?_, fun q => ?_⟩
  · cases hs : Z.s with
    | none => exact no (by unfold zHour; rw [hs]) (by unfold aHour; rw [hs])
    | some T => have := (I.tn hs).1; omega
  · cases hs : Z.s with
    | none => exact absurd (I.no hs) q
    | some T =>
      obtain ⟨t2, q⟩ := I.tn hs
      refine ⟨t2, ?_⟩
      rw [q.tr.td.1.1]
      refine ⟨fun n => ?_, fun n => no (by unfold zHour; rw [hs]; exact if_pos n) (by unfold aHour; rw [hs]; exact if_pos n)⟩
      refine sX0_keeps I.xs t2 q fun h5 e5 f5 q5 _ => ?_
      have t5 : h5 1 0 = 2 := (f5 1 0 (by unfold sUd; omega)).trans t2
      have A5 := I.xs.ext e5.1
      have k5 : KF h h5 := I.fx.kf fun b j b0 b1 => f5 b j (by unfold sUd; omega)
      have L5 : XLaw h5 (lawZ Z) := I.law.keep k5 e5.1 (f5 1 8 (by unfold sUd; omega)) fun j => f5 171 j (by unfold sUd; omega)
      refine ⟨t5, sX0_law A5 L5 fun r R _ => ?_⟩
      have n9 : T.st.now ≤ 999 := q.ok.now
      refine sX1_passes (g := fun p => h5 165 p) (Or.inl (by decide)) q5.tr (A5.got fun _ _ _ => rfl) R (by show T.st.now < 1000000; omega) fun h' e' f' T' _ _ _ => ?_
      have np : (passS T.en T.st (lawZ Z)).now = T.st.now + 1 := passS_now q.tr.en q.tr.st _
      have q' : TownX h' 2 (stT (keepT T) (passS T.en T.st (lawZ Z))) := q5.step T' (Or.inl (by decide)) f' (by show (passS T.en T.st (lawZ Z)).now ≤ 999; omega)
      have ff : ∀ b j : Int, ¬ sQx b j → ¬ (2 ≤ b ∧ b ≤ 17) → h' b j = h b j := fun b j n1 n2 => (f' b j (by unfold sTg sTw; unfold sQx at n1; omega)).trans (f5 b j (by unfold sUd; omega))
      have := hp h' (e5.tr e') (fun b j b0 b1 => ff b j (by unfold sQx; omega) (by omega)) (by
        have z : zHour Z = zS Z (some (stT (keepT T) (passS T.en T.st (lawZ Z)))) := by unfold zHour; rw [hs]; exact if_neg n
        rw [z]; exact I.town (e5.tr e') (fun b j _ _ n1 n2 => ff b j n1 n2) t2 q')
      rw [show aHour Z = (paintF T.en T.st (lawZ Z)).2 by unfold aHour; rw [hs]; exact if_neg n] at this
      exact this
theorem oM_hour (I : IM h Z) (hp : ∀ h' : Mem, EX h h' → FrM h h' → IM h' (zHour Z) → P (aHour Z) h') : kX3_hour G l h P := by
  have no : zHour Z = Z → aHour Z = -1 → P (-1) h := fun a b => by
    have := hp h (EX.rf I.oz) (fun _ _ _ => rfl) (by rw [a]; exact I)
    rw [b] at this; exact this
  refine eX3_hour fun X C e9 B => ⟨I.ms, I.isStreet fun _ => ⟨fun z => ?_, fun z => ?_⟩⟩
  · cases hs : Z.s with
    | none => exact no (by unfold zHour; rw [hs]) (by unfold aHour; rw [hs])
    | some T => rw [hs, if_neg (by intro y; cases y)] at z; cases z
  · cases hs : Z.s with
    | none => rw [hs, if_pos rfl] at z; exact absurd rfl z
    | some T =>
      have q := I.tn hs
      rw [q.mr.td.1.1]
      refine ⟨fun n => ?_, fun n => no (by unfold zHour; rw [hs]; exact if_pos n) (by unfold aHour; rw [hs]; exact if_pos n)⟩
      refine sX3_keeps q fun h5 e5 f5 q5 _ => ?_
      have L0 := I.law
      have L5 : LawM h5 (lawZ Z) := by
        rcases L0 with ⟨a, b⟩ | ⟨cl, a, b, c, d⟩
        · exact Or.inl ⟨(f5 178 12 (by unfold sKp; omega)).trans a, b⟩
        · refine Or.inr ⟨cl, ?_, b, c, d⟩
          rw [f5 178 12 (by unfold sKp; omega)]
          exact a.keep fun b j z => f5 b j (by unfold sKp; unfold rIn at z; omega)
      have n9 : T.st.now ≤ 999 := q.ok.now
      refine sX3_paintsAll q5.mr L5 fun h6 e6 f6 _ T6 _ => ?_
      have n6 : (paintF T.en T.st (lawZ Z)).1.now = T.st.now := paintF_now q.mr.en q.mr.st _
      refine sX3_ends (g := fun p => h6 215 p) T6 (fun _ _ _ => rfl) (by show (paintF T.en T.st (lawZ Z)).1.now < 1000000; omega) fun h' e' f' T' _ _ => ?_
      have np : (passS T.en T.st (lawZ Z)).now = T.st.now + 1 := passS_now q.mr.en q.mr.st _
      have f56 : ∀ b j : Int, ¬ sMp b j → h' b j = h5 b j := fun b j n1 => (f' b j (fun z => n1 (Or.inl z))).trans (f6 b j n1)
      have q' : TownM h' (stT (keepT T) (passS T.en T.st (lawZ Z))) := q5.step (S := passS T.en T.st (lawZ Z)) T' (fun b j z => f56 b j (by unfold sMp sMs sM1; omega)) (by omega)
      have ff : ∀ b j : Int, ¬ sMp b j → ¬ sKp b j → h' b j = h b j := fun b j n1 n2 => (f56 b j n1).trans (f5 b j n2)
      have := hp h' ((e5.tr e6).tr e') (fun b j z => ff b j (by unfold sMp sMs sM1; omega) (by unfold sKp; omega)) (by
        have z : zHour Z = zS Z (some (stT (keepT T) (passS T.en T.st (lawZ Z)))) := by unfold zHour; rw [hs]; exact if_neg n
        rw [z]; exact I.town ((e5.tr e6).tr e') (fun b j b0 b1 n1 n2 n3 n4 => ff b j (by unfold sQm at n1; unfold sMp sMs sM1; omega) (by unfold sQm at n1; unfold sKp; omega)) q')
      rw [show aHour Z = (paintF T.en T.st (lawZ Z)).2 by unfold aHour; rw [hs]; exact if_neg n] at this
      exact this
end
