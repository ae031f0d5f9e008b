/-! log -/
set_option maxRecDepth 100000
abbrev logOk (T : Tn) (n t p : Int) : Prop := (0 ≤ n ∧ n ≤ 99) ∧ (0 ≤ t ∧ t < T.en.tm) ∧ (p = -1 ∨ (0 ≤ p ∧ p < T.en.pm)) ∧ (T.lg.length : Int) ≠ 10
def zLog (Z : Zt) (n t p : Int) : Zt := match Z.s with
  | none => Z
  | some T => if n = -1 then zS Z (some (lgT T [])) else if logOk T n t p then zS Z (some (lgT T (T.lg ++ [(n, t, p)]))) else Z
def aLog (Z : Zt) (n t p : Int) : Int := match Z.s with
  | none => if n = -1 then 0 else -2
  | some T => if n = -1 then 0 else if logOk T n t p then (T.lg.length : Int) + 1 else -2
theorem TnOk.setLg {T : Tn} (q : TnOk T) {g : Lg} (h1 : g.length ≤ 10) (h2 : ∀ x ∈ g, LgOk T.en x) : TnOk (lgT T g) := ⟨q.un, h1, q.told, q.now, q.uns, h2⟩
theorem TownX.logs {h h' : Mem} {a : Int} {T : Tn} (q : TownX h a T) (e : Ext h h') (f : ∀ b j : Int, a ≤ b → b ≤ a + 15 → b ≠ a + 10 → ¬ (b = a ∧ j = 8) → h' b j = h b j) {g : Lg} (K : TnOk (lgT T g)) (L : LgX h' a g) : TownX h' a (lgT T g) := by
  have Kc := q.tr.en.cm
  have Kp := q.tr.en.pm
  exact ⟨K, q.tr.keep e fun b j z => f b j (by unfold tIn at z; omega) (by unfold tIn at z; omega) (by unfold tIn at z; omega) (by unfold tIn at z; omega), q.tt.like (by omega) (by omega) q.ok.told (f a 10 (by omega) (by omega) (by omega) (by omega)) (fun k x k0 k1 _ _ => f (a + k) x (by omega) (by omega) (by omega) (by omega)), q.un.like (by omega) (by omega) q.ok.un q.ok.uns (f a 9 (by omega) (by omega) (by omega) (by omega)) (fun j _ _ => f (a + 15) j (by omega) (by omega) (by omega) (by omega)), L⟩
theorem TownM.logs {h h' : Mem} {T : Tn} (q : TownM h T) (e : Ext h h') (f : ∀ b j : Int, (b = 177 ∧ j = 51) ∨ (b = 178 ∧ 0 ≤ j ∧ j ≤ 9) ∨ (179 ≤ b ∧ b ≤ 187) ∨ (191 ≤ b ∧ b ≤ 194) ∨ b = 216 → h' b j = h b j) {g : Lg} (K : TnOk (lgT T g)) (L : LgM h' g) : TownM h' (lgT T g) := by
  have Kc := q.mr.en.cm
  have Kp := q.mr.en.pm
  exact ⟨K, q.mr.keep e fun b j z => f b j (by unfold mIn at z; omega), q.td.like (by omega) (by omega) q.ok.told (f 194 0 (by omega)) (fun i _ _ => f 191 i (by omega)) (fun i _ _ => f 192 i (by omega)) (fun i _ _ => f 193 i (by omega)), q.un.like (by omega) (by omega) q.ok.un q.ok.uns (f 177 51 (by omega)) (fun j _ _ => f 216 j (by omega)), L⟩
theorem log_get {g : Lg} {x y : Int × Int × Int} {k : Nat} (h : (g ++ [x])[k]? = some y) : (k < g.length ∧ g[k]? = some y) ∨ (k = g.length ∧ y = x) := by
  by_cases q : k < g.length
  · rw [List.getElem?_append_left q] at h
    exact Or.inl ⟨q, h⟩
  · rw [List.getElem?_append_right (by omega)] at h
    have : k - g.length = 0 := by have := (getq h).1; rw [List.length_singleton] at this; omega
    rw [this] at h
    exact Or.inr ⟨by omega, by simpa using h.symm⟩
theorem TnOk.log {T : Tn} (q : TnOk T) (K : EnOk T.en) {n t p : Int} (o : logOk T n t p) : TnOk (lgT T (T.lg ++ [(n, t, p)])) := by
  refine q.setLg ?_ fun x hx => ?_
  · rw [List.length_append, List.length_singleton]; have := q.lg; have := o.2.2.2; omega
  · rcases List.mem_append.mp hx with z | z
    · exact q.lgs x z
    · have e : x = (n, t, p) := by simpa using z
      rw [e]
      exact ⟨o.1, o.2.1, by have := o.2.2.1; show -1 ≤ p; omega, by have := o.2.2.1; have := K.pm; show p < T.en.pm; omega⟩
section
variable {G : GT} {h : Mem} {Z : Zt} {T : Tn} {P : Int → Mem → Prop} {l : Launch}
theorem oX_log (I : IX h Z) {n t p : Int} (hp : ∀ h' : Mem, EX h h' → FrX h h' → IX h' (zLog Z n t p) → P (aLog Z n t p) h') : kX0_log G l n t p h P := by
  have no : zLog Z n t p = Z → ∀ v : Int, aLog Z n t p = v → P v h := fun a v b => by
    have := hp h (EX.rf I.oz) (fun _ _ _ _ => rfl) (by rw [a]; exact I)
    rw [b] at this; exact this
  refine eX0_log fun X C e9 B => ⟨I.xs, fun n1 => ?_, fun n1 => ?_⟩
  · have bad : (∀ T : Tn, Z.s = some T → ¬ logOk T n t p) → P (-2) h := fun w => by
      cases es : Z.s with
      | none => exact no (by unfold zLog; rw [es]) _ (by unfold aLog; rw [es]; exact if_neg n1)
      | some T => exact no (by unfold zLog; rw [es]; dsimp only; rw [if_neg n1, if_neg (w T es)]) _ (by unfold aLog; rw [es]; dsimp only; rw [if_neg n1, if_neg (w T es)])
    refine sX0_in fun _ => ⟨fun z => bad fun T es o => ?_, fun z => I.isThing fun _ => ⟨fun z2 => bad fun T es o => ?_, fun z2 => ?_⟩⟩
    · rw [if_pos o.1] at z; cases z
    · rw [es, if_pos (show 0 ≤ t ∧ t < tmO (some T) from o.2.1)] at z2; cases z2
    · have hn : 0 ≤ n ∧ n ≤ 99 := Classical.byContradiction fun w => by rw [if_neg w] at z; exact z rfl
      have ht : 0 ≤ t ∧ t < tmO Z.s := Classical.byContradiction fun w => by rw [if_neg w] at z2; exact z2 rfl
      obtain ⟨T, es, t0, t1⟩ := tmO_s ht
      obtain ⟨t2, q⟩ := I.tn es
      have K10 := q.ok.lg
      have Kt := q.tr.en.tm
      have Kp := q.tr.en.pm
      have yes : ∀ h23 h28 h33 h37 : Mem, logOk T n t p → h23 = up h 12 (3 * (T.lg.length : Int)) n → h28 = up h23 12 (3 * (T.lg.length : Int) + 1) t → h33 = up h28 12 (3 * (T.lg.length : Int) + 2) p → h37 = up h33 2 8 ((T.lg.length : Int) + 1) → P ((T.lg.length : Int) + 1) h37 := fun h23 h28 h33 h37 o e23 e28 e33 e37 => by
        have x23 : EX h h23 := by rw [e23]; exact EX_up (EX.rf I.oz) q.tr.tw.k22 (by decide) rfl (by omega) (okI_a (Or.inl rfl) ⟨by omega, by omega⟩)
        have x28 : EX h h28 := by rw [e28]; exact EX_up x23 (q.tr.tw.ext x23.1).k22 (by decide) rfl (by omega) (okI_a (Or.inl rfl) ⟨by omega, by omega⟩)
        have x33 : EX h h33 := by rw [e33]; exact EX_up x28 (q.tr.tw.ext x28.1).k22 (by decide) rfl (by omega) (okI_a (Or.inl rfl) B.2.2.2)
        have x37 : EX h h37 := by rw [e37]; exact EX_up x33 (q.tr.tw.ext x33.1).k (by decide) rfl (by decide) (okI_i rfl ⟨by omega, by omega⟩)
        have f37 : Fr (fun b j => (b = 12 ∧ 3 * (T.lg.length : Int) ≤ j) ∨ (b = 2 ∧ j = 8)) h h37 := by
          rw [e37, e33, e28, e23]
          exact ((((Fr.rf _ _).up (Or.inl ⟨rfl, by omega⟩)).up (Or.inl ⟨rfl, by omega⟩)).up (Or.inl ⟨rfl, by omega⟩)).up (Or.inr ⟨rfl, rfl⟩)
        have L : LgX h37 2 (T.lg ++ [(n, t, p)]) := by
          refine ⟨by rw [e37, up_s, List.length_append, List.length_singleton]; omega, fun k y hk => ?_⟩
          rcases log_get hk with ⟨k1, k2⟩ | ⟨k1, k2⟩
          · have w := q.lg.2 k y k2
            exact ⟨(f37 12 _ (by omega)).trans w.1, (f37 12 _ (by omega)).trans w.2.1, (f37 12 _ (by omega)).trans w.2.2⟩
          · rw [k2, k1]
            refine ⟨?_, ?_, ?_⟩
            · show h37 12 (3 * (T.lg.length : Int)) = n
              rw [e37, up_a (by decide), e33, up_i (by omega), e28, up_i (by omega), e23, up_s]
            · show h37 12 (3 * (T.lg.length : Int) + 1) = t
              rw [e37, up_a (by decide), e33, up_i (by omega), e28, up_s]
            · show h37 12 (3 * (T.lg.length : Int) + 2) = p
              rw [e37, up_a (by decide), e33, up_s]
        have q' := q.logs x37.1 (fun b j b0 b1 n2 n3 => f37 b j (by omega)) (q.ok.log q.tr.en o) L
        have ff : Fr sAx h h37 := f37.mono fun b j z => by unfold sAx; omega
        have := hp h37 x37 ff.ax (by
          have z : zLog Z n t p = zS Z (some (lgT T (T.lg ++ [(n, t, p)]))) := by unfold zLog; rw [es]; dsimp only; rw [if_neg n1, if_pos o]
          rw [z]; exact I.act x37 ff t2 q')
        rw [show aLog Z n t p = (T.lg.length : Int) + 1 by unfold aLog; rw [es]; dsimp only; rw [if_neg n1, if_pos o]] at this
        exact this
      rw [q.lg.1]
      refine ⟨fun p1 => ⟨t2, fun w => ⟨⟨by omega, by omega⟩, fun y ey => ?_⟩, fun w => ?_⟩, fun p1 => I.isPainter fun _ => ?_⟩
      · subst ey
        exact ⟨by omega, by omega, fun h23 e23 => ⟨by omega, by omega, fun h28 e28 => ⟨by omega, by omega, fun h33 e33 => ⟨⟨by omega, by omega⟩, fun h37 e37 => yes h23 h28 h33 h37 ⟨hn, ⟨t0, t1⟩, Or.inl p1, w⟩ e23 e28 e33 e37⟩⟩⟩⟩
      · exact bad fun T' es' o => by rw [es] at es'; cases es'; exact o.2.2.2 w
      rw [q.lg.1]
      refine ⟨fun w => ?_, fun w => ⟨t2, fun w2 => ⟨⟨by omega, by omega⟩, fun y ey => ?_⟩, fun w2 => ?_⟩⟩
      · exact bad fun T' es' o => by
          rw [es] at es'; cases es'
          rw [es, if_pos (show 0 ≤ p ∧ p < pmO (some T) from o.2.2.1.resolve_left p1)] at w; cases w
      · subst ey
        have hq : 0 ≤ p ∧ p < pmO Z.s := Classical.byContradiction fun w9 => by rw [if_neg w9] at w; exact w rfl
        rw [es] at hq
        exact ⟨by omega, by omega, fun h23 e23 => ⟨by omega, by omega, fun h28 e28 => ⟨by omega, by omega, fun h33 e33 => ⟨⟨by omega, by omega⟩, fun h37 e37 => yes h23 h28 h33 h37 ⟨hn, ⟨t0, t1⟩, Or.inr hq, w2⟩ e23 e28 e33 e37⟩⟩⟩⟩
      · exact bad fun T' es' o => by rw [es] at es'; cases es'; exact o.2.2.2 w2
  · refine ⟨fun w => ?_, fun w => ?_⟩
    · cases es : Z.s with
      | none => exact no (by unfold zLog; rw [es]) _ (by unfold aLog; rw [es]; exact if_pos n1)
      | some T => have := (I.tn es).1; omega
    · cases es : Z.s with
      | none => exact absurd (I.no es) w
      | some T =>
        obtain ⟨t2, q⟩ := I.tn es
        refine ⟨t2, fun h' e' => ?_⟩
        have x' : EX h h' := by rw [e']; exact EX_up (EX.rf I.oz) q.tr.tw.k (by decide) rfl (by decide) (okI_i rfl ⟨by decide, by decide⟩)
        have f' : Fr (fun b j => b = 2 ∧ j = 8) h h' := by rw [e']; exact (Fr.rf _ _).up ⟨rfl, rfl⟩
        have q' := q.logs (g := []) x'.1 (fun b j b0 b1 n2 n3 => f' b j n3) (q.ok.setLg (by decide) fun x hx => (List.not_mem_nil hx).elim) ⟨by rw [e', up_s]; rfl, fun k x hk => by simp at hk⟩
        have ff : Fr sAx h h' := f'.mono fun b j z => by unfold sAx; omega
        have := hp h' x' ff.ax (by
          have z : zLog Z n t p = zS Z (some (lgT T [])) := by unfold zLog; rw [es]; dsimp only; rw [if_pos n1]
          rw [z]; exact I.act x' ff t2 q')
        rw [show aLog Z n t p = 0 by unfold aLog; rw [es]; dsimp only; rw [if_pos n1]] at this
        exact this
theorem oM_log (I : IM h Z) {n t p : Int} (hp : ∀ h' : Mem, EX h h' → FrM h h' → IM h' (zLog Z n t p) → P (aLog Z n t p) h') : kX3_log G l n t p h P := by
  have no : zLog Z n t p = Z → ∀ v : Int, aLog Z n t p = v → P v h := fun a v b => by
    have := hp h (EX.rf I.oz) (fun _ _ _ => rfl) (by rw [a]; exact I)
    rw [b] at this; exact this
  refine eX3_log fun X C e9 B => ⟨I.ms, fun n1 y0 ey0 => ?_, fun n1 h' e' => ?_⟩
  · have bad : (∀ T : Tn, Z.s = some T → ¬ logOk T n t p) → P (-2) h := fun w => by
      cases es : Z.s with
      | none => exact no (by unfold zLog; rw [es]) _ (by unfold aLog; rw [es]; exact if_neg n1)
      | some T => exact no (by unfold zLog; rw [es]; dsimp only; rw [if_neg n1, if_neg (w T es)]) _ (by unfold aLog; rw [es]; dsimp only; rw [if_neg n1, if_neg (w T es)])
    refine sX3_in fun _ => ⟨fun z => bad fun T es o => ?_, fun z => I.isThing fun _ => ⟨fun z2 => bad fun T es o => ?_, fun z2 => ?_⟩⟩
    · rw [if_pos o.1] at z; cases z
    · rw [es, if_pos (show 0 ≤ t ∧ t < tmO (some T) from o.2.1)] at z2; cases z2
    · have hn : 0 ≤ n ∧ n ≤ 99 := Classical.byContradiction fun w => by rw [if_neg w] at z; exact z rfl
      have ht : 0 ≤ t ∧ t < tmO Z.s := Classical.byContradiction fun w => by rw [if_neg w] at z2; exact z2 rfl
      obtain ⟨T, es, t0, t1⟩ := tmO_s ht
      have q := I.tn es
      have K10 := q.ok.lg
      have Kt := q.mr.en.tm
      have Kp := q.mr.en.pm
      have yes : ∀ h23 h28 h33 h37 : Mem, logOk T n t p → h23 = up h 188 (T.lg.length : Int) n → h28 = up h23 189 (T.lg.length : Int) t → h33 = up h28 190 (T.lg.length : Int) p → h37 = up h33 178 10 ((T.lg.length : Int) + 1) → P ((T.lg.length : Int) + 1) h37 := fun h23 h28 h33 h37 o e23 e28 e33 e37 => by
        have x23 : EX h h23 := by rw [e23]; exact EX_up (EX.rf I.oz) I.ms.k188 (by decide) rfl (by omega) (okI_a (Or.inl rfl) ⟨by omega, by omega⟩)
        have x28 : EX h h28 := by rw [e28]; exact EX_up x23 (I.ms.ext x23.1).k189 (by decide) rfl (by omega) (okI_a (Or.inl rfl) ⟨by omega, by omega⟩)
        have x33 : EX h h33 := by rw [e33]; exact EX_up x28 (I.ms.ext x28.1).k190 (by decide) rfl (by omega) (okI_a (Or.inl rfl) B.2.2.2)
        have x37 : EX h h37 := by rw [e37]; exact EX_up x33 (I.ms.ext x33.1).k178 (by decide) rfl (by decide) (okI_a (Or.inl rfl) ⟨by omega, by omega⟩)
        have f37 : Fr (fun b j => ((b = 188 ∨ b = 189 ∨ b = 190) ∧ j = (T.lg.length : Int)) ∨ (b = 178 ∧ j = 10)) h h37 := by
          rw [e37, e33, e28, e23]
          exact ((((Fr.rf _ _).up (Or.inl ⟨by omega, rfl⟩)).up (Or.inl ⟨by omega, rfl⟩)).up (Or.inl ⟨by omega, rfl⟩)).up (Or.inr ⟨rfl, rfl⟩)
        have L : LgM h37 (T.lg ++ [(n, t, p)]) := by
          refine ⟨by rw [e37, up_s, List.length_append, List.length_singleton]; omega, fun k y hk => ?_⟩
          rcases log_get hk with ⟨k1, k2⟩ | ⟨k1, k2⟩
          · have w := q.lg.2 k y k2
            exact ⟨(f37 188 _ (by omega)).trans w.1, (f37 189 _ (by omega)).trans w.2.1, (f37 190 _ (by omega)).trans w.2.2⟩
          · rw [k2, k1]
            refine ⟨?_, ?_, ?_⟩
            · show h37 188 (T.lg.length : Int) = n
              rw [e37, up_a (by decide), e33, up_a (by decide), e28, up_a (by decide), e23, up_s]
            · show h37 189 (T.lg.length : Int) = t
              rw [e37, up_a (by decide), e33, up_a (by decide), e28, up_s]
            · show h37 190 (T.lg.length : Int) = p
              rw [e37, up_a (by decide), e33, up_s]
        have q' := q.logs x37.1 (fun b j z => f37 b j (by omega)) (q.ok.log q.mr.en o) L
        have ff : Fr sAm h h37 := f37.mono fun b j z => by unfold sAm sQm; omega
        have := hp h37 x37 ff.am (by
          have z : zLog Z n t p = zS Z (some (lgT T (T.lg ++ [(n, t, p)]))) := by unfold zLog; rw [es]; dsimp only; rw [if_neg n1, if_pos o]
          rw [z]; exact I.act x37 ff q')
        rw [show aLog Z n t p = (T.lg.length : Int) + 1 by unfold aLog; rw [es]; dsimp only; rw [if_neg n1, if_pos o]] at this
        exact this
      rw [q.lg.1] at ey0 ⊢
      subst ey0
      refine ⟨fun p1 => ⟨fun w => ⟨by omega, by omega, fun h23 e23 h28 e28 h33 e33 => ⟨⟨by omega, by omega⟩, fun h37 e37 => ⟨⟨by omega, by omega⟩, yes h23 h28 h33 h37 ⟨hn, ⟨t0, t1⟩, Or.inl p1, w⟩ e23 e28 e33 e37⟩⟩⟩, fun w => ?_⟩, fun p1 => I.isPainter fun _ => ?_⟩
      · exact bad fun T' es' o => by rw [es] at es'; cases es'; exact o.2.2.2 w
      rw [q.lg.1]
      refine ⟨fun w => ?_, fun w => ⟨fun w2 => ?_, fun w2 => ?_⟩⟩
      · exact bad fun T' es' o => by
          rw [es] at es'; cases es'
          rw [es, if_pos (show 0 ≤ p ∧ p < pmO (some T) from o.2.2.1.resolve_left p1)] at w; cases w
      · have hq : 0 ≤ p ∧ p < pmO Z.s := Classical.byContradiction fun w9 => by rw [if_neg w9] at w; exact w rfl
        rw [es] at hq
        exact ⟨by omega, by omega, fun h23 e23 h28 e28 h33 e33 => ⟨⟨by omega, by omega⟩, fun h37 e37 => ⟨⟨by omega, by omega⟩, yes h23 h28 h33 h37 ⟨hn, ⟨t0, t1⟩, Or.inr hq, w2⟩ e23 e28 e33 e37⟩⟩⟩
      · exact bad fun T' es' o => by rw [es] at es'; cases es'; exact o.2.2.2 w2
  · have x' : EX h h' := by rw [e']; exact EX_up (EX.rf I.oz) I.ms.k178 (by decide) rfl (by decide) (okI_a (Or.inl rfl) ⟨by decide, by decide⟩)
    have f' : Fr (fun b j => b = 178 ∧ j = 10) h h' := by rw [e']; exact (Fr.rf _ _).up ⟨rfl, rfl⟩
    have ff : Fr sAm h h' := f'.mono fun b j z => by unfold sAm sQm; omega
    cases es : Z.s with
    | none =>
      have z0 := I.no es
      have e0 : ∀ b j : Int, 0 ≤ j → h' b j = h b j ∨ (b = 178 ∧ j = 10 ∧ h' b j = 0) := fun b j j0 => by
        by_cases c : b = 178 ∧ j = 10
        · exact Or.inr ⟨c.1, c.2, by rw [c.1, c.2, e', up_s]⟩
        · exact Or.inl (f' b j c)
      have same : ∀ b j : Int, h' b j = h b j := fun b j => by
        by_cases c : b = 178 ∧ j = 10
        · rw [c.1, c.2, e', up_s, z0.1 10 (by decide) (by decide)]
        · exact f' b j c
      have := hp h' x' ff.am (by
        have z : zLog Z n t p = Z := by unfold zLog; rw [es]
        rw [z]; exact I.back x' (fun b j _ _ _ => same b j) (Back9.of fun b j _ => same b j))
      rw [show aLog Z n t p = 0 by unfold aLog; rw [es]; exact if_pos n1] at this
      exact this
    | some T =>
      have q := I.tn es
      have q' := q.logs (g := []) x'.1 (fun b j z => f' b j (by omega)) (q.ok.setLg (by decide) fun x hx => (List.not_mem_nil hx).elim) ⟨by rw [e', up_s]; rfl, fun k x hk => by simp at hk⟩
      have := hp h' x' ff.am (by
        have z : zLog Z n t p = zS Z (some (lgT T [])) := by unfold zLog; rw [es]; dsimp only; rw [if_pos n1]
        rw [z]; exact I.act x' ff q')
      rw [show aLog Z n t p = 0 by unfold aLog; rw [es]; dsimp only; rw [if_pos n1]] at this
      exact this
end
