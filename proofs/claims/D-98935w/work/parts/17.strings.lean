/-! THE STRINGS' OWN METHODS, over the claim's constants -/
set_option maxRecDepth 100000
set_option maxHeartbeats 4000000 in
theorem ct_ofF {G : GT} {l : Launch} {y : MethodName} {cc : ByteArray} {nL : Nat} {ret : Option FieldType} {t d kc ks : Nat} {as : List AV} {h : Mem} {Post : Int → Mem → Prop} (hy : plainFor y = true) (hn : avw as ≤ nL)
    (body : ∀ X : MX, Cx G X cc nL y.cls d kc ks ret y.name → X.2.1 = l → V G X nL 0 0 (QF G X t kc ks Post) 0 (avp 0 as) [] h) : Ct G l y cc nL ret t d kc ks as h Post := by
  refine va_MetF (cc := cc) (maxL := nL) (ret := ret) hy rfl ?_
  intro p e s m args below meth c s₁ B hml hv
  obtain ⟨rfl, hH, hK⟩ := hv
  have hts0 := atoms_spec (ws := ws_ y cc nL ret) B.pre
  have hts : ∀ w ∈ lw_all, w.before _ s = true := fun w h => hts0 w (List.mem_cons_of_mem _ h)
  have hown : s.vm.findClass y.cls = some m.cls := findClass_of_methodNamed B.named
  have hnm : meth.name = y.name := (name_of_methodNamed B.named B.method).1
  have hC : Cx G (p, l, e, rmD d kc ks, s, m, (as.map (rv G)).toArray, below, meth, c) cc nL y.cls d kc ks ret y.name := ⟨B.exec, B.bytes, hml, hown, hts, B.notSynchronized, rfl, hK, B.returns, hnm⟩
  have hb := body _ hC rfl
  have hl := lv_entry (as.map (rv G)) (n := nL) (by rw [avw_sl]; exact hn)
  rw [avp_args] at hl
  rw [lg_entry_eq]
  exact hb s.heap [] _ hH (fun q hq => by cases hq) hl
theorem sL_ok : ∀ i, i < 45 → bShr (sL i : Int) 0 = (sL i : Int) ∧ sL i < 100 := by decide +kernel
theorem sC_ok : ∀ i, i < 45 → ∀ j, j < sL i → bAnd (sC i j) 255 = sC i j ∧ 0 ≤ sC i j ∧ sC i j < 128 := by decide +kernel
theorem sLR {i : Nat} (hi : i < 45) : R32 (sL i : Int) := by have := (sL_ok i hi).2; exact ⟨by omega, by omega⟩
theorem jCoder {G : GT} {l : Launch} (i : Nat) (hi : i < 45) (h : Mem) : Ct G l yJ3_coder cJ3_coder 1 (some .byte) 0 0 0 0 [rf (sK i)] h (fun r h' => r = 0 ∧ h' = h) := by
  refine ct_ofF (by decide +kernel) (Nat.le_of_ble_eq_true rfl) fun X C e => ?_
  refine v_gets C (v := iv 1) C.2.2.2.2.2.2.2.1.2.2.1.2.1 q569 dJ3_coder_0 ?_
  refine v_if_eq C 13 ⟨by decide, by decide⟩ dJ3_coder_3 (by decide) (fun c => absurd c (by decide)) (fun _ => ?_)
  refine v_aload_n C 0 rfl rfl dJ3_coder_6 ?_
  refine v_scod C i hi q1944 dJ3_coder_7 ?_
  refine v_goto C 14 dJ3_coder_10 (by decide) ?_
  exact v_bret C (by decide) (by decide) (Nat.le_refl _) (Nat.le_refl _) dJ3_coder_14 ⟨rfl, rfl⟩
theorem jLatin {G : GT} {l : Launch} (i : Nat) (hi : i < 45) (h : Mem) : Ct G l yJ3_isLatin1 cJ3_isLatin1 1 (some .boolean) 0 0 0 0 [rf (sK i)] h (fun r h' => r = 1 ∧ h' = h) := by
  refine ct_ofF (by decide +kernel) (Nat.le_of_ble_eq_true rfl) fun X C e => ?_
  refine v_gets C (v := iv 1) C.2.2.2.2.2.2.2.1.2.2.1.2.1 q569 dJ3_isLatin1_0 ?_
  refine v_if_eq C 17 ⟨by decide, by decide⟩ dJ3_isLatin1_3 (by decide) (fun c => absurd c (by decide)) (fun _ => ?_)
  refine v_aload_n C 0 rfl rfl dJ3_isLatin1_6 ?_
  refine v_scod C i hi q1944 dJ3_isLatin1_7 ?_
  refine v_if_ne C 17 ⟨by decide, by decide⟩ dJ3_isLatin1_10 (by decide) (fun c => absurd rfl c) (fun _ => ?_)
  refine v_iconst C dJ3_isLatin1_13 ?_
  refine v_goto C 18 dJ3_isLatin1_14 (by decide) ?_
  exact v_zret C (by decide) (Nat.le_refl _) (Nat.le_refl _) dJ3_isLatin1_18 ⟨rfl, rfl⟩
theorem jLen {G : GT} {l : Launch} (i : Nat) (hi : i < 45) (h : Mem) : Ct G l yJ3_length cJ3_length 1 (some .int) 0 1 0 0 [rf (sK i)] h (fun r h' => r = (sL i : Int) ∧ h' = h) := by
  refine ct_ofF (by decide +kernel) (Nat.le_of_ble_eq_true rfl) fun X C e => ?_
  refine v_aload_n C 0 rfl rfl dJ3_length_0 ?_
  refine v_sval C i hi q1943 dJ3_length_1 ?_
  refine v_slen C i hi dJ3_length_4 ?_
  refine v_aload_n C 0 rfl rfl dJ3_length_5 ?_
  refine mJ3_335 C i hi (d2 := 0) (kc2 := 0) (ks2 := 0) (by decide) (Nat.le_refl _) (Nat.le_refl _) (Nat.le_of_ble_eq_true rfl) dJ3_length_6 (Ct.mono (jCoder i hi h) ?_)
  rintro r h1 ⟨rfl, rfl⟩
  refine v_ishr C dJ3_length_9 ?_
  rw [(sL_ok i hi).1]
  exact v_iret C (Nat.le_refl _) (Nat.le_refl _) dJ3_length_10 ⟨rfl, rfl⟩
theorem jCheck5 {G : GT} {l : Launch} (k n f : Int) (hk : R32 k) (hn : R32 n) (h0 : 0 ≤ k) (h1 : k < n) (h : Mem) : Ct G l yJ5_checkIndex cJ5_checkIndex 3 (some .int) 0 0 0 0 [iv k, iv n, rf f] h (fun r h' => h' = h) := by
  refine ct_ofF (by decide +kernel) (Nat.le_of_ble_eq_true rfl) fun X C e => ?_
  refine v_iload_n C 0 rfl rfl dJ5_checkIndex_0 ?_
  refine v_if_lt C 9 hk dJ5_checkIndex_1 (by decide) (fun c => absurd c (by omega)) (fun _ => ?_)
  refine v_iload_n C 0 rfl rfl dJ5_checkIndex_4 ?_
  refine v_iload_n C 1 rfl rfl dJ5_checkIndex_5 ?_
  refine v_icmp_lt C 16 hk hn dJ5_checkIndex_6 (by decide) (fun _ => ?_) (fun c => absurd c (by omega))
  refine v_iload_n C 0 rfl rfl dJ5_checkIndex_16 ?_
  exact v_iret C (Nat.le_refl _) (Nat.le_refl _) dJ5_checkIndex_17 rfl
theorem jCheck3 {G : GT} {l : Launch} (k n : Int) (hk : R32 k) (hn : R32 n) (h0 : 0 ≤ k) (h1 : k < n) (h : Mem) : Ct G l yJ3_checkIndex cJ3_checkIndex 2 none 3 1 0 0 [iv k, iv n] h (fun r h' => h' = h) := by
  refine ct_ofF (by decide +kernel) (Nat.le_of_ble_eq_true rfl) fun X C e => ?_
  refine v_iload_n C 0 rfl rfl dJ3_checkIndex_0 ?_
  refine v_iload_n C 1 rfl rfl dJ3_checkIndex_1 ?_
  refine v_gets C (v := rf (G.2.2.2.2.2.2 2)) C.2.2.2.2.2.2.2.1.2.2.1.2.2.2.2 q585 dJ3_checkIndex_2 ?_
  refine mJ3_1059 C (d2 := 0) (kc2 := 0) (ks2 := 0) (by decide) (Nat.le_refl _) (Nat.le_refl _) (Nat.le_of_ble_eq_true rfl) dJ3_checkIndex_5 (Ct.mono (jCheck5 k n _ hk hn h0 h1 h) ?_)
  rintro r h1 rfl
  refine v_pop C (iv_n1 _) dJ3_checkIndex_8 ?_
  exact v_vret C (Nat.le_refl _) (Nat.le_refl _) dJ3_checkIndex_9 rfl
theorem jChar4 {G : GT} {l : Launch} (i : Nat) (hi : i < 45) (k : Int) (h0 : 0 ≤ k) (h1 : k < sL i) (h : Mem) : Ct G l yJ4_charAt cJ4_charAt 2 (some .char) 0 2 0 0 [rf (sV i), iv k] h (fun r h' => r = sC i k.toNat ∧ h' = h) := by
  have hs := (sL_ok i hi).2
  have hk : R32 k := ⟨by omega, by omega⟩
  obtain ⟨g1, g2, g3⟩ := sC_ok i hi k.toNat (by omega)
  refine ct_ofF (by decide +kernel) (Nat.le_of_ble_eq_true rfl) fun X C e => ?_
  refine v_iload_n C 1 rfl rfl dJ4_charAt_0 ?_
  refine v_aload_n C 0 rfl rfl dJ4_charAt_1 ?_
  refine v_slen C i hi dJ4_charAt_2 ?_
  refine mJ4_9 C (d2 := 1) (kc2 := 0) (ks2 := 0) (by decide) (Nat.le_refl _) (Nat.le_refl _) (Nat.le_of_ble_eq_true rfl) dJ4_charAt_3 (Ct.mono (jCheck3 k _ hk (sLR hi) h0 h1 h) ?_)
  rintro r h1 rfl
  refine v_aload_n C 0 rfl rfl dJ4_charAt_6 ?_
  refine v_iload_n C 1 rfl rfl dJ4_charAt_7 ?_
  refine v_sald C i hi h0 (by assumption) hs dJ4_charAt_8 ?_
  refine v_sipush C rfl dJ4_charAt_9 ?_
  refine v_iand C dJ4_charAt_12 ?_
  rw [g1]
  refine v_i2c C g2 (by omega) dJ4_charAt_13 ?_
  exact v_cret C g2 (by omega) (Nat.le_refl _) (Nat.le_refl _) dJ4_charAt_14 ⟨rfl, rfl⟩
theorem jChar {G : GT} {l : Launch} (i : Nat) (hi : i < 45) (k : Int) (h0 : 0 ≤ k) (h1 : k < sL i) (h : Mem) : Ct G l yJ3_charAt cJ3_charAt 2 (some .char) 0 3 0 0 [rf (sK i), iv k] h (fun r h' => r = sC i k.toNat ∧ h' = h) := by
  obtain ⟨g1, g2, g3⟩ := sC_ok i hi k.toNat (by omega)
  refine ct_ofF (by decide +kernel) (Nat.le_of_ble_eq_true rfl) fun X C e => ?_
  refine v_aload_n C 0 rfl rfl dJ3_charAt_0 ?_
  refine mJ3_492 C i hi (d2 := 0) (kc2 := 0) (ks2 := 0) (by decide) (Nat.le_refl _) (Nat.le_refl _) (Nat.le_of_ble_eq_true rfl) dJ3_charAt_1 (Ct.mono (jLatin i hi h) ?_)
  rintro r h1 ⟨rfl, rfl⟩
  refine v_if_eq C 16 ⟨by decide, by decide⟩ dJ3_charAt_4 (by decide) (fun c => absurd c (by decide)) (fun _ => ?_)
  refine v_aload_n C 0 rfl rfl dJ3_charAt_7 ?_
  refine v_sval C i hi q1943 dJ3_charAt_8 ?_
  refine v_iload_n C 1 rfl rfl dJ3_charAt_11 ?_
  refine mJ3_495 C (d2 := 2) (kc2 := 0) (ks2 := 0) (by decide) (Nat.le_refl _) (Nat.le_refl _) (Nat.le_of_ble_eq_true rfl) dJ3_charAt_12 (Ct.mono (jChar4 i hi k h0 (by assumption) _) ?_)
  rintro r h1 ⟨rfl, rfl⟩
  exact v_cret C g2 (by omega) (Nat.le_refl _) (Nat.le_refl _) dJ3_charAt_15 ⟨rfl, rfl⟩
theorem sCR {i : Nat} (hi : i < 45) {k : Int} (h0 : 0 ≤ k) (h1 : k < sL i) : R32 (sC i k.toNat) := by
  obtain ⟨g1, g2, g3⟩ := sC_ok i hi k.toNat (by omega)
  exact ⟨by omega, by omega⟩
section VTOP
variable {G : GT} {X : MX} {nL uc us : Nat} {Q : State → Prop} {pc : Nat} {lv : List (Nat × AV)} {st : List AV} {h : Mem}
theorem v_top {x y : Int} (e : x = y) (kk : V G X nL uc us Q pc lv (rf y :: st) h) : V G X nL uc us Q pc lv (rf x :: st) h := e ▸ kk
theorem v_top1 {x y : Int} {a : AV} (e : x = y) (kk : V G X nL uc us Q pc lv (a :: rf y :: st) h) : V G X nL uc us Q pc lv (a :: rf x :: st) h := e ▸ kk
end VTOP
