/-! formulas of LatestCoat$Text -/
set_option maxRecDepth 100000
def kX4_canBe (G : GT) (l : Launch) (x0 x1 : Int) (h : Mem) (P : Int → Mem → Prop) : Prop := R32 x1 → Ct G l yX4_canBe cX4_canBe 2 (some .boolean) 0 0 0 0 [rf x0, iv x1] h (PZ h P)
def kX4_demand (G : GT) (l : Launch) (x0 x1 x2 x3 : Int) (h : Mem) (P : Int → Mem → Prop) (PX : Mem → Prop) : Prop := R32 x1 → R32 x2 → R32 x3 → CtX G l yX4_demand cX4_demand 4 none 3 0 0 0 [rf x0, iv x1, iv x2, iv x3] h (PR h P) (PE h PX)
def kX4_isDigit (G : GT) (l : Launch) (x0 x1 : Int) (h : Mem) (P : Int → Mem → Prop) : Prop := R32 x1 → Ct G l yX4_isDigit cX4_isDigit 2 (some .boolean) 0 0 0 0 [rf x0, iv x1] h (PZ h P)
def kX4_see (G : GT) (l : Launch) (x0 : Int) (h : Mem) (P : Int → Mem → Prop) : Prop := Ct G l yX4_see cX4_see 1 (some .int) 0 0 0 0 [rf x0] h (PI h P)
def kX4_ends (G : GT) (l : Launch) (x0 : Int) (h : Mem) (P : Int → Mem → Prop) (PX : Mem → Prop) : Prop := CtX G l yX4_ends cX4_ends 1 none 3 1 0 0 [rf x0] h (PR h P) (PE h PX)
def kX4_letters (G : GT) (l : Launch) (x0 : Int) (h : Mem) (P : Int → Mem → Prop) : Prop := Ct G l yX4_letters cX4_letters 2 (some .int) 0 1 0 0 [rf x0] h (PI h P)
def kX4_makes (G : GT) (l : Launch) (x0 x1 : Int) (h : Mem) (P : Int → Mem → Prop) (PX : Mem → Prop) : Prop := R32 x1 → CtX G l yX4_makes cX4_makes 2 none 3 1 0 0 [rf x0, iv x1] h (PR h P) (PE h PX)
def kX4_number (G : GT) (l : Launch) (x0 x1 x2 : Int) (h : Mem) (P : Int → Mem → Prop) (PX : Mem → Prop) : Prop := R32 x1 → R32 x2 → CtX G l yX4_number cX4_number 5 (some .int) 0 1 0 0 [rf x0, iv x1, iv x2] h (PI h P) (PE h PX)
def kX4_opens (G : GT) (l : Launch) (x0 x1 : Int) (h : Mem) (P : Int → Mem → Prop) (PX : Mem → Prop) : Prop := R32 x1 → CtX G l yX4_opens cX4_opens 2 none 3 1 0 0 [rf x0, iv x1] h (PR h P) (PE h PX)
def kX4_sign (G : GT) (l : Launch) (x0 : Int) (h : Mem) (P : Int → Mem → Prop) (PX : Mem → Prop) : Prop := CtX G l yX4_sign cX4_sign 3 (some .int) 0 1 0 0 [rf x0] h (PI h P) (PE h PX)
def kX4_takesSign (G : GT) (l : Launch) (x0 x1 : Int) (h : Mem) (P : Int → Mem → Prop) : Prop := R32 x1 → Ct G l yX4_takesSign cX4_takesSign 2 (some .boolean) 0 1 0 0 [rf x0, iv x1] h (PZ h P)
def kX4_coatHere (G : GT) (l : Launch) (x0 : Int) (h : Mem) (P : Int → Mem → Prop) (PX : Mem → Prop) : Prop := CtX G l yX4_coatHere cX4_coatHere 3 none 3 2 0 0 [rf x0] h (PR h P) (PE h PX)
def kX4_streetHere (G : GT) (l : Launch) (x0 : Int) (h : Mem) (P : Int → Mem → Prop) (PX : Mem → Prop) : Prop := CtX G l yX4_streetHere cX4_streetHere 2 none 3 2 0 0 [rf x0] h (PR h P) (PE h PX)
def kX4_thingHere (G : GT) (l : Launch) (x0 : Int) (h : Mem) (P : Int → Mem → Prop) (PX : Mem → Prop) : Prop := CtX G l yX4_thingHere cX4_thingHere 3 none 3 2 0 0 [rf x0] h (PR h P) (PE h PX)
def kX4_line (G : GT) (l : Launch) (x0 x1 : Int) (h : Mem) (P : Int → Mem → Prop) (PX : Mem → Prop) : Prop := R32 x1 → CtX G l yX4_line cX4_line 3 none 3 3 0 0 [rf x0, iv x1] h (PR h P) (PE h PX)
def kX4_isWord (G : GT) (l : Launch) (x0 x1 : Int) (h : Mem) (P : Int → Mem → Prop) : Prop := Ct G l yX4_isWord cX4_isWord 5 (some .boolean) 0 4 0 0 [rf x0, rf x1] h (PZ h P)
def kX4_oneOf (G : GT) (l : Launch) (x0 x1 : Int) (h : Mem) (P : Int → Mem → Prop) : Prop := Ct G l yX4_oneOf cX4_oneOf 3 (some .int) 0 5 0 0 [rf x0, rf x1] h (PI h P)
def kX4_takesWord (G : GT) (l : Launch) (x0 x1 : Int) (h : Mem) (P : Int → Mem → Prop) : Prop := Ct G l yX4_takesWord cX4_takesWord 2 (some .boolean) 0 5 0 0 [rf x0, rf x1] h (PZ h P)
def kX4_streetTold (G : GT) (l : Launch) (x0 : Int) (h : Mem) (P : Int → Mem → Prop) (PX : Mem → Prop) : Prop := CtX G l yX4_streetTold cX4_streetTold 3 (some (.object "LatestCoat$Town")) 2 6 0 0 [rf x0] h (PR h P) (PE h PX)
def kX4_value (G : GT) (l : Launch) (kc ks : Nat) (x0 : Int) (h : Mem) (P : Int → Mem → Prop) (PX : Mem → Prop) : Prop := CtX G l yX4_value cX4_value 3 (some (.object "LatestCoat$Value")) 2 6 kc ks [rf x0] h (PR h P) (PE h PX)
def kX4_term (G : GT) (l : Launch) (kc ks : Nat) (x0 : Int) (h : Mem) (P : Int → Mem → Prop) (PX : Mem → Prop) : Prop := CtX G l yX4_term cX4_term 3 (some (.object "LatestCoat$Value")) 2 7 kc ks [rf x0] h (PR h P) (PE h PX)
def kX4_sum (G : GT) (l : Launch) (kc ks : Nat) (x0 : Int) (h : Mem) (P : Int → Mem → Prop) (PX : Mem → Prop) : Prop := CtX G l yX4_sum cX4_sum 3 (some (.object "LatestCoat$Value")) 2 8 kc ks [rf x0] h (PR h P) (PE h PX)
def kX4_fact (G : GT) (l : Launch) (d : Nat) (kc ks : Nat) (x0 : Int) (h : Mem) (P : Int → Mem → Prop) (PX : Mem → Prop) : Prop := CtX G l yX4_fact cX4_fact 6 (some (.object "LatestCoat$Test")) 2 (3 * d + 9) kc ks [rf x0] h (PR h P) (PE h PX)
def kX4_parted (G : GT) (l : Launch) (d : Nat) (kc ks : Nat) (x0 : Int) (h : Mem) (P : Int → Mem → Prop) (PX : Mem → Prop) : Prop := CtX G l yX4_parted cX4_parted 2 (some (.object "LatestCoat$Test")) 2 (3 * d + 10) kc ks [rf x0] h (PR h P) (PE h PX)
def kX4_tested (G : GT) (l : Launch) (d : Nat) (kc ks : Nat) (x0 : Int) (h : Mem) (P : Int → Mem → Prop) (PX : Mem → Prop) : Prop := CtX G l yX4_tested cX4_tested 2 (some (.object "LatestCoat$Test")) 2 (3 * d + 11) kc ks [rf x0] h (PR h P) (PE h PX)
def kX4_clauseHere (G : GT) (l : Launch) (kc ks : Nat) (x0 : Int) (h : Mem) (P : Int → Mem → Prop) (PX : Mem → Prop) : Prop := CtX G l yX4_clauseHere cX4_clauseHere 2 (some (.object "LatestCoat$Clause")) 2 45 kc ks [rf x0] h (PR h P) (PE h PX)
def kX4_ruleTold (G : GT) (l : Launch) (kc ks : Nat) (x0 : Int) (h : Mem) (P : Int → Mem → Prop) (PX : Mem → Prop) : Prop := CtX G l yX4_ruleTold cX4_ruleTold 3 (some (.object "LatestCoat$Rule")) 2 46 kc ks [rf x0] h (PR h P) (PE h PX)
set_option maxHeartbeats 4000000 in
theorem wX4_canBe_0 {G : GT} {X : MX} {h0 h : Mem} {P : Int → Mem → Prop} {x0 x1 : Int} (C : Cx G X cX4_canBe 2 RX4 0 0 0 (some .boolean) "canBe") (B0 : EX h0 h ∧ R32 x1)
    (F : TextS h x0 ∧ XS h ∧ ((h x0 5 ≥ 40 → P 0 h) ∧ (h x0 5 < 40 → ((x1 ≠ 0 → ((h 129 0 ≠ 0 → ((x1 = 1 → ((h 129 3 ≥ 4 → P 0 h) ∧ (h 129 3 < 4 → P 1 h))) ∧ (x1 = 2 → ((h 129 5 ≥ 4 → P 0 h) ∧ (h 129 5 < 4 → P 1 h))) ∧ (x1 = 5 → ((h 129 6 ≥ 5 → P 0 h) ∧ (h 129 6 < 5 → P 1 h))) ∧ (x1 = 6 → ((h 129 7 ≠ 0 → P 0 h) ∧ (h 129 7 = 0 → P 1 h))) ∧ (x1 ≠ 1 ∧ x1 ≠ 2 ∧ x1 ≠ 5 ∧ x1 ≠ 6 → P 1 h))) ∧ (h 129 0 = 0 → P 0 h))) ∧ (x1 = 0 → ((h 129 0 ≠ 0 → P 0 h) ∧ (h 129 0 = 0 → ((x1 = 1 → ((h 129 3 ≥ 4 → P 0 h) ∧ (h 129 3 < 4 → P 1 h))) ∧ (x1 = 2 → ((h 129 5 ≥ 4 → P 0 h) ∧ (h 129 5 < 4 → P 1 h))) ∧ (x1 = 5 → ((h 129 6 ≥ 5 → P 0 h) ∧ (h 129 6 < 5 → P 1 h))) ∧ (x1 = 6 → ((h 129 7 ≠ 0 → P 0 h) ∧ (h 129 7 = 0 → P 1 h))) ∧ (x1 ≠ 1 ∧ x1 ≠ 2 ∧ x1 ≠ 5 ∧ x1 ≠ 6 → P 1 h))))))))) :
    V G X 2 0 0 (QF G X 0 0 0 (PZ h0 P)) 0 [(0, rf x0), (1, iv x1)] [] h := by
  obtain ⟨B, R1⟩ := B0
  have E : EX h h := EX.rf B.2
  obtain ⟨S_x0, F⟩ := F
  obtain ⟨SX, F⟩ := F
  refine v_aload_n C 0 rfl rfl dX4_canBe_0 ?_
  refine gX4_90 C (S_x0.ext E.1).k rfl dX4_canBe_1 ?_
  refine v_bipush C rfl dX4_canBe_4 ?_
  refine v_icmp_ge C 36 (EX.rI B (j := 5) (S_x0.ext E.1).k rfl) ⟨by decide, by decide⟩ dX4_canBe_6 (by decide) (fun c1 => ?_) (fun c1 => ?_)
  · have F := F.1 (c1)
    refine v_iconst C dX4_canBe_36 ?_
    exact v_zret C (by decide) (Nat.le_refl _) (Nat.le_refl _) dX4_canBe_37 ⟨B, (by decide), F⟩
  · have F := F.2 (c1)
    refine v_iload_n C 1 rfl rfl dX4_canBe_9 ?_
    refine v_if_ne C 17 R1 dX4_canBe_10 (by decide) (fun c2 => ?_) (fun c2 => ?_)
    · have F := F.1 (c2)
      refine v_iconst C dX4_canBe_17 ?_
      refine v_aload_n C 0 rfl rfl dX4_canBe_18 ?_
      refine gX4_26 C (S_x0.ext E.1).k (S_x0.ext E.1).f1 dX4_canBe_19 ?_
      refine gX4_93 C ((SX.ext E.1).t129).k rfl dX4_canBe_22 ?_
      refine v_if_ne C 32 (EX.rI B (j := 0) ((SX.ext E.1).t129).k rfl) dX4_canBe_25 (by decide) (fun c3 => ?_) (fun c3 => ?_)
      · have F := F.1 (c3)
        refine v_iconst C dX4_canBe_32 ?_
        refine v_icmp_eq C 38 ⟨by decide, by decide⟩ ⟨by decide, by decide⟩ dX4_canBe_33 (by decide) (fun _ => ?_) (fun c => absurd c (by decide))
        refine v_iload_n C 1 rfl rfl dX4_canBe_38 ?_
        by_cases c5 : x1 = 1
        · have F := F.1 c5
          refine v_tableIn C 76 1 ⟨by decide, by decide⟩ c5 dX4_canBe_39 (by decide) (by decide) rfl (by decide) ?_
          refine v_aload_n C 0 rfl rfl dX4_canBe_76 ?_
          refine gX4_26 C (S_x0.ext E.1).k (S_x0.ext E.1).f1 dX4_canBe_77 ?_
          refine gX4_98 C ((SX.ext E.1).t129).k rfl dX4_canBe_80 ?_
          refine v_iconst C dX4_canBe_83 ?_
          refine v_icmp_ge C 91 (EX.rI B (j := 3) ((SX.ext E.1).t129).k rfl) ⟨by decide, by decide⟩ dX4_canBe_84 (by decide) (fun c4 => ?_) (fun c4 => ?_)
          · have F := F.1 (c4)
            refine v_iconst C dX4_canBe_91 ?_
            exact v_zret C (by decide) (Nat.le_refl _) (Nat.le_refl _) dX4_canBe_92 ⟨B, (by decide), F⟩
          · have F := F.2 (c4)
            refine v_iconst C dX4_canBe_87 ?_
            refine v_goto C 92 dX4_canBe_88 (by decide) ?_
            exact v_zret C (by decide) (Nat.le_refl _) (Nat.le_refl _) dX4_canBe_92 ⟨B, (by decide), F⟩
        by_cases c7 : x1 = 2
        · have F := F.2.1 c7
          refine v_tableIn C 93 2 ⟨by decide, by decide⟩ c7 dX4_canBe_39 (by decide) (by decide) rfl (by decide) ?_
          refine v_aload_n C 0 rfl rfl dX4_canBe_93 ?_
          refine gX4_26 C (S_x0.ext E.1).k (S_x0.ext E.1).f1 dX4_canBe_94 ?_
          refine gX4_101 C ((SX.ext E.1).t129).k rfl dX4_canBe_97 ?_
          refine v_iconst C dX4_canBe_100 ?_
          refine v_icmp_ge C 108 (EX.rI B (j := 5) ((SX.ext E.1).t129).k rfl) ⟨by decide, by decide⟩ dX4_canBe_101 (by decide) (fun c6 => ?_) (fun c6 => ?_)
          · have F := F.1 (c6)
            refine v_iconst C dX4_canBe_108 ?_
            exact v_zret C (by decide) (Nat.le_refl _) (Nat.le_refl _) dX4_canBe_109 ⟨B, (by decide), F⟩
          · have F := F.2 (c6)
            refine v_iconst C dX4_canBe_104 ?_
            refine v_goto C 109 dX4_canBe_105 (by decide) ?_
            exact v_zret C (by decide) (Nat.le_refl _) (Nat.le_refl _) dX4_canBe_109 ⟨B, (by decide), F⟩
        by_cases c9 : x1 = 5
        · have F := F.2.2.1 c9
          refine v_tableIn C 110 5 ⟨by decide, by decide⟩ c9 dX4_canBe_39 (by decide) (by decide) rfl (by decide) ?_
          refine v_aload_n C 0 rfl rfl dX4_canBe_110 ?_
          refine gX4_26 C (S_x0.ext E.1).k (S_x0.ext E.1).f1 dX4_canBe_111 ?_
          refine gX4_104 C ((SX.ext E.1).t129).k rfl dX4_canBe_114 ?_
          refine v_iconst C dX4_canBe_117 ?_
          refine v_icmp_ge C 125 (EX.rI B (j := 6) ((SX.ext E.1).t129).k rfl) ⟨by decide, by decide⟩ dX4_canBe_118 (by decide) (fun c8 => ?_) (fun c8 => ?_)
          · have F := F.1 (c8)
            refine v_iconst C dX4_canBe_125 ?_
            exact v_zret C (by decide) (Nat.le_refl _) (Nat.le_refl _) dX4_canBe_126 ⟨B, (by decide), F⟩
          · have F := F.2 (c8)
            refine v_iconst C dX4_canBe_121 ?_
            refine v_goto C 126 dX4_canBe_122 (by decide) ?_
            exact v_zret C (by decide) (Nat.le_refl _) (Nat.le_refl _) dX4_canBe_126 ⟨B, (by decide), F⟩
        by_cases c11 : x1 = 6
        · have F := F.2.2.2.1 c11
          refine v_tableIn C 127 6 ⟨by decide, by decide⟩ c11 dX4_canBe_39 (by decide) (by decide) rfl (by decide) ?_
          refine v_aload_n C 0 rfl rfl dX4_canBe_127 ?_
          refine gX4_26 C (S_x0.ext E.1).k (S_x0.ext E.1).f1 dX4_canBe_128 ?_
          refine gX4_107 C ((SX.ext E.1).t129).k rfl dX4_canBe_131 ?_
          refine v_if_ne C 141 (EX.rI B (j := 7) ((SX.ext E.1).t129).k rfl) dX4_canBe_134 (by decide) (fun c10 => ?_) (fun c10 => ?_)
          · have F := F.1 (c10)
            refine v_iconst C dX4_canBe_141 ?_
            exact v_zret C (by decide) (Nat.le_refl _) (Nat.le_refl _) dX4_canBe_142 ⟨B, (by decide), F⟩
          · have F := F.2 (c10)
            refine v_iconst C dX4_canBe_137 ?_
            refine v_goto C 142 dX4_canBe_138 (by decide) ?_
            exact v_zret C (by decide) (Nat.le_refl _) (Nat.le_refl _) dX4_canBe_142 ⟨B, (by decide), F⟩
        have F := F.2.2.2.2 (by refine ⟨by assumption, by assumption, by assumption, by assumption⟩)
        have K13 : V G X 2 0 0 (QF G X 0 0 0 (PZ h0 P)) 143 [(0, rf x0), (1, iv x1)] [] h := by
          refine v_iconst C dX4_canBe_143 ?_
          exact v_zret C (by decide) (Nat.le_refl _) (Nat.le_refl _) dX4_canBe_144 ⟨B, (by decide), F⟩
        by_cases c14 : x1 = 3
        · exact v_tableIn C 143 3 ⟨by decide, by decide⟩ c14 dX4_canBe_39 (by decide) (by decide) rfl (by decide) K13
        by_cases c15 : x1 = 4
        · exact v_tableIn C 143 4 ⟨by decide, by decide⟩ c15 dX4_canBe_39 (by decide) (by decide) rfl (by decide) K13
        exact v_tableOut C 143 R1 (by omega) dX4_canBe_39 (by decide) K13
      · have F := F.2 (c3)
        refine v_iconst C dX4_canBe_28 ?_
        refine v_goto C 33 dX4_canBe_29 (by decide) ?_
        refine v_icmp_eq C 38 ⟨by decide, by decide⟩ ⟨by decide, by decide⟩ dX4_canBe_33 (by decide) (fun c => absurd c (by decide)) (fun _ => ?_)
        refine v_iconst C dX4_canBe_36 ?_
        exact v_zret C (by decide) (Nat.le_refl _) (Nat.le_refl _) dX4_canBe_37 ⟨B, (by decide), F⟩
    · have F := F.2 (c2)
      refine v_iconst C dX4_canBe_13 ?_
      refine v_goto C 18 dX4_canBe_14 (by decide) ?_
      refine v_aload_n C 0 rfl rfl dX4_canBe_18 ?_
      refine gX4_26 C (S_x0.ext E.1).k (S_x0.ext E.1).f1 dX4_canBe_19 ?_
      refine gX4_93 C ((SX.ext E.1).t129).k rfl dX4_canBe_22 ?_
      refine v_if_ne C 32 (EX.rI B (j := 0) ((SX.ext E.1).t129).k rfl) dX4_canBe_25 (by decide) (fun c16 => ?_) (fun c16 => ?_)
      · have F := F.1 (c16)
        refine v_iconst C dX4_canBe_32 ?_
        refine v_icmp_eq C 38 ⟨by decide, by decide⟩ ⟨by decide, by decide⟩ dX4_canBe_33 (by decide) (fun c => absurd c (by decide)) (fun _ => ?_)
        refine v_iconst C dX4_canBe_36 ?_
        exact v_zret C (by decide) (Nat.le_refl _) (Nat.le_refl _) dX4_canBe_37 ⟨B, (by decide), F⟩
      · have F := F.2 (c16)
        refine v_iconst C dX4_canBe_28 ?_
        refine v_goto C 33 dX4_canBe_29 (by decide) ?_
        refine v_icmp_eq C 38 ⟨by decide, by decide⟩ ⟨by decide, by decide⟩ dX4_canBe_33 (by decide) (fun _ => ?_) (fun c => absurd c (by decide))
        refine v_iload_n C 1 rfl rfl dX4_canBe_38 ?_
        by_cases c18 : x1 = 1
        · have F := F.1 c18
          refine v_tableIn C 76 1 ⟨by decide, by decide⟩ c18 dX4_canBe_39 (by decide) (by decide) rfl (by decide) ?_
          refine v_aload_n C 0 rfl rfl dX4_canBe_76 ?_
          refine gX4_26 C (S_x0.ext E.1).k (S_x0.ext E.1).f1 dX4_canBe_77 ?_
          refine gX4_98 C ((SX.ext E.1).t129).k rfl dX4_canBe_80 ?_
          refine v_iconst C dX4_canBe_83 ?_
          refine v_icmp_ge C 91 (EX.rI B (j := 3) ((SX.ext E.1).t129).k rfl) ⟨by decide, by decide⟩ dX4_canBe_84 (by decide) (fun c17 => ?_) (fun c17 => ?_)
          · have F := F.1 (c17)
            refine v_iconst C dX4_canBe_91 ?_
            exact v_zret C (by decide) (Nat.le_refl _) (Nat.le_refl _) dX4_canBe_92 ⟨B, (by decide), F⟩
          · have F := F.2 (c17)
            refine v_iconst C dX4_canBe_87 ?_
            refine v_goto C 92 dX4_canBe_88 (by decide) ?_
            exact v_zret C (by decide) (Nat.le_refl _) (Nat.le_refl _) dX4_canBe_92 ⟨B, (by decide), F⟩
        by_cases c20 : x1 = 2
        · have F := F.2.1 c20
          refine v_tableIn C 93 2 ⟨by decide, by decide⟩ c20 dX4_canBe_39 (by decide) (by decide) rfl (by decide) ?_
          refine v_aload_n C 0 rfl rfl dX4_canBe_93 ?_
          refine gX4_26 C (S_x0.ext E.1).k (S_x0.ext E.1).f1 dX4_canBe_94 ?_
          refine gX4_101 C ((SX.ext E.1).t129).k rfl dX4_canBe_97 ?_
          refine v_iconst C dX4_canBe_100 ?_
          refine v_icmp_ge C 108 (EX.rI B (j := 5) ((SX.ext E.1).t129).k rfl) ⟨by decide, by decide⟩ dX4_canBe_101 (by decide) (fun c19 => ?_) (fun c19 => ?_)
          · have F := F.1 (c19)
            refine v_iconst C dX4_canBe_108 ?_
            exact v_zret C (by decide) (Nat.le_refl _) (Nat.le_refl _) dX4_canBe_109 ⟨B, (by decide), F⟩
          · have F := F.2 (c19)
            refine v_iconst C dX4_canBe_104 ?_
            refine v_goto C 109 dX4_canBe_105 (by decide) ?_
            exact v_zret C (by decide) (Nat.le_refl _) (Nat.le_refl _) dX4_canBe_109 ⟨B, (by decide), F⟩
        by_cases c22 : x1 = 5
        · have F := F.2.2.1 c22
          refine v_tableIn C 110 5 ⟨by decide, by decide⟩ c22 dX4_canBe_39 (by decide) (by decide) rfl (by decide) ?_
          refine v_aload_n C 0 rfl rfl dX4_canBe_110 ?_
          refine gX4_26 C (S_x0.ext E.1).k (S_x0.ext E.1).f1 dX4_canBe_111 ?_
          refine gX4_104 C ((SX.ext E.1).t129).k rfl dX4_canBe_114 ?_
          refine v_iconst C dX4_canBe_117 ?_
          refine v_icmp_ge C 125 (EX.rI B (j := 6) ((SX.ext E.1).t129).k rfl) ⟨by decide, by decide⟩ dX4_canBe_118 (by decide) (fun c21 => ?_) (fun c21 => ?_)
          · have F := F.1 (c21)
            refine v_iconst C dX4_canBe_125 ?_
            exact v_zret C (by decide) (Nat.le_refl _) (Nat.le_refl _) dX4_canBe_126 ⟨B, (by decide), F⟩
          · have F := F.2 (c21)
            refine v_iconst C dX4_canBe_121 ?_
            refine v_goto C 126 dX4_canBe_122 (by decide) ?_
            exact v_zret C (by decide) (Nat.le_refl _) (Nat.le_refl _) dX4_canBe_126 ⟨B, (by decide), F⟩
        by_cases c24 : x1 = 6
        · have F := F.2.2.2.1 c24
          refine v_tableIn C 127 6 ⟨by decide, by decide⟩ c24 dX4_canBe_39 (by decide) (by decide) rfl (by decide) ?_
          refine v_aload_n C 0 rfl rfl dX4_canBe_127 ?_
          refine gX4_26 C (S_x0.ext E.1).k (S_x0.ext E.1).f1 dX4_canBe_128 ?_
          refine gX4_107 C ((SX.ext E.1).t129).k rfl dX4_canBe_131 ?_
          refine v_if_ne C 141 (EX.rI B (j := 7) ((SX.ext E.1).t129).k rfl) dX4_canBe_134 (by decide) (fun c23 => ?_) (fun c23 => ?_)
          · have F := F.1 (c23)
            refine v_iconst C dX4_canBe_141 ?_
            exact v_zret C (by decide) (Nat.le_refl _) (Nat.le_refl _) dX4_canBe_142 ⟨B, (by decide), F⟩
          · have F := F.2 (c23)
            refine v_iconst C dX4_canBe_137 ?_
            refine v_goto C 142 dX4_canBe_138 (by decide) ?_
            exact v_zret C (by decide) (Nat.le_refl _) (Nat.le_refl _) dX4_canBe_142 ⟨B, (by decide), F⟩
        have F := F.2.2.2.2 (by refine ⟨by assumption, by assumption, by assumption, by assumption⟩)
        have K26 : V G X 2 0 0 (QF G X 0 0 0 (PZ h0 P)) 143 [(0, rf x0), (1, iv x1)] [] h := by
          refine v_iconst C dX4_canBe_143 ?_
          exact v_zret C (by decide) (Nat.le_refl _) (Nat.le_refl _) dX4_canBe_144 ⟨B, (by decide), F⟩
        by_cases c27 : x1 = 3
        · exact v_tableIn C 143 3 ⟨by decide, by decide⟩ c27 dX4_canBe_39 (by decide) (by decide) rfl (by decide) K26
        by_cases c28 : x1 = 4
        · exact v_tableIn C 143 4 ⟨by decide, by decide⟩ c28 dX4_canBe_39 (by decide) (by decide) rfl (by decide) K26
        exact v_tableOut C 143 R1 (by omega) dX4_canBe_39 (by decide) K26
set_option maxHeartbeats 1000000 in
theorem eX4_canBe {G : GT} {l : Launch} {x0 x1 : Int} {h : Mem} {P : Int → Mem → Prop} (F : ∀ X : MX, Cx G X cX4_canBe 2 RX4 0 0 0 (some .boolean) "canBe" → X.2.1 = l → (EX h h ∧ R32 x1) →
    TextS h x0 ∧ XS h ∧ ((h x0 5 ≥ 40 → P 0 h) ∧ (h x0 5 < 40 → ((x1 ≠ 0 → ((h 129 0 ≠ 0 → ((x1 = 1 → ((h 129 3 ≥ 4 → P 0 h) ∧ (h 129 3 < 4 → P 1 h))) ∧ (x1 = 2 → ((h 129 5 ≥ 4 → P 0 h) ∧ (h 129 5 < 4 → P 1 h))) ∧ (x1 = 5 → ((h 129 6 ≥ 5 → P 0 h) ∧ (h 129 6 < 5 → P 1 h))) ∧ (x1 = 6 → ((h 129 7 ≠ 0 → P 0 h) ∧ (h 129 7 = 0 → P 1 h))) ∧ (x1 ≠ 1 ∧ x1 ≠ 2 ∧ x1 ≠ 5 ∧ x1 ≠ 6 → P 1 h))) ∧ (h 129 0 = 0 → P 0 h))) ∧ (x1 = 0 → ((h 129 0 ≠ 0 → P 0 h) ∧ (h 129 0 = 0 → ((x1 = 1 → ((h 129 3 ≥ 4 → P 0 h) ∧ (h 129 3 < 4 → P 1 h))) ∧ (x1 = 2 → ((h 129 5 ≥ 4 → P 0 h) ∧ (h 129 5 < 4 → P 1 h))) ∧ (x1 = 5 → ((h 129 6 ≥ 5 → P 0 h) ∧ (h 129 6 < 5 → P 1 h))) ∧ (x1 = 6 → ((h 129 7 ≠ 0 → P 0 h) ∧ (h 129 7 = 0 → P 1 h))) ∧ (x1 ≠ 1 ∧ x1 ≠ 2 ∧ x1 ≠ 5 ∧ x1 ≠ 6 → P 1 h))))))))) :
    kX4_canBe G l x0 x1 h P := by
  intro R1
  refine ct_of (by decide +kernel) (Nat.le_of_ble_eq_true rfl) fun X C e => ?_
  refine v_okz fun O => ?_
  exact wX4_canBe_0 C ⟨EX.rf O, R1⟩ (F X C e ⟨EX.rf O, R1⟩)
set_option maxHeartbeats 4000000 in
theorem wX4_demand_0 {G : GT} {X : MX} {h0 h : Mem} {P : Int → Mem → Prop} {PX : Mem → Prop} {x0 x1 x2 x3 : Int} (C : Cx G X cX4_demand 4 RX4 0 0 0 none "demand") (N : NoH X) (B0 : EX h0 h ∧ R32 x1 ∧ R32 x2 ∧ R32 x3)
    (F : TextS h x0 ∧ XS h ∧ ((x1 = 0 → ∀ h2 : Mem, h2 = up h 166 6 x2 → ∀ h5 : Mem, h5 = up h2 166 7 x3 → PX h5) ∧ (x1 ≠ 0 → P 0 h))) :
    V G X 4 0 0 (QX G X 3 0 0 (PR h0 P) (PE h0 PX)) 0 [(0, rf x0), (1, iv x1), (2, iv x2), (3, iv x3)] [] h := by
  obtain ⟨B, R1, R2, R3⟩ := B0
  have E : EX h h := EX.rf B.2
  obtain ⟨S_x0, F⟩ := F
  obtain ⟨SX, F⟩ := F
  refine v_iload_n C 1 rfl rfl dX4_demand_0 ?_
  refine v_if_eq C 5 R1 dX4_demand_1 (by decide) (fun c1 => ?_) (fun c1 => ?_)
  · have F := F.1 (c1)
    refine v_aload_n C 0 rfl rfl dX4_demand_5 ?_
    refine gX4_3 C (S_x0.ext E.1).k (S_x0.ext E.1).f6 dX4_demand_6 ?_
    refine gX4_29 C (SX.ext E.1).k1 (SX.ext E.1).f9 dX4_demand_9 ?_
    refine v_iload_n C 2 rfl rfl dX4_demand_12 ?_
    refine pX4_33 C (SX.ext E.1).k166 (okI_i rfl R2) dX4_demand_13 ?_
    obtain ⟨h2, eh2⟩ : ∃ m : Mem, m = up h 166 6 x2 := ⟨_, rfl⟩
    have B3 : EX h0 h2 := by rw [eh2]; exact EX_up B (SX.ext E.1).k166 (by decide) rfl (by decide) (okI_i rfl R2)
    have E4 : EX h h2 := by rw [eh2]; exact EX_up E (SX.ext E.1).k166 (by decide) rfl (by decide) (okI_i rfl R2)
    refine v_mem eh2 ?_
    have F := F h2 eh2
    refine v_aload_n C 0 rfl rfl dX4_demand_16 ?_
    refine gX4_3 C (S_x0.ext E4.1).k (S_x0.ext E4.1).f6 dX4_demand_17 ?_
    refine gX4_29 C (SX.ext E4.1).k1 (SX.ext E4.1).f9 dX4_demand_20 ?_
    refine v_iload_n C 3 rfl rfl dX4_demand_23 ?_
    refine pX4_39 C (SX.ext E4.1).k166 (okI_i rfl R3) dX4_demand_24 ?_
    obtain ⟨h5, eh5⟩ : ∃ m : Mem, m = up h2 166 7 x3 := ⟨_, rfl⟩
    have B6 : EX h0 h5 := by rw [eh5]; exact EX_up B3 (SX.ext E4.1).k166 (by decide) rfl (by decide) (okI_i rfl R3)
    have E7 : EX h h5 := by rw [eh5]; exact EX_up E4 (SX.ext E4.1).k166 (by decide) rfl (by decide) (okI_i rfl R3)
    refine v_mem eh5 ?_
    have F := F h5 eh5
    refine v_aload_n C 0 rfl rfl dX4_demand_27 ?_
    refine gX4_3 C (S_x0.ext E7.1).k (S_x0.ext E7.1).f6 dX4_demand_28 ?_
    refine gX4_29 C (SX.ext E7.1).k1 (SX.ext E7.1).f9 dX4_demand_31 ?_
    exact v_athrow C N (SX.ext E7.1).k166 (Nat.le_refl _) (Nat.le_refl _) dX4_demand_34 ⟨B6, F⟩
  · have F := F.2 (c1)
    refine V.toX ?_
    exact v_vret C (Nat.le_refl _) (Nat.le_refl _) dX4_demand_4 ⟨B, F⟩
set_option maxHeartbeats 1000000 in
theorem eX4_demand {G : GT} {l : Launch} {x0 x1 x2 x3 : Int} {h : Mem} {P : Int → Mem → Prop} {PX : Mem → Prop} (F : ∀ X : MX, Cx G X cX4_demand 4 RX4 0 0 0 none "demand" → NoH X → X.2.1 = l → (EX h h ∧ R32 x1 ∧ R32 x2 ∧ R32 x3) →
    TextS h x0 ∧ XS h ∧ ((x1 = 0 → ∀ h2 : Mem, h2 = up h 166 6 x2 → ∀ h5 : Mem, h5 = up h2 166 7 x3 → PX h5) ∧ (x1 ≠ 0 → P 0 h))) :
    kX4_demand G l x0 x1 x2 x3 h P PX := by
  intro R1 R2 R3
  refine ct_ofX (by decide +kernel) (Nat.le_of_ble_eq_true rfl) fun X C N e => ?_
  refine v_okz fun O => ?_
  exact wX4_demand_0 C N ⟨EX.rf O, R1, R2, R3⟩ (F X C N e ⟨EX.rf O, R1, R2, R3⟩)
set_option maxHeartbeats 4000000 in
theorem wX4_isDigit_0 {G : GT} {X : MX} {h0 h : Mem} {P : Int → Mem → Prop} {x0 x1 : Int} (C : Cx G X cX4_isDigit 2 RX4 0 0 0 (some .boolean) "isDigit") (B0 : EX h0 h ∧ R32 x1)
    (F : TextS h x0 ∧ XS h ∧ ((x1 ≥ h 1 11 → P 0 h) ∧ (x1 < h 1 11 → 0 ≤ x1 ∧ x1 < 400 ∧ ((h 167 x1 < 48 → P 0 h) ∧ (h 167 x1 ≥ 48 → ((h 167 x1 > 57 → P 0 h) ∧ (h 167 x1 ≤ 57 → P 1 h))))))) :
    V G X 2 0 0 (QF G X 0 0 0 (PZ h0 P)) 0 [(0, rf x0), (1, iv x1)] [] h := by
  obtain ⟨B, R1⟩ := B0
  have E : EX h h := EX.rf B.2
  obtain ⟨S_x0, F⟩ := F
  obtain ⟨SX, F⟩ := F
  refine v_iload_n C 1 rfl rfl dX4_isDigit_0 ?_
  refine v_aload_n C 0 rfl rfl dX4_isDigit_1 ?_
  refine gX4_3 C (S_x0.ext E.1).k (S_x0.ext E.1).f6 dX4_isDigit_2 ?_
  refine gX4_45 C (SX.ext E.1).k1 rfl dX4_isDigit_5 ?_
  refine v_icmp_ge C 43 R1 (EX.rI B (j := 11) (SX.ext E.1).k1 rfl) dX4_isDigit_8 (by decide) (fun c1 => ?_) (fun c1 => ?_)
  · have F := F.1 (c1)
    refine v_iconst C dX4_isDigit_43 ?_
    exact v_zret C (by decide) (Nat.le_refl _) (Nat.le_refl _) dX4_isDigit_44 ⟨B, (by decide), F⟩
  · have F := F.2 (c1)
    refine v_aload_n C 0 rfl rfl dX4_isDigit_11 ?_
    refine gX4_3 C (S_x0.ext E.1).k (S_x0.ext E.1).f6 dX4_isDigit_12 ?_
    refine gX4_48 C (SX.ext E.1).k1 (SX.ext E.1).f10 dX4_isDigit_15 ?_
    refine v_iload_n C 1 rfl rfl dX4_isDigit_18 ?_
    obtain ⟨o2, F⟩ := F
    obtain ⟨o3, F⟩ := F
    refine v_bald C (SX.ext E.1).k167 o2 (by rw [(SX.ext E.1).l167]; exact o3) rfl dX4_isDigit_19 ?_
    refine v_bipush C rfl dX4_isDigit_20 ?_
    refine v_icmp_lt C 43 (EX.rI B (j := x1) (SX.ext E.1).k167 rfl) ⟨by decide, by decide⟩ dX4_isDigit_22 (by decide) (fun c4 => ?_) (fun c4 => ?_)
    · have F := F.1 (c4)
      refine v_iconst C dX4_isDigit_43 ?_
      exact v_zret C (by decide) (Nat.le_refl _) (Nat.le_refl _) dX4_isDigit_44 ⟨B, (by decide), F⟩
    · have F := F.2 (c4)
      refine v_aload_n C 0 rfl rfl dX4_isDigit_25 ?_
      refine gX4_3 C (S_x0.ext E.1).k (S_x0.ext E.1).f6 dX4_isDigit_26 ?_
      refine gX4_48 C (SX.ext E.1).k1 (SX.ext E.1).f10 dX4_isDigit_29 ?_
      refine v_iload_n C 1 rfl rfl dX4_isDigit_32 ?_
      refine v_bald C (SX.ext E.1).k167 o2 (by rw [(SX.ext E.1).l167]; exact o3) rfl dX4_isDigit_33 ?_
      refine v_bipush C rfl dX4_isDigit_34 ?_
      refine v_icmp_gt C 43 (EX.rI B (j := x1) (SX.ext E.1).k167 rfl) ⟨by decide, by decide⟩ dX4_isDigit_36 (by decide) (fun c5 => ?_) (fun c5 => ?_)
      · have F := F.1 (c5)
        refine v_iconst C dX4_isDigit_43 ?_
        exact v_zret C (by decide) (Nat.le_refl _) (Nat.le_refl _) dX4_isDigit_44 ⟨B, (by decide), F⟩
      · have F := F.2 (c5)
        refine v_iconst C dX4_isDigit_39 ?_
        refine v_goto C 44 dX4_isDigit_40 (by decide) ?_
        exact v_zret C (by decide) (Nat.le_refl _) (Nat.le_refl _) dX4_isDigit_44 ⟨B, (by decide), F⟩
set_option maxHeartbeats 1000000 in
theorem eX4_isDigit {G : GT} {l : Launch} {x0 x1 : Int} {h : Mem} {P : Int → Mem → Prop} (F : ∀ X : MX, Cx G X cX4_isDigit 2 RX4 0 0 0 (some .boolean) "isDigit" → X.2.1 = l → (EX h h ∧ R32 x1) →
    TextS h x0 ∧ XS h ∧ ((x1 ≥ h 1 11 → P 0 h) ∧ (x1 < h 1 11 → 0 ≤ x1 ∧ x1 < 400 ∧ ((h 167 x1 < 48 → P 0 h) ∧ (h 167 x1 ≥ 48 → ((h 167 x1 > 57 → P 0 h) ∧ (h 167 x1 ≤ 57 → P 1 h))))))) :
    kX4_isDigit G l x0 x1 h P := by
  intro R1
  refine ct_of (by decide +kernel) (Nat.le_of_ble_eq_true rfl) fun X C e => ?_
  refine v_okz fun O => ?_
  exact wX4_isDigit_0 C ⟨EX.rf O, R1⟩ (F X C e ⟨EX.rf O, R1⟩)
set_option maxHeartbeats 4000000 in
theorem wX4_see_0 {G : GT} {X : MX} {h0 h : Mem} {P : Int → Mem → Prop} {x0 : Int} (C : Cx G X cX4_see 1 RX4 0 0 0 (some .int) "see") (B0 : EX h0 h)
    (F : (EX h0 h → V G X 1 0 0 (QF G X 0 0 0 (PI h0 P)) 0 [(0, rf x0)] [] h)) :
    V G X 1 0 0 (QF G X 0 0 0 (PI h0 P)) 0 [(0, rf x0)] [] h := by
  have B := B0
  have E : EX h h := EX.rf B.2
  refine v_sub (lv2 := [(0, rf x0)]) [0] rfl ?_
  exact F B
set_option maxHeartbeats 4000000 in
theorem wX4_see_L0 {G : GT} {X : MX} {h0 h : Mem} {P : Int → Mem → Prop} {x0 : Int} (C : Cx G X cX4_see 1 RX4 0 0 0 (some .int) "see") (B0 : EX h0 h)
    (F : TextS h x0 ∧ XS h ∧ ((h x0 2 ≥ h 1 11 → ((h x0 2 ≥ h 1 11 → P (-1) h) ∧ (h x0 2 < h 1 11 → 0 ≤ h x0 2 ∧ h x0 2 < 400 ∧ P (bAnd (h 167 (h x0 2)) 255) h))) ∧ (h x0 2 < h 1 11 → 0 ≤ h x0 2 ∧ h x0 2 < 400 ∧ ((h 167 (h x0 2) ≠ 32 → ((h x0 2 ≥ h 1 11 → P (-1) h) ∧ (h x0 2 < h 1 11 → P (bAnd (h 167 (h x0 2)) 255) h))) ∧ (h 167 (h x0 2) = 32 → R32 (h x0 2 + 1) ∧ ∀ h10 : Mem, h10 = up h x0 2 (h x0 2 + 1) → (EX h0 h10 → V G X 1 0 0 (QF G X 0 0 0 (PI h0 P)) 0 [(0, rf x0)] [] h10)))))) :
    V G X 1 0 0 (QF G X 0 0 0 (PI h0 P)) 0 [(0, rf x0)] [] h := by
  have B := B0
  have E : EX h h := EX.rf B.2
  obtain ⟨S_x0, F⟩ := F
  obtain ⟨SX, F⟩ := F
  refine v_aload_n C 0 rfl rfl dX4_see_0 ?_
  refine gX4_42 C (S_x0.ext E.1).k rfl dX4_see_1 ?_
  refine v_aload_n C 0 rfl rfl dX4_see_4 ?_
  refine gX4_3 C (S_x0.ext E.1).k (S_x0.ext E.1).f6 dX4_see_5 ?_
  refine gX4_45 C (SX.ext E.1).k1 rfl dX4_see_8 ?_
  refine v_icmp_ge C 44 (EX.rI B (j := 2) (S_x0.ext E.1).k rfl) (EX.rI B (j := 11) (SX.ext E.1).k1 rfl) dX4_see_11 (by decide) (fun c1 => ?_) (fun c1 => ?_)
  · have F := F.1 (c1)
    refine v_aload_n C 0 rfl rfl dX4_see_44 ?_
    refine gX4_42 C (S_x0.ext E.1).k rfl dX4_see_45 ?_
    refine v_aload_n C 0 rfl rfl dX4_see_48 ?_
    refine gX4_3 C (S_x0.ext E.1).k (S_x0.ext E.1).f6 dX4_see_49 ?_
    refine gX4_45 C (SX.ext E.1).k1 rfl dX4_see_52 ?_
    refine v_icmp_ge C 77 (EX.rI B (j := 2) (S_x0.ext E.1).k rfl) (EX.rI B (j := 11) (SX.ext E.1).k1 rfl) dX4_see_55 (by decide) (fun c2 => ?_) (fun c2 => ?_)
    · have F := F.1 (c2)
      refine v_iconst C dX4_see_77 ?_
      exact v_iret C (Nat.le_refl _) (Nat.le_refl _) dX4_see_78 ⟨B, ⟨by decide, by decide⟩, F⟩
    · have F := F.2 (c2)
      refine v_aload_n C 0 rfl rfl dX4_see_58 ?_
      refine gX4_3 C (S_x0.ext E.1).k (S_x0.ext E.1).f6 dX4_see_59 ?_
      refine gX4_48 C (SX.ext E.1).k1 (SX.ext E.1).f10 dX4_see_62 ?_
      refine v_aload_n C 0 rfl rfl dX4_see_65 ?_
      refine gX4_42 C (S_x0.ext E.1).k rfl dX4_see_66 ?_
      obtain ⟨o3, F⟩ := F
      obtain ⟨o4, F⟩ := F
      refine v_bald C (SX.ext E.1).k167 o3 (by rw [(SX.ext E.1).l167]; exact o4) rfl dX4_see_69 ?_
      refine v_sipush C rfl dX4_see_70 ?_
      refine v_iand C dX4_see_73 ?_
      refine v_goto C 78 dX4_see_74 (by decide) ?_
      exact v_iret C (Nat.le_refl _) (Nat.le_refl _) dX4_see_78 ⟨B, (R32_toInt _), F⟩
  · have F := F.2 (c1)
    refine v_aload_n C 0 rfl rfl dX4_see_14 ?_
    refine gX4_3 C (S_x0.ext E.1).k (S_x0.ext E.1).f6 dX4_see_15 ?_
    refine gX4_48 C (SX.ext E.1).k1 (SX.ext E.1).f10 dX4_see_18 ?_
    refine v_aload_n C 0 rfl rfl dX4_see_21 ?_
    refine gX4_42 C (S_x0.ext E.1).k rfl dX4_see_22 ?_
    obtain ⟨o5, F⟩ := F
    obtain ⟨o6, F⟩ := F
    refine v_bald C (SX.ext E.1).k167 o5 (by rw [(SX.ext E.1).l167]; exact o6) rfl dX4_see_25 ?_
    refine v_bipush C rfl dX4_see_26 ?_
    refine v_icmp_ne C 44 (EX.rI B (j := h x0 2) (SX.ext E.1).k167 rfl) ⟨by decide, by decide⟩ dX4_see_28 (by decide) (fun c7 => ?_) (fun c7 => ?_)
    · have F := F.1 (c7)
      refine v_aload_n C 0 rfl rfl dX4_see_44 ?_
      refine gX4_42 C (S_x0.ext E.1).k rfl dX4_see_45 ?_
      refine v_aload_n C 0 rfl rfl dX4_see_48 ?_
      refine gX4_3 C (S_x0.ext E.1).k (S_x0.ext E.1).f6 dX4_see_49 ?_
      refine gX4_45 C (SX.ext E.1).k1 rfl dX4_see_52 ?_
      refine v_icmp_ge C 77 (EX.rI B (j := 2) (S_x0.ext E.1).k rfl) (EX.rI B (j := 11) (SX.ext E.1).k1 rfl) dX4_see_55 (by decide) (fun c8 => ?_) (fun c8 => ?_)
      · have F := F.1 (c8)
        refine v_iconst C dX4_see_77 ?_
        exact v_iret C (Nat.le_refl _) (Nat.le_refl _) dX4_see_78 ⟨B, ⟨by decide, by decide⟩, F⟩
      · have F := F.2 (c8)
        refine v_aload_n C 0 rfl rfl dX4_see_58 ?_
        refine gX4_3 C (S_x0.ext E.1).k (S_x0.ext E.1).f6 dX4_see_59 ?_
        refine gX4_48 C (SX.ext E.1).k1 (SX.ext E.1).f10 dX4_see_62 ?_
        refine v_aload_n C 0 rfl rfl dX4_see_65 ?_
        refine gX4_42 C (S_x0.ext E.1).k rfl dX4_see_66 ?_
        refine v_bald C (SX.ext E.1).k167 o5 (by rw [(SX.ext E.1).l167]; exact o6) rfl dX4_see_69 ?_
        refine v_sipush C rfl dX4_see_70 ?_
        refine v_iand C dX4_see_73 ?_
        refine v_goto C 78 dX4_see_74 (by decide) ?_
        exact v_iret C (Nat.le_refl _) (Nat.le_refl _) dX4_see_78 ⟨B, (R32_toInt _), F⟩
    · have F := F.2 (c7)
      refine v_aload_n C 0 rfl rfl dX4_see_31 ?_
      refine v_dup C (rf_n1 _) dX4_see_32 ?_
      refine gX4_42 C (S_x0.ext E.1).k rfl dX4_see_33 ?_
      refine v_iconst C dX4_see_36 ?_
      refine v_iadd C dX4_see_37 ?_
      obtain ⟨o9, F⟩ := F
      refine pX4_42 C (S_x0.ext E.1).k (okI_i rfl o9) dX4_see_38 ?_
      obtain ⟨h10, eh10⟩ : ∃ m : Mem, m = up h x0 2 (h x0 2 + 1) := ⟨_, rfl⟩
      have B11 : EX h0 h10 := by rw [eh10]; exact EX_up B (S_x0.ext E.1).k (by decide) rfl (by decide) (okI_i rfl o9)
      have E12 : EX h h10 := by rw [eh10]; exact EX_up E (S_x0.ext E.1).k (by decide) rfl (by decide) (okI_i rfl o9)
      refine v_mem eh10 ?_
      have F := F h10 eh10
      refine v_goto C 0 dX4_see_41 (by decide) ?_
      refine v_sub (lv2 := [(0, rf x0)]) [0] rfl ?_
      exact F B11
set_option maxHeartbeats 1000000 in
theorem eX4_see {G : GT} {l : Launch} {x0 : Int} {h : Mem} {P : Int → Mem → Prop} (F : ∀ X : MX, Cx G X cX4_see 1 RX4 0 0 0 (some .int) "see" → X.2.1 = l → (EX h h) →
    (EX h h → V G X 1 0 0 (QF G X 0 0 0 (PI h P)) 0 [(0, rf x0)] [] h)) :
    kX4_see G l x0 h P := by
  refine ct_of (by decide +kernel) (Nat.le_of_ble_eq_true rfl) fun X C e => ?_
  refine v_okz fun O => ?_
  exact wX4_see_0 C (EX.rf O) (F X C e (EX.rf O))
set_option maxHeartbeats 4000000 in
theorem wX4_ends_0 {G : GT} {X : MX} {h0 h : Mem} {P : Int → Mem → Prop} {PX : Mem → Prop} {x0 : Int} (C : Cx G X cX4_ends 1 RX4 1 0 0 none "ends") (N : NoH X) (B0 : EX h0 h)
    (F : TextS h x0 ∧ kX4_see G X.2.1 x0 h (fun r1 h2 => EX h h2 → ((r1 ≠ (-1) → kX4_demand G X.2.1 x0 0 0 (h2 x0 2) h2 (fun _ h9 => EX h2 h9 → P 0 h9) PX) ∧ (r1 = (-1) → kX4_demand G X.2.1 x0 1 0 (h2 x0 2) h2 (fun _ h15 => EX h2 h15 → P 0 h15) PX)))) :
    V G X 1 0 0 (QX G X 3 0 0 (PR h0 P) (PE h0 PX)) 0 [(0, rf x0)] [] h := by
  have B := B0
  have E : EX h h := EX.rf B.2
  obtain ⟨S_x0, F⟩ := F
  refine v_aload_n C 0 rfl rfl dX4_ends_0 ?_
  refine v_aload_n C 0 rfl rfl dX4_ends_1 ?_
  refine mX4_52 C (S_x0.ext E.1).k (d2 := 0) (kc2 := 0) (ks2 := 0) (by decide) (Nat.le_refl _) (Nat.le_refl _) (Nat.le_of_ble_eq_true rfl) dX4_ends_2 (Ct.mono (F) ?_)
  rintro r1 h2 ⟨e3, g4, F⟩
  have F := F e3
  have B5 := B.tr e3
  have E6 := E.tr e3
  refine v_iconst C dX4_ends_5 ?_
  refine v_icmp_ne C 13 g4 ⟨by decide, by decide⟩ dX4_ends_6 (by decide) (fun c7 => ?_) (fun c7 => ?_)
  · have F := F.1 (c7)
    refine v_iconst C dX4_ends_13 ?_
    refine v_iconst C dX4_ends_14 ?_
    refine v_aload_n C 0 rfl rfl dX4_ends_15 ?_
    refine gX4_42 C (S_x0.ext E6.1).k rfl dX4_ends_16 ?_
    refine tX4_76 C N (S_x0.ext E6.1).k (d2 := 0) (kc2 := 0) (ks2 := 0) (by decide) (Nat.le_refl _) (Nat.le_refl _) (Nat.le_of_ble_eq_true rfl) dX4_ends_19 (CtX.mono (F ⟨by decide, by decide⟩ ⟨by decide, by decide⟩ (EX.rI B5 (j := 2) (S_x0.ext E6.1).k rfl)) ?_ ?_)
    · rintro r8 h9 ⟨e10, F⟩
      have F := F e10
      have B12 := B5.tr e10
      have E13 := E6.tr e10
      refine V.toX ?_
      exact v_vret C (Nat.le_refl _) (Nat.le_refl _) dX4_ends_22 ⟨B12, F⟩
    · exact fun h9 F9 => ⟨B5.tr F9.1, F9.2⟩
  · have F := F.2 (c7)
    refine v_iconst C dX4_ends_9 ?_
    refine v_goto C 14 dX4_ends_10 (by decide) ?_
    refine v_iconst C dX4_ends_14 ?_
    refine v_aload_n C 0 rfl rfl dX4_ends_15 ?_
    refine gX4_42 C (S_x0.ext E6.1).k rfl dX4_ends_16 ?_
    refine tX4_76 C N (S_x0.ext E6.1).k (d2 := 0) (kc2 := 0) (ks2 := 0) (by decide) (Nat.le_refl _) (Nat.le_refl _) (Nat.le_of_ble_eq_true rfl) dX4_ends_19 (CtX.mono (F ⟨by decide, by decide⟩ ⟨by decide, by decide⟩ (EX.rI B5 (j := 2) (S_x0.ext E6.1).k rfl)) ?_ ?_)
    · rintro r14 h15 ⟨e16, F⟩
      have F := F e16
      have B18 := B5.tr e16
      have E19 := E6.tr e16
      refine V.toX ?_
      exact v_vret C (Nat.le_refl _) (Nat.le_refl _) dX4_ends_22 ⟨B18, F⟩
    · exact fun h9 F9 => ⟨B5.tr F9.1, F9.2⟩
set_option maxHeartbeats 1000000 in
theorem eX4_ends {G : GT} {l : Launch} {x0 : Int} {h : Mem} {P : Int → Mem → Prop} {PX : Mem → Prop} (F : ∀ X : MX, Cx G X cX4_ends 1 RX4 1 0 0 none "ends" → NoH X → X.2.1 = l → (EX h h) →
    TextS h x0 ∧ kX4_see G X.2.1 x0 h (fun r1 h2 => EX h h2 → ((r1 ≠ (-1) → kX4_demand G X.2.1 x0 0 0 (h2 x0 2) h2 (fun _ h9 => EX h2 h9 → P 0 h9) PX) ∧ (r1 = (-1) → kX4_demand G X.2.1 x0 1 0 (h2 x0 2) h2 (fun _ h15 => EX h2 h15 → P 0 h15) PX)))) :
    kX4_ends G l x0 h P PX := by
  refine ct_ofX (by decide +kernel) (Nat.le_of_ble_eq_true rfl) fun X C N e => ?_
  refine v_okz fun O => ?_
  exact wX4_ends_0 C N (EX.rf O) (F X C N e (EX.rf O))
set_option maxHeartbeats 4000000 in
theorem wX4_letters_0 {G : GT} {X : MX} {h0 h : Mem} {P : Int → Mem → Prop} {x0 : Int} (C : Cx G X cX4_letters 2 RX4 1 0 0 (some .int) "letters") (B0 : EX h0 h)
    (F : TextS h x0 ∧ kX4_see G X.2.1 x0 h (fun r1 h2 => EX h h2 → (EX h0 h2 ∧ R32 0 → V G X 2 0 0 (QF G X 0 0 0 (PI h0 P)) 7 [(0, rf x0), (1, iv 0)] [] h2))) :
    V G X 2 0 0 (QF G X 0 0 0 (PI h0 P)) 0 [(0, rf x0)] [] h := by
  have B := B0
  have E : EX h h := EX.rf B.2
  obtain ⟨S_x0, F⟩ := F
  refine v_aload_n C 0 rfl rfl dX4_letters_0 ?_
  refine mX4_52 C (S_x0.ext E.1).k (d2 := 0) (kc2 := 0) (ks2 := 0) (by decide) (Nat.le_refl _) (Nat.le_refl _) (Nat.le_of_ble_eq_true rfl) dX4_letters_1 (Ct.mono (F) ?_)
  rintro r1 h2 ⟨e3, g4, F⟩
  have F := F e3
  have B5 := B.tr e3
  have E6 := E.tr e3
  refine v_pop C (iv_n1 _) dX4_letters_4 ?_
  refine v_iconst C dX4_letters_5 ?_
  refine v_istore_n C rfl (by decide) dX4_letters_6 (lv2 := [(1, iv 0), (0, rf x0)]) rfl ?_
  refine v_sub (lv2 := [(0, rf x0), (1, iv 0)]) [1, 0] rfl ?_
  exact F ⟨B5, ⟨by decide, by decide⟩⟩
set_option maxHeartbeats 4000000 in
theorem wX4_letters_L7 {G : GT} {X : MX} {h0 h : Mem} {P : Int → Mem → Prop} {x0 x1 : Int} (C : Cx G X cX4_letters 2 RX4 1 0 0 (some .int) "letters") (B0 : EX h0 h ∧ R32 x1)
    (F : TextS h x0 ∧ XS h ∧ R32 (h x0 2 + x1) ∧ ((h x0 2 + x1 ≥ h 1 11 → P x1 h) ∧ (h x0 2 + x1 < h 1 11 → 0 ≤ h x0 2 + x1 ∧ h x0 2 + x1 < 400 ∧ ((h 167 (h x0 2 + x1) < 97 → P x1 h) ∧ (h 167 (h x0 2 + x1) ≥ 97 → ((h 167 (h x0 2 + x1) > 122 → P x1 h) ∧ (h 167 (h x0 2 + x1) ≤ 122 → R32 (x1 + 1) ∧ (EX h0 h ∧ R32 (x1 + 1) → V G X 2 0 0 (QF G X 0 0 0 (PI h0 P)) 7 [(0, rf x0), (1, iv (x1 + 1))] [] h)))))))) :
    V G X 2 0 0 (QF G X 0 0 0 (PI h0 P)) 7 [(0, rf x0), (1, iv x1)] [] h := by
  obtain ⟨B, R1⟩ := B0
  have E : EX h h := EX.rf B.2
  obtain ⟨S_x0, F⟩ := F
  obtain ⟨SX, F⟩ := F
  refine v_aload_n C 0 rfl rfl dX4_letters_7 ?_
  refine gX4_42 C (S_x0.ext E.1).k rfl dX4_letters_8 ?_
  refine v_iload_n C 1 rfl rfl dX4_letters_11 ?_
  refine v_iadd C dX4_letters_12 ?_
  refine v_aload_n C 0 rfl rfl dX4_letters_13 ?_
  refine gX4_3 C (S_x0.ext E.1).k (S_x0.ext E.1).f6 dX4_letters_14 ?_
  refine gX4_45 C (SX.ext E.1).k1 rfl dX4_letters_17 ?_
  obtain ⟨o1, F⟩ := F
  refine v_icmp_ge C 67 o1 (EX.rI B (j := 11) (SX.ext E.1).k1 rfl) dX4_letters_20 (by decide) (fun c2 => ?_) (fun c2 => ?_)
  · have F := F.1 (c2)
    refine v_iload_n C 1 rfl rfl dX4_letters_67 ?_
    exact v_iret C (Nat.le_refl _) (Nat.le_refl _) dX4_letters_68 ⟨B, R1, F⟩
  · have F := F.2 (c2)
    refine v_aload_n C 0 rfl rfl dX4_letters_23 ?_
    refine gX4_3 C (S_x0.ext E.1).k (S_x0.ext E.1).f6 dX4_letters_24 ?_
    refine gX4_48 C (SX.ext E.1).k1 (SX.ext E.1).f10 dX4_letters_27 ?_
    refine v_aload_n C 0 rfl rfl dX4_letters_30 ?_
    refine gX4_42 C (S_x0.ext E.1).k rfl dX4_letters_31 ?_
    refine v_iload_n C 1 rfl rfl dX4_letters_34 ?_
    refine v_iadd C dX4_letters_35 ?_
    obtain ⟨o3, F⟩ := F
    obtain ⟨o4, F⟩ := F
    refine v_bald C (SX.ext E.1).k167 o3 (by rw [(SX.ext E.1).l167]; exact o4) rfl dX4_letters_36 ?_
    refine v_bipush C rfl dX4_letters_37 ?_
    refine v_icmp_lt C 67 (EX.rI B (j := h x0 2 + x1) (SX.ext E.1).k167 rfl) ⟨by decide, by decide⟩ dX4_letters_39 (by decide) (fun c5 => ?_) (fun c5 => ?_)
    · have F := F.1 (c5)
      refine v_iload_n C 1 rfl rfl dX4_letters_67 ?_
      exact v_iret C (Nat.le_refl _) (Nat.le_refl _) dX4_letters_68 ⟨B, R1, F⟩
    · have F := F.2 (c5)
      refine v_aload_n C 0 rfl rfl dX4_letters_42 ?_
      refine gX4_3 C (S_x0.ext E.1).k (S_x0.ext E.1).f6 dX4_letters_43 ?_
      refine gX4_48 C (SX.ext E.1).k1 (SX.ext E.1).f10 dX4_letters_46 ?_
      refine v_aload_n C 0 rfl rfl dX4_letters_49 ?_
      refine gX4_42 C (S_x0.ext E.1).k rfl dX4_letters_50 ?_
      refine v_iload_n C 1 rfl rfl dX4_letters_53 ?_
      refine v_iadd C dX4_letters_54 ?_
      refine v_bald C (SX.ext E.1).k167 o3 (by rw [(SX.ext E.1).l167]; exact o4) rfl dX4_letters_55 ?_
      refine v_bipush C rfl dX4_letters_56 ?_
      refine v_icmp_gt C 67 (EX.rI B (j := h x0 2 + x1) (SX.ext E.1).k167 rfl) ⟨by decide, by decide⟩ dX4_letters_58 (by decide) (fun c6 => ?_) (fun c6 => ?_)
      · have F := F.1 (c6)
        refine v_iload_n C 1 rfl rfl dX4_letters_67 ?_
        exact v_iret C (Nat.le_refl _) (Nat.le_refl _) dX4_letters_68 ⟨B, R1, F⟩
      · have F := F.2 (c6)
        obtain ⟨o7, F⟩ := F
        refine v_iinc C 1 rfl (by decide) dX4_letters_61 (lv2 := [(1, iv (x1 + 1)), (0, rf x0)]) rfl ?_
        refine v_goto C 7 dX4_letters_64 (by decide) ?_
        refine v_sub (lv2 := [(0, rf x0), (1, iv (x1 + 1))]) [1, 0] rfl ?_
        exact F ⟨B, o7⟩
set_option maxHeartbeats 1000000 in
theorem eX4_letters {G : GT} {l : Launch} {x0 : Int} {h : Mem} {P : Int → Mem → Prop} (F : ∀ X : MX, Cx G X cX4_letters 2 RX4 1 0 0 (some .int) "letters" → X.2.1 = l → (EX h h) →
    TextS h x0 ∧ kX4_see G X.2.1 x0 h (fun r1 h2 => EX h h2 → (EX h h2 ∧ R32 0 → V G X 2 0 0 (QF G X 0 0 0 (PI h P)) 7 [(0, rf x0), (1, iv 0)] [] h2))) :
    kX4_letters G l x0 h P := by
  refine ct_of (by decide +kernel) (Nat.le_of_ble_eq_true rfl) fun X C e => ?_
  refine v_okz fun O => ?_
  exact wX4_letters_0 C (EX.rf O) (F X C e (EX.rf O))
set_option maxHeartbeats 4000000 in
theorem wX4_makes_0 {G : GT} {X : MX} {h0 h : Mem} {P : Int → Mem → Prop} {PX : Mem → Prop} {x0 x1 : Int} (C : Cx G X cX4_makes 2 RX4 1 0 0 none "makes") (N : NoH X) (B0 : EX h0 h ∧ R32 x1)
    (F : TextS h x0 ∧ ((h x0 4 ≥ 60 → kX4_demand G X.2.1 x0 0 3 x1 h (fun _ h3 => EX h h3 → R32 (h3 x0 4 + 1) ∧ ∀ h9 : Mem, h9 = up h3 x0 4 (h3 x0 4 + 1) → P 0 h9) PX) ∧ (h x0 4 < 60 → kX4_demand G X.2.1 x0 1 3 x1 h (fun _ h13 => EX h h13 → R32 (h13 x0 4 + 1) ∧ ∀ h19 : Mem, h19 = up h13 x0 4 (h13 x0 4 + 1) → P 0 h19) PX))) :
    V G X 2 0 0 (QX G X 3 0 0 (PR h0 P) (PE h0 PX)) 0 [(0, rf x0), (1, iv x1)] [] h := by
  obtain ⟨B, R1⟩ := B0
  have E : EX h h := EX.rf B.2
  obtain ⟨S_x0, F⟩ := F
  refine v_aload_n C 0 rfl rfl dX4_makes_0 ?_
  refine v_aload_n C 0 rfl rfl dX4_makes_1 ?_
  refine gX4_84 C (S_x0.ext E.1).k rfl dX4_makes_2 ?_
  refine v_bipush C rfl dX4_makes_5 ?_
  refine v_icmp_ge C 14 (EX.rI B (j := 4) (S_x0.ext E.1).k rfl) ⟨by decide, by decide⟩ dX4_makes_7 (by decide) (fun c1 => ?_) (fun c1 => ?_)
  · have F := F.1 (c1)
    refine v_iconst C dX4_makes_14 ?_
    refine v_iconst C dX4_makes_15 ?_
    refine v_iload_n C 1 rfl rfl dX4_makes_16 ?_
    refine tX4_76 C N (S_x0.ext E.1).k (d2 := 0) (kc2 := 0) (ks2 := 0) (by decide) (Nat.le_refl _) (Nat.le_refl _) (Nat.le_of_ble_eq_true rfl) dX4_makes_17 (CtX.mono (F ⟨by decide, by decide⟩ ⟨by decide, by decide⟩ R1) ?_ ?_)
    · rintro r2 h3 ⟨e4, F⟩
      have F := F e4
      have B6 := B.tr e4
      have E7 := E.tr e4
      refine v_aload_n C 0 rfl rfl dX4_makes_20 ?_
      refine v_dup C (rf_n1 _) dX4_makes_21 ?_
      refine gX4_84 C (S_x0.ext E7.1).k rfl dX4_makes_22 ?_
      refine v_iconst C dX4_makes_25 ?_
      refine v_iadd C dX4_makes_26 ?_
      obtain ⟨o8, F⟩ := F
      refine pX4_84 C (S_x0.ext E7.1).k (okI_i rfl o8) dX4_makes_27 ?_
      obtain ⟨h9, eh9⟩ : ∃ m : Mem, m = up h3 x0 4 (h3 x0 4 + 1) := ⟨_, rfl⟩
      have B10 : EX h0 h9 := by rw [eh9]; exact EX_up B6 (S_x0.ext E7.1).k (by decide) rfl (by decide) (okI_i rfl o8)
      have E11 : EX h h9 := by rw [eh9]; exact EX_up E7 (S_x0.ext E7.1).k (by decide) rfl (by decide) (okI_i rfl o8)
      refine v_mem eh9 ?_
      have F := F h9 eh9
      refine V.toX ?_
      exact v_vret C (Nat.le_refl _) (Nat.le_refl _) dX4_makes_30 ⟨B10, F⟩
    · exact fun h9 F9 => ⟨B.tr F9.1, F9.2⟩
  · have F := F.2 (c1)
    refine v_iconst C dX4_makes_10 ?_
    refine v_goto C 15 dX4_makes_11 (by decide) ?_
    refine v_iconst C dX4_makes_15 ?_
    refine v_iload_n C 1 rfl rfl dX4_makes_16 ?_
    refine tX4_76 C N (S_x0.ext E.1).k (d2 := 0) (kc2 := 0) (ks2 := 0) (by decide) (Nat.le_refl _) (Nat.le_refl _) (Nat.le_of_ble_eq_true rfl) dX4_makes_17 (CtX.mono (F ⟨by decide, by decide⟩ ⟨by decide, by decide⟩ R1) ?_ ?_)
    · rintro r12 h13 ⟨e14, F⟩
      have F := F e14
      have B16 := B.tr e14
      have E17 := E.tr e14
      refine v_aload_n C 0 rfl rfl dX4_makes_20 ?_
      refine v_dup C (rf_n1 _) dX4_makes_21 ?_
      refine gX4_84 C (S_x0.ext E17.1).k rfl dX4_makes_22 ?_
      refine v_iconst C dX4_makes_25 ?_
      refine v_iadd C dX4_makes_26 ?_
      obtain ⟨o18, F⟩ := F
      refine pX4_84 C (S_x0.ext E17.1).k (okI_i rfl o18) dX4_makes_27 ?_
      obtain ⟨h19, eh19⟩ : ∃ m : Mem, m = up h13 x0 4 (h13 x0 4 + 1) := ⟨_, rfl⟩
      have B20 : EX h0 h19 := by rw [eh19]; exact EX_up B16 (S_x0.ext E17.1).k (by decide) rfl (by decide) (okI_i rfl o18)
      have E21 : EX h h19 := by rw [eh19]; exact EX_up E17 (S_x0.ext E17.1).k (by decide) rfl (by decide) (okI_i rfl o18)
      refine v_mem eh19 ?_
      have F := F h19 eh19
      refine V.toX ?_
      exact v_vret C (Nat.le_refl _) (Nat.le_refl _) dX4_makes_30 ⟨B20, F⟩
    · exact fun h9 F9 => ⟨B.tr F9.1, F9.2⟩
set_option maxHeartbeats 1000000 in
theorem eX4_makes {G : GT} {l : Launch} {x0 x1 : Int} {h : Mem} {P : Int → Mem → Prop} {PX : Mem → Prop} (F : ∀ X : MX, Cx G X cX4_makes 2 RX4 1 0 0 none "makes" → NoH X → X.2.1 = l → (EX h h ∧ R32 x1) →
    TextS h x0 ∧ ((h x0 4 ≥ 60 → kX4_demand G X.2.1 x0 0 3 x1 h (fun _ h3 => EX h h3 → R32 (h3 x0 4 + 1) ∧ ∀ h9 : Mem, h9 = up h3 x0 4 (h3 x0 4 + 1) → P 0 h9) PX) ∧ (h x0 4 < 60 → kX4_demand G X.2.1 x0 1 3 x1 h (fun _ h13 => EX h h13 → R32 (h13 x0 4 + 1) ∧ ∀ h19 : Mem, h19 = up h13 x0 4 (h13 x0 4 + 1) → P 0 h19) PX))) :
    kX4_makes G l x0 x1 h P PX := by
  intro R1
  refine ct_ofX (by decide +kernel) (Nat.le_of_ble_eq_true rfl) fun X C N e => ?_
  refine v_okz fun O => ?_
  exact wX4_makes_0 C N ⟨EX.rf O, R1⟩ (F X C N e ⟨EX.rf O, R1⟩)
set_option maxHeartbeats 4000000 in
theorem wX4_number_0 {G : GT} {X : MX} {h0 h : Mem} {P : Int → Mem → Prop} {PX : Mem → Prop} {x0 x1 x2 : Int} (C : Cx G X cX4_number 5 RX4 1 0 0 (some .int) "number") (N : NoH X) (B0 : EX h0 h ∧ R32 x1 ∧ R32 x2)
    (F : TextS h x0 ∧ kX4_see G X.2.1 x0 h (fun r1 h2 => EX h h2 → ∀ y7 : Int, y7 = h2 x0 2 → kX4_isDigit G X.2.1 x0 y7 h2 (fun r8 h9 => EX h2 h9 → kX4_demand G X.2.1 x0 r8 0 y7 h9 (fun _ h15 => EX h9 h15 → (EX h0 h15 ∧ R32 x1 ∧ R32 x2 ∧ R32 y7 ∧ R32 0 → V G X 5 0 0 (QX G X 0 0 0 (PI h0 P) (PE h0 PX)) 24 [(0, rf x0), (1, iv x1), (2, iv x2), (3, iv y7), (4, iv 0)] [] h15)) PX))) :
    V G X 5 0 0 (QX G X 0 0 0 (PI h0 P) (PE h0 PX)) 0 [(0, rf x0), (1, iv x1), (2, iv x2)] [] h := by
  obtain ⟨B, R1, R2⟩ := B0
  have E : EX h h := EX.rf B.2
  obtain ⟨S_x0, F⟩ := F
  refine v_aload_n C 0 rfl rfl dX4_number_0 ?_
  refine mX4_52 C (S_x0.ext E.1).k (d2 := 0) (kc2 := 0) (ks2 := 0) (by decide) (Nat.le_refl _) (Nat.le_refl _) (Nat.le_of_ble_eq_true rfl) dX4_number_1 (Ct.mono (F) ?_)
  rintro r1 h2 ⟨e3, g4, F⟩
  have F := F e3
  have B5 := B.tr e3
  have E6 := E.tr e3
  refine v_pop C (iv_n1 _) dX4_number_4 ?_
  refine v_aload_n C 0 rfl rfl dX4_number_5 ?_
  refine gX4_42 C (S_x0.ext E6.1).k rfl dX4_number_6 ?_
  obtain ⟨y7, ey7⟩ : ∃ z : Int, z = h2 x0 2 := ⟨_, rfl⟩
  have F := F y7 ey7
  have Ry7 : R32 y7 := by rw [ey7]; exact (EX.rI B5 (j := 2) (S_x0.ext E6.1).k rfl)
  refine v_istore_n C rfl (by decide) dX4_number_9 (lv2 := [(3, iv y7), (0, rf x0), (1, iv x1), (2, iv x2)]) (by rw [ey7]; rfl) ?_
  refine v_aload_n C 1 rfl rfl dX4_number_10 ?_
  refine v_aload_n C 1 rfl rfl dX4_number_11 ?_
  refine v_iload_n C 0 rfl rfl dX4_number_12 ?_
  refine mX4_72 C (S_x0.ext E6.1).k (d2 := 0) (kc2 := 0) (ks2 := 0) (by decide) (Nat.le_refl _) (Nat.le_refl _) (Nat.le_of_ble_eq_true rfl) dX4_number_13 (Ct.mono (F Ry7) ?_)
  rintro r8 h9 ⟨e10, g11, F⟩
  have F := F e10
  have B12 := B5.tr e10
  have E13 := E6.tr e10
  refine v_iconst C dX4_number_16 ?_
  refine v_iload_n C 0 rfl rfl dX4_number_17 ?_
  refine tX4_76 C N (S_x0.ext E13.1).k (d2 := 0) (kc2 := 0) (ks2 := 0) (by decide) (Nat.le_refl _) (Nat.le_refl _) (Nat.le_of_ble_eq_true rfl) dX4_number_18 (CtX.mono (F (bR g11) ⟨by decide, by decide⟩ Ry7) ?_ ?_)
  · rintro r14 h15 ⟨e16, F⟩
    have F := F e16
    have B18 := B12.tr e16
    have E19 := E13.tr e16
    refine v_iconst C dX4_number_21 ?_
    refine v_istore C (by decide) dX4_number_22 (lv2 := [(4, iv 0), (3, iv y7), (0, rf x0), (1, iv x1), (2, iv x2)]) rfl ?_
    refine v_sub (lv2 := [(0, rf x0), (1, iv x1), (2, iv x2), (3, iv y7), (4, iv 0)]) [2, 3, 4, 1, 0] rfl ?_
    exact F ⟨B18, R1, R2, Ry7, ⟨by decide, by decide⟩⟩
  · exact fun h9 F9 => ⟨B12.tr F9.1, F9.2⟩
set_option maxHeartbeats 4000000 in
theorem wX4_number_L24 {G : GT} {X : MX} {h0 h : Mem} {P : Int → Mem → Prop} {PX : Mem → Prop} {x0 x1 x2 x3 x4 : Int} (C : Cx G X cX4_number 5 RX4 1 0 0 (some .int) "number") (N : NoH X) (B0 : EX h0 h ∧ R32 x1 ∧ R32 x2 ∧ R32 x3 ∧ R32 x4)
    (F : TextS h x0 ∧ XS h ∧ kX4_isDigit G X.2.1 x0 (h x0 2) h (fun r1 h2 => EX h h2 → ((r1 = 0 → R32 (h2 x0 2 - x3) ∧ ((h2 x0 2 - x3 > 5 → kX4_demand G X.2.1 x0 0 1 x3 h2 (fun _ h11 => EX h2 h11 → P x4 h11) PX) ∧ (h2 x0 2 - x3 ≤ 5 → kX0_in G X.2.1 x4 x1 x2 h2 (fun r16 h17 => EX h2 h17 → ((r16 = 0 → kX4_demand G X.2.1 x0 0 1 x3 h17 (fun _ h24 => EX h17 h24 → P x4 h24) PX) ∧ (r16 ≠ 0 → kX4_demand G X.2.1 x0 1 1 x3 h17 (fun _ h30 => EX h17 h30 → P x4 h30) PX)))))) ∧ (r1 ≠ 0 → R32 (h2 x0 2 - x3) ∧ ((h2 x0 2 - x3 ≥ 5 → R32 (h2 x0 2 + 1) ∧ ∀ h38 : Mem, h38 = up h2 x0 2 (h2 x0 2 + 1) → (EX h0 h38 ∧ R32 x1 ∧ R32 x2 ∧ R32 x3 ∧ R32 x4 → V G X 5 0 0 (QX G X 0 0 0 (PI h0 P) (PE h0 PX)) 24 [(0, rf x0), (1, iv x1), (2, iv x2), (3, iv x3), (4, iv x4)] [] h38)) ∧ (h2 x0 2 - x3 < 5 → 0 ≤ h2 x0 2 ∧ h2 x0 2 < 400 ∧ R32 (10 * x4 + h2 167 (h2 x0 2) - 48) ∧ ∀ y44 : Int, y44 = 10 * x4 + h2 167 (h2 x0 2) - 48 → R32 (h2 x0 2 + 1) ∧ ∀ h46 : Mem, h46 = up h2 x0 2 (h2 x0 2 + 1) → (EX h0 h46 ∧ R32 x1 ∧ R32 x2 ∧ R32 x3 ∧ R32 y44 → V G X 5 0 0 (QX G X 0 0 0 (PI h0 P) (PE h0 PX)) 24 [(0, rf x0), (1, iv x1), (2, iv x2), (3, iv x3), (4, iv y44)] [] h46))))))) :
    V G X 5 0 0 (QX G X 0 0 0 (PI h0 P) (PE h0 PX)) 24 [(0, rf x0), (1, iv x1), (2, iv x2), (3, iv x3), (4, iv x4)] [] h := by
  obtain ⟨B, R1, R2, R3, R4⟩ := B0
  have E : EX h h := EX.rf B.2
  obtain ⟨S_x0, F⟩ := F
  obtain ⟨SX, F⟩ := F
  refine v_aload_n C 0 rfl rfl dX4_number_24 ?_
  refine v_aload_n C 0 rfl rfl dX4_number_25 ?_
  refine gX4_42 C (S_x0.ext E.1).k rfl dX4_number_26 ?_
  refine mX4_72 C (S_x0.ext E.1).k (d2 := 0) (kc2 := 0) (ks2 := 0) (by decide) (Nat.le_refl _) (Nat.le_refl _) (Nat.le_of_ble_eq_true rfl) dX4_number_29 (Ct.mono (F (EX.rI B (j := 2) (S_x0.ext E.1).k rfl)) ?_)
  rintro r1 h2 ⟨e3, g4, F⟩
  have F := F e3
  have B5 := B.tr e3
  have E6 := E.tr e3
  refine v_if_eq C 81 (bR g4) dX4_number_32 (by decide) (fun c7 => ?_) (fun c7 => ?_)
  · have F := F.1 (c7)
    refine v_aload_n C 0 rfl rfl dX4_number_81 ?_
    refine v_aload_n C 0 rfl rfl dX4_number_82 ?_
    refine gX4_42 C (S_x0.ext E6.1).k rfl dX4_number_83 ?_
    refine v_iload_n C 3 rfl rfl dX4_number_86 ?_
    refine v_isub C dX4_number_87 ?_
    refine v_iconst C dX4_number_88 ?_
    obtain ⟨o8, F⟩ := F
    refine v_icmp_gt C 109 o8 ⟨by decide, by decide⟩ dX4_number_89 (by decide) (fun c9 => ?_) (fun c9 => ?_)
    · have F := F.1 (c9)
      refine v_iconst C dX4_number_109 ?_
      refine v_iconst C dX4_number_110 ?_
      refine v_iload_n C 3 rfl rfl dX4_number_111 ?_
      refine tX4_76 C N (S_x0.ext E6.1).k (d2 := 0) (kc2 := 0) (ks2 := 0) (by decide) (Nat.le_refl _) (Nat.le_refl _) (Nat.le_of_ble_eq_true rfl) dX4_number_112 (CtX.mono (F ⟨by decide, by decide⟩ ⟨by decide, by decide⟩ R3) ?_ ?_)
      · rintro r10 h11 ⟨e12, F⟩
        have F := F e12
        have B14 := B5.tr e12
        have E15 := E6.tr e12
        refine v_iload C 4 rfl dX4_number_115 ?_
        refine V.toX ?_
        exact v_iret C (Nat.le_refl _) (Nat.le_refl _) dX4_number_117 ⟨B14, R4, F⟩
      · exact fun h9 F9 => ⟨B5.tr F9.1, F9.2⟩
    · have F := F.2 (c9)
      refine v_iload C 4 rfl dX4_number_92 ?_
      refine v_i2l C R4 dX4_number_94 ?_
      refine v_iload_n C 1 rfl rfl dX4_number_95 ?_
      refine v_i2l C R1 dX4_number_96 ?_
      refine v_iload_n C 2 rfl rfl dX4_number_97 ?_
      refine v_i2l C R2 dX4_number_98 ?_
      refine mX4_80 C (d2 := 0) (kc2 := 0) (ks2 := 0) (by decide) (Nat.le_refl _) (Nat.le_refl _) (Nat.le_of_ble_eq_true rfl) dX4_number_99 (Ct.mono (F (R32.l R4) (R32.l R1) (R32.l R2)) ?_)
      rintro r16 h17 ⟨e18, g19, F⟩
      have F := F e18
      have B20 := B5.tr e18
      have E21 := E6.tr e18
      refine v_if_eq C 109 (bR g19) dX4_number_102 (by decide) (fun c22 => ?_) (fun c22 => ?_)
      · have F := F.1 (c22)
        refine v_iconst C dX4_number_109 ?_
        refine v_iconst C dX4_number_110 ?_
        refine v_iload_n C 3 rfl rfl dX4_number_111 ?_
        refine tX4_76 C N (S_x0.ext E21.1).k (d2 := 0) (kc2 := 0) (ks2 := 0) (by decide) (Nat.le_refl _) (Nat.le_refl _) (Nat.le_of_ble_eq_true rfl) dX4_number_112 (CtX.mono (F ⟨by decide, by decide⟩ ⟨by decide, by decide⟩ R3) ?_ ?_)
        · rintro r23 h24 ⟨e25, F⟩
          have F := F e25
          have B27 := B20.tr e25
          have E28 := E21.tr e25
          refine v_iload C 4 rfl dX4_number_115 ?_
          refine V.toX ?_
          exact v_iret C (Nat.le_refl _) (Nat.le_refl _) dX4_number_117 ⟨B27, R4, F⟩
        · exact fun h9 F9 => ⟨B20.tr F9.1, F9.2⟩
      · have F := F.2 (c22)
        refine v_iconst C dX4_number_105 ?_
        refine v_goto C 110 dX4_number_106 (by decide) ?_
        refine v_iconst C dX4_number_110 ?_
        refine v_iload_n C 3 rfl rfl dX4_number_111 ?_
        refine tX4_76 C N (S_x0.ext E21.1).k (d2 := 0) (kc2 := 0) (ks2 := 0) (by decide) (Nat.le_refl _) (Nat.le_refl _) (Nat.le_of_ble_eq_true rfl) dX4_number_112 (CtX.mono (F ⟨by decide, by decide⟩ ⟨by decide, by decide⟩ R3) ?_ ?_)
        · rintro r29 h30 ⟨e31, F⟩
          have F := F e31
          have B33 := B20.tr e31
          have E34 := E21.tr e31
          refine v_iload C 4 rfl dX4_number_115 ?_
          refine V.toX ?_
          exact v_iret C (Nat.le_refl _) (Nat.le_refl _) dX4_number_117 ⟨B33, R4, F⟩
        · exact fun h9 F9 => ⟨B20.tr F9.1, F9.2⟩
  · have F := F.2 (c7)
    refine v_aload_n C 0 rfl rfl dX4_number_35 ?_
    refine gX4_42 C (S_x0.ext E6.1).k rfl dX4_number_36 ?_
    refine v_iload_n C 3 rfl rfl dX4_number_39 ?_
    refine v_isub C dX4_number_40 ?_
    refine v_iconst C dX4_number_41 ?_
    obtain ⟨o35, F⟩ := F
    refine v_icmp_ge C 68 o35 ⟨by decide, by decide⟩ dX4_number_42 (by decide) (fun c36 => ?_) (fun c36 => ?_)
    · have F := F.1 (c36)
      refine v_aload_n C 0 rfl rfl dX4_number_68 ?_
      refine v_dup C (rf_n1 _) dX4_number_69 ?_
      refine gX4_42 C (S_x0.ext E6.1).k rfl dX4_number_70 ?_
      refine v_iconst C dX4_number_73 ?_
      refine v_iadd C dX4_number_74 ?_
      obtain ⟨o37, F⟩ := F
      refine pX4_42 C (S_x0.ext E6.1).k (okI_i rfl o37) dX4_number_75 ?_
      obtain ⟨h38, eh38⟩ : ∃ m : Mem, m = up h2 x0 2 (h2 x0 2 + 1) := ⟨_, rfl⟩
      have B39 : EX h0 h38 := by rw [eh38]; exact EX_up B5 (S_x0.ext E6.1).k (by decide) rfl (by decide) (okI_i rfl o37)
      have E40 : EX h h38 := by rw [eh38]; exact EX_up E6 (S_x0.ext E6.1).k (by decide) rfl (by decide) (okI_i rfl o37)
      refine v_mem eh38 ?_
      have F := F h38 eh38
      refine v_goto C 24 dX4_number_78 (by decide) ?_
      refine v_sub (lv2 := [(0, rf x0), (1, iv x1), (2, iv x2), (3, iv x3), (4, iv x4)]) [0, 1, 2, 3, 4] rfl ?_
      exact F ⟨B39, R1, R2, R3, R4⟩
    · have F := F.2 (c36)
      refine v_bipush C rfl dX4_number_45 ?_
      refine v_iload C 4 rfl dX4_number_47 ?_
      refine v_imul C dX4_number_49 ?_
      refine v_aload_n C 0 rfl rfl dX4_number_50 ?_
      refine gX4_3 C (S_x0.ext E6.1).k (S_x0.ext E6.1).f6 dX4_number_51 ?_
      refine gX4_48 C (SX.ext E6.1).k1 (SX.ext E6.1).f10 dX4_number_54 ?_
      refine v_aload_n C 0 rfl rfl dX4_number_57 ?_
      refine gX4_42 C (S_x0.ext E6.1).k rfl dX4_number_58 ?_
      obtain ⟨o41, F⟩ := F
      obtain ⟨o42, F⟩ := F
      refine v_bald C (SX.ext E6.1).k167 o41 (by rw [(SX.ext E6.1).l167]; exact o42) rfl dX4_number_61 ?_
      refine v_iadd C dX4_number_62 ?_
      refine v_bipush C rfl dX4_number_63 ?_
      refine v_isub C dX4_number_65 ?_
      obtain ⟨o43, F⟩ := F
      obtain ⟨y44, ey44⟩ : ∃ z : Int, z = 10 * x4 + h2 167 (h2 x0 2) - 48 := ⟨_, rfl⟩
      have F := F y44 ey44
      have Ry44 : R32 y44 := by rw [ey44]; exact o43
      refine v_istore C (by decide) dX4_number_66 (lv2 := [(4, iv y44), (0, rf x0), (1, iv x1), (2, iv x2), (3, iv x3)]) (by rw [ey44]; rfl) ?_
      refine v_aload_n C 1 rfl rfl dX4_number_68 ?_
      refine v_dup C (rf_n1 _) dX4_number_69 ?_
      refine gX4_42 C (S_x0.ext E6.1).k rfl dX4_number_70 ?_
      refine v_iconst C dX4_number_73 ?_
      refine v_iadd C dX4_number_74 ?_
      obtain ⟨o45, F⟩ := F
      refine pX4_42 C (S_x0.ext E6.1).k (okI_i rfl o45) dX4_number_75 ?_
      obtain ⟨h46, eh46⟩ : ∃ m : Mem, m = up h2 x0 2 (h2 x0 2 + 1) := ⟨_, rfl⟩
      have B47 : EX h0 h46 := by rw [eh46]; exact EX_up B5 (S_x0.ext E6.1).k (by decide) rfl (by decide) (okI_i rfl o45)
      have E48 : EX h h46 := by rw [eh46]; exact EX_up E6 (S_x0.ext E6.1).k (by decide) rfl (by decide) (okI_i rfl o45)
      refine v_mem eh46 ?_
      have F := F h46 eh46
      refine v_goto C 24 dX4_number_78 (by decide) ?_
      refine v_sub (lv2 := [(0, rf x0), (1, iv x1), (2, iv x2), (3, iv x3), (4, iv y44)]) [1, 2, 3, 4, 0] rfl ?_
      exact F ⟨B47, R1, R2, R3, Ry44⟩
set_option maxHeartbeats 1000000 in
theorem eX4_number {G : GT} {l : Launch} {x0 x1 x2 : Int} {h : Mem} {P : Int → Mem → Prop} {PX : Mem → Prop} (F : ∀ X : MX, Cx G X cX4_number 5 RX4 1 0 0 (some .int) "number" → NoH X → X.2.1 = l → (EX h h ∧ R32 x1 ∧ R32 x2) →
    TextS h x0 ∧ kX4_see G X.2.1 x0 h (fun r1 h2 => EX h h2 → ∀ y7 : Int, y7 = h2 x0 2 → kX4_isDigit G X.2.1 x0 y7 h2 (fun r8 h9 => EX h2 h9 → kX4_demand G X.2.1 x0 r8 0 y7 h9 (fun _ h15 => EX h9 h15 → (EX h h15 ∧ R32 x1 ∧ R32 x2 ∧ R32 y7 ∧ R32 0 → V G X 5 0 0 (QX G X 0 0 0 (PI h P) (PE h PX)) 24 [(0, rf x0), (1, iv x1), (2, iv x2), (3, iv y7), (4, iv 0)] [] h15)) PX))) :
    kX4_number G l x0 x1 x2 h P PX := by
  intro R1 R2
  refine ct_ofX (by decide +kernel) (Nat.le_of_ble_eq_true rfl) fun X C N e => ?_
  refine v_okz fun O => ?_
  exact wX4_number_0 C N ⟨EX.rf O, R1, R2⟩ (F X C N e ⟨EX.rf O, R1, R2⟩)
set_option maxHeartbeats 4000000 in
theorem wX4_opens_0 {G : GT} {X : MX} {h0 h : Mem} {P : Int → Mem → Prop} {PX : Mem → Prop} {x0 x1 : Int} (C : Cx G X cX4_opens 2 RX4 1 0 0 none "opens") (N : NoH X) (B0 : EX h0 h ∧ R32 x1)
    (F : TextS h x0 ∧ ((h x0 3 ≥ 10 → kX4_demand G X.2.1 x0 0 2 x1 h (fun _ h3 => EX h h3 → R32 (h3 x0 3 + 1) ∧ ∀ h9 : Mem, h9 = up h3 x0 3 (h3 x0 3 + 1) → P 0 h9) PX) ∧ (h x0 3 < 10 → kX4_demand G X.2.1 x0 1 2 x1 h (fun _ h13 => EX h h13 → R32 (h13 x0 3 + 1) ∧ ∀ h19 : Mem, h19 = up h13 x0 3 (h13 x0 3 + 1) → P 0 h19) PX))) :
    V G X 2 0 0 (QX G X 3 0 0 (PR h0 P) (PE h0 PX)) 0 [(0, rf x0), (1, iv x1)] [] h := by
  obtain ⟨B, R1⟩ := B0
  have E : EX h h := EX.rf B.2
  obtain ⟨S_x0, F⟩ := F
  refine v_aload_n C 0 rfl rfl dX4_opens_0 ?_
  refine v_aload_n C 0 rfl rfl dX4_opens_1 ?_
  refine gX4_87 C (S_x0.ext E.1).k rfl dX4_opens_2 ?_
  refine v_bipush C rfl dX4_opens_5 ?_
  refine v_icmp_ge C 14 (EX.rI B (j := 3) (S_x0.ext E.1).k rfl) ⟨by decide, by decide⟩ dX4_opens_7 (by decide) (fun c1 => ?_) (fun c1 => ?_)
  · have F := F.1 (c1)
    refine v_iconst C dX4_opens_14 ?_
    refine v_iconst C dX4_opens_15 ?_
    refine v_iload_n C 1 rfl rfl dX4_opens_16 ?_
    refine tX4_76 C N (S_x0.ext E.1).k (d2 := 0) (kc2 := 0) (ks2 := 0) (by decide) (Nat.le_refl _) (Nat.le_refl _) (Nat.le_of_ble_eq_true rfl) dX4_opens_17 (CtX.mono (F ⟨by decide, by decide⟩ ⟨by decide, by decide⟩ R1) ?_ ?_)
    · rintro r2 h3 ⟨e4, F⟩
      have F := F e4
      have B6 := B.tr e4
      have E7 := E.tr e4
      refine v_aload_n C 0 rfl rfl dX4_opens_20 ?_
      refine v_dup C (rf_n1 _) dX4_opens_21 ?_
      refine gX4_87 C (S_x0.ext E7.1).k rfl dX4_opens_22 ?_
      refine v_iconst C dX4_opens_25 ?_
      refine v_iadd C dX4_opens_26 ?_
      obtain ⟨o8, F⟩ := F
      refine pX4_87 C (S_x0.ext E7.1).k (okI_i rfl o8) dX4_opens_27 ?_
      obtain ⟨h9, eh9⟩ : ∃ m : Mem, m = up h3 x0 3 (h3 x0 3 + 1) := ⟨_, rfl⟩
      have B10 : EX h0 h9 := by rw [eh9]; exact EX_up B6 (S_x0.ext E7.1).k (by decide) rfl (by decide) (okI_i rfl o8)
      have E11 : EX h h9 := by rw [eh9]; exact EX_up E7 (S_x0.ext E7.1).k (by decide) rfl (by decide) (okI_i rfl o8)
      refine v_mem eh9 ?_
      have F := F h9 eh9
      refine V.toX ?_
      exact v_vret C (Nat.le_refl _) (Nat.le_refl _) dX4_opens_30 ⟨B10, F⟩
    · exact fun h9 F9 => ⟨B.tr F9.1, F9.2⟩
  · have F := F.2 (c1)
    refine v_iconst C dX4_opens_10 ?_
    refine v_goto C 15 dX4_opens_11 (by decide) ?_
    refine v_iconst C dX4_opens_15 ?_
    refine v_iload_n C 1 rfl rfl dX4_opens_16 ?_
    refine tX4_76 C N (S_x0.ext E.1).k (d2 := 0) (kc2 := 0) (ks2 := 0) (by decide) (Nat.le_refl _) (Nat.le_refl _) (Nat.le_of_ble_eq_true rfl) dX4_opens_17 (CtX.mono (F ⟨by decide, by decide⟩ ⟨by decide, by decide⟩ R1) ?_ ?_)
    · rintro r12 h13 ⟨e14, F⟩
      have F := F e14
      have B16 := B.tr e14
      have E17 := E.tr e14
      refine v_aload_n C 0 rfl rfl dX4_opens_20 ?_
      refine v_dup C (rf_n1 _) dX4_opens_21 ?_
      refine gX4_87 C (S_x0.ext E17.1).k rfl dX4_opens_22 ?_
      refine v_iconst C dX4_opens_25 ?_
      refine v_iadd C dX4_opens_26 ?_
      obtain ⟨o18, F⟩ := F
      refine pX4_87 C (S_x0.ext E17.1).k (okI_i rfl o18) dX4_opens_27 ?_
      obtain ⟨h19, eh19⟩ : ∃ m : Mem, m = up h13 x0 3 (h13 x0 3 + 1) := ⟨_, rfl⟩
      have B20 : EX h0 h19 := by rw [eh19]; exact EX_up B16 (S_x0.ext E17.1).k (by decide) rfl (by decide) (okI_i rfl o18)
      have E21 : EX h h19 := by rw [eh19]; exact EX_up E17 (S_x0.ext E17.1).k (by decide) rfl (by decide) (okI_i rfl o18)
      refine v_mem eh19 ?_
      have F := F h19 eh19
      refine V.toX ?_
      exact v_vret C (Nat.le_refl _) (Nat.le_refl _) dX4_opens_30 ⟨B20, F⟩
    · exact fun h9 F9 => ⟨B.tr F9.1, F9.2⟩
set_option maxHeartbeats 1000000 in
theorem eX4_opens {G : GT} {l : Launch} {x0 x1 : Int} {h : Mem} {P : Int → Mem → Prop} {PX : Mem → Prop} (F : ∀ X : MX, Cx G X cX4_opens 2 RX4 1 0 0 none "opens" → NoH X → X.2.1 = l → (EX h h ∧ R32 x1) →
    TextS h x0 ∧ ((h x0 3 ≥ 10 → kX4_demand G X.2.1 x0 0 2 x1 h (fun _ h3 => EX h h3 → R32 (h3 x0 3 + 1) ∧ ∀ h9 : Mem, h9 = up h3 x0 3 (h3 x0 3 + 1) → P 0 h9) PX) ∧ (h x0 3 < 10 → kX4_demand G X.2.1 x0 1 2 x1 h (fun _ h13 => EX h h13 → R32 (h13 x0 3 + 1) ∧ ∀ h19 : Mem, h19 = up h13 x0 3 (h13 x0 3 + 1) → P 0 h19) PX))) :
    kX4_opens G l x0 x1 h P PX := by
  intro R1
  refine ct_ofX (by decide +kernel) (Nat.le_of_ble_eq_true rfl) fun X C N e => ?_
  refine v_okz fun O => ?_
  exact wX4_opens_0 C N ⟨EX.rf O, R1⟩ (F X C N e ⟨EX.rf O, R1⟩)
set_option maxHeartbeats 4000000 in
theorem wX4_sign_0 {G : GT} {X : MX} {h0 h : Mem} {P : Int → Mem → Prop} {PX : Mem → Prop} {x0 : Int} (C : Cx G X cX4_sign 3 RX4 1 0 0 (some .int) "sign") (N : NoH X) (B0 : EX h0 h)
    (F : TextS h x0 ∧ XS h ∧ kX4_see G X.2.1 x0 h (fun r1 h2 => EX h h2 → ((r1 = 60 → kX4_demand G X.2.1 x0 1 0 (h2 x0 2) h2 (fun _ h9 => EX h2 h9 → R32 (h9 x0 2 + 1) ∧ ∀ h15 : Mem, h15 = up h9 x0 2 (h9 x0 2 + 1) → ((r1 ≠ 61 → ((h9 x0 2 + 1 ≥ h9 1 11 → ((r1 ≠ 60 → P 4 h15) ∧ (r1 = 60 → P 0 h15))) ∧ (h9 x0 2 + 1 < h9 1 11 → 0 ≤ h9 x0 2 + 1 ∧ h9 x0 2 + 1 < 400 ∧ ((h15 167 (h9 x0 2 + 1) ≠ 61 → ((r1 ≠ 60 → P 4 h15) ∧ (r1 = 60 → P 0 h15))) ∧ (h15 167 (h9 x0 2 + 1) = 61 → R32 (h9 x0 2 + 1 + 1) ∧ ∀ h26 : Mem, h26 = up h15 x0 2 (h9 x0 2 + 1 + 1) → ((r1 ≠ 60 → P 3 h26) ∧ (r1 = 60 → P 1 h26))))))) ∧ (r1 = 61 → P 2 h15))) PX) ∧ (r1 ≠ 60 → ((r1 = 61 → kX4_demand G X.2.1 x0 1 0 (h2 x0 2) h2 (fun _ h32 => EX h2 h32 → R32 (h32 x0 2 + 1) ∧ ∀ h38 : Mem, h38 = up h32 x0 2 (h32 x0 2 + 1) → ((r1 ≠ 61 → ((h32 x0 2 + 1 ≥ h32 1 11 → ((r1 ≠ 60 → P 4 h38) ∧ (r1 = 60 → P 0 h38))) ∧ (h32 x0 2 + 1 < h32 1 11 → 0 ≤ h32 x0 2 + 1 ∧ h32 x0 2 + 1 < 400 ∧ ((h38 167 (h32 x0 2 + 1) ≠ 61 → ((r1 ≠ 60 → P 4 h38) ∧ (r1 = 60 → P 0 h38))) ∧ (h38 167 (h32 x0 2 + 1) = 61 → R32 (h32 x0 2 + 1 + 1) ∧ ∀ h49 : Mem, h49 = up h38 x0 2 (h32 x0 2 + 1 + 1) → ((r1 ≠ 60 → P 3 h49) ∧ (r1 = 60 → P 1 h49))))))) ∧ (r1 = 61 → P 2 h38))) PX) ∧ (r1 ≠ 61 → ((r1 ≠ 62 → kX4_demand G X.2.1 x0 0 0 (h2 x0 2) h2 (fun _ h55 => EX h2 h55 → R32 (h55 x0 2 + 1) ∧ ∀ h61 : Mem, h61 = up h55 x0 2 (h55 x0 2 + 1) → ((r1 ≠ 61 → ((h55 x0 2 + 1 ≥ h55 1 11 → ((r1 ≠ 60 → P 4 h61) ∧ (r1 = 60 → P 0 h61))) ∧ (h55 x0 2 + 1 < h55 1 11 → 0 ≤ h55 x0 2 + 1 ∧ h55 x0 2 + 1 < 400 ∧ ((h61 167 (h55 x0 2 + 1) ≠ 61 → ((r1 ≠ 60 → P 4 h61) ∧ (r1 = 60 → P 0 h61))) ∧ (h61 167 (h55 x0 2 + 1) = 61 → R32 (h55 x0 2 + 1 + 1) ∧ ∀ h72 : Mem, h72 = up h61 x0 2 (h55 x0 2 + 1 + 1) → ((r1 ≠ 60 → P 3 h72) ∧ (r1 = 60 → P 1 h72))))))) ∧ (r1 = 61 → P 2 h61))) PX) ∧ (r1 = 62 → kX4_demand G X.2.1 x0 1 0 (h2 x0 2) h2 (fun _ h77 => EX h2 h77 → R32 (h77 x0 2 + 1) ∧ ∀ h83 : Mem, h83 = up h77 x0 2 (h77 x0 2 + 1) → ((r1 ≠ 61 → ((h77 x0 2 + 1 ≥ h77 1 11 → ((r1 ≠ 60 → P 4 h83) ∧ (r1 = 60 → P 0 h83))) ∧ (h77 x0 2 + 1 < h77 1 11 → 0 ≤ h77 x0 2 + 1 ∧ h77 x0 2 + 1 < 400 ∧ ((h83 167 (h77 x0 2 + 1) ≠ 61 → ((r1 ≠ 60 → P 4 h83) ∧ (r1 = 60 → P 0 h83))) ∧ (h83 167 (h77 x0 2 + 1) = 61 → R32 (h77 x0 2 + 1 + 1) ∧ ∀ h94 : Mem, h94 = up h83 x0 2 (h77 x0 2 + 1 + 1) → ((r1 ≠ 60 → P 3 h94) ∧ (r1 = 60 → P 1 h94))))))) ∧ (r1 = 61 → P 2 h83))) PX)))))))) :
    V G X 3 0 0 (QX G X 0 0 0 (PI h0 P) (PE h0 PX)) 0 [(0, rf x0)] [] h := by
  have B := B0
  have E : EX h h := EX.rf B.2
  obtain ⟨S_x0, F⟩ := F
  obtain ⟨SX, F⟩ := F
  refine v_aload_n C 0 rfl rfl dX4_sign_0 ?_
  refine mX4_52 C (S_x0.ext E.1).k (d2 := 0) (kc2 := 0) (ks2 := 0) (by decide) (Nat.le_refl _) (Nat.le_refl _) (Nat.le_of_ble_eq_true rfl) dX4_sign_1 (Ct.mono (F) ?_)
  rintro r1 h2 ⟨e3, g4, F⟩
  have F := F e3
  have B5 := B.tr e3
  have E6 := E.tr e3
  refine v_istore_n C rfl (by decide) dX4_sign_4 (lv2 := [(1, iv r1), (0, rf x0)]) rfl ?_
  refine v_aload_n C 1 rfl rfl dX4_sign_5 ?_
  refine v_iload_n C 0 rfl rfl dX4_sign_6 ?_
  refine v_bipush C rfl dX4_sign_7 ?_
  refine v_icmp_eq C 24 g4 ⟨by decide, by decide⟩ dX4_sign_9 (by decide) (fun c7 => ?_) (fun c7 => ?_)
  · have F := F.1 (c7)
    refine v_iconst C dX4_sign_24 ?_
    refine v_goto C 29 dX4_sign_25 (by decide) ?_
    refine v_iconst C dX4_sign_29 ?_
    refine v_aload_n C 1 rfl rfl dX4_sign_30 ?_
    refine gX4_42 C (S_x0.ext E6.1).k rfl dX4_sign_31 ?_
    refine tX4_76 C N (S_x0.ext E6.1).k (d2 := 0) (kc2 := 0) (ks2 := 0) (by decide) (Nat.le_refl _) (Nat.le_refl _) (Nat.le_of_ble_eq_true rfl) dX4_sign_34 (CtX.mono (F ⟨by decide, by decide⟩ ⟨by decide, by decide⟩ (EX.rI B5 (j := 2) (S_x0.ext E6.1).k rfl)) ?_ ?_)
    · rintro r8 h9 ⟨e10, F⟩
      have F := F e10
      have B12 := B5.tr e10
      have E13 := E6.tr e10
      refine v_aload_n C 1 rfl rfl dX4_sign_37 ?_
      refine v_dup C (rf_n1 _) dX4_sign_38 ?_
      refine gX4_42 C (S_x0.ext E13.1).k rfl dX4_sign_39 ?_
      refine v_iconst C dX4_sign_42 ?_
      refine v_iadd C dX4_sign_43 ?_
      obtain ⟨o14, F⟩ := F
      refine pX4_42 C (S_x0.ext E13.1).k (okI_i rfl o14) dX4_sign_44 ?_
      obtain ⟨h15, eh15⟩ : ∃ m : Mem, m = up h9 x0 2 (h9 x0 2 + 1) := ⟨_, rfl⟩
      have B16 : EX h0 h15 := by rw [eh15]; exact EX_up B12 (S_x0.ext E13.1).k (by decide) rfl (by decide) (okI_i rfl o14)
      have E17 : EX h h15 := by rw [eh15]; exact EX_up E13 (S_x0.ext E13.1).k (by decide) rfl (by decide) (okI_i rfl o14)
      refine v_mem eh15 ?_
      have F := F h15 eh15
      refine v_iload_n C 0 rfl rfl dX4_sign_47 ?_
      refine v_bipush C rfl dX4_sign_48 ?_
      refine v_icmp_ne C 55 g4 ⟨by decide, by decide⟩ dX4_sign_50 (by decide) (fun c18 => ?_) (fun c18 => ?_)
      · have F := F.1 (c18)
        refine v_aload_n C 1 rfl rfl dX4_sign_55 ?_
        refine gX4_42 C (S_x0.ext E17.1).k (show h15 x0 2 = (h9 x0 2 + 1) by rw [eh15, up_s]) dX4_sign_56 ?_
        refine v_aload_n C 1 rfl rfl dX4_sign_59 ?_
        refine gX4_3 C (S_x0.ext E17.1).k (S_x0.ext E17.1).f6 dX4_sign_60 ?_
        refine gX4_45 C (SX.ext E17.1).k1 (show h15 1 11 = h9 1 11 by rw [eh15, up_i (by decide)]) dX4_sign_63 ?_
        refine v_icmp_ge C 90 o14 (R32.of (show h15 1 11 = h9 1 11 by rw [eh15, up_i (by decide)]) (EX.rI B16 (j := 11) (SX.ext E17.1).k1 rfl)) dX4_sign_66 (by decide) (fun c19 => ?_) (fun c19 => ?_)
        · have F := F.1 (c19)
          refine v_iconst C dX4_sign_90 ?_
          refine v_istore_n C rfl (by decide) dX4_sign_91 (lv2 := [(2, iv 0), (1, iv r1), (0, rf x0)]) rfl ?_
          refine v_iload_n C 0 rfl rfl dX4_sign_92 ?_
          refine v_if_eq C 106 ⟨by decide, by decide⟩ dX4_sign_93 (by decide) (fun _ => ?_) (fun c => absurd c (by decide))
          refine v_iload_n C 1 rfl rfl dX4_sign_106 ?_
          refine v_bipush C rfl dX4_sign_107 ?_
          refine v_icmp_ne C 124 g4 ⟨by decide, by decide⟩ dX4_sign_109 (by decide) (fun c20 => ?_) (fun c20 => ?_)
          · have F := F.1 (c20)
            refine v_iload_n C 0 rfl rfl dX4_sign_124 ?_
            refine v_if_eq C 132 ⟨by decide, by decide⟩ dX4_sign_125 (by decide) (fun _ => ?_) (fun c => absurd c (by decide))
            refine v_iconst C dX4_sign_132 ?_
            refine V.toX ?_
            exact v_iret C (Nat.le_refl _) (Nat.le_refl _) dX4_sign_133 ⟨B16, ⟨by decide, by decide⟩, F⟩
          · have F := F.2 (c20)
            refine v_iload_n C 0 rfl rfl dX4_sign_112 ?_
            refine v_if_eq C 120 ⟨by decide, by decide⟩ dX4_sign_113 (by decide) (fun _ => ?_) (fun c => absurd c (by decide))
            refine v_iconst C dX4_sign_120 ?_
            refine v_goto C 133 dX4_sign_121 (by decide) ?_
            refine V.toX ?_
            exact v_iret C (Nat.le_refl _) (Nat.le_refl _) dX4_sign_133 ⟨B16, ⟨by decide, by decide⟩, F⟩
        · have F := F.2 (c19)
          refine v_aload_n C 1 rfl rfl dX4_sign_69 ?_
          refine gX4_3 C (S_x0.ext E17.1).k (S_x0.ext E17.1).f6 dX4_sign_70 ?_
          refine gX4_48 C (SX.ext E17.1).k1 (SX.ext E17.1).f10 dX4_sign_73 ?_
          refine v_aload_n C 1 rfl rfl dX4_sign_76 ?_
          refine gX4_42 C (S_x0.ext E17.1).k (show h15 x0 2 = (h9 x0 2 + 1) by rw [eh15, up_s]) dX4_sign_77 ?_
          obtain ⟨o21, F⟩ := F
          obtain ⟨o22, F⟩ := F
          refine v_bald C (SX.ext E17.1).k167 o21 (by rw [(SX.ext E17.1).l167]; exact o22) rfl dX4_sign_80 ?_
          refine v_bipush C rfl dX4_sign_81 ?_
          refine v_icmp_ne C 90 (EX.rI B16 (j := h9 x0 2 + 1) (SX.ext E17.1).k167 rfl) ⟨by decide, by decide⟩ dX4_sign_83 (by decide) (fun c23 => ?_) (fun c23 => ?_)
          · have F := F.1 (c23)
            refine v_iconst C dX4_sign_90 ?_
            refine v_istore_n C rfl (by decide) dX4_sign_91 (lv2 := [(2, iv 0), (1, iv r1), (0, rf x0)]) rfl ?_
            refine v_iload_n C 0 rfl rfl dX4_sign_92 ?_
            refine v_if_eq C 106 ⟨by decide, by decide⟩ dX4_sign_93 (by decide) (fun _ => ?_) (fun c => absurd c (by decide))
            refine v_iload_n C 1 rfl rfl dX4_sign_106 ?_
            refine v_bipush C rfl dX4_sign_107 ?_
            refine v_icmp_ne C 124 g4 ⟨by decide, by decide⟩ dX4_sign_109 (by decide) (fun c24 => ?_) (fun c24 => ?_)
            · have F := F.1 (c24)
              refine v_iload_n C 0 rfl rfl dX4_sign_124 ?_
              refine v_if_eq C 132 ⟨by decide, by decide⟩ dX4_sign_125 (by decide) (fun _ => ?_) (fun c => absurd c (by decide))
              refine v_iconst C dX4_sign_132 ?_
              refine V.toX ?_
              exact v_iret C (Nat.le_refl _) (Nat.le_refl _) dX4_sign_133 ⟨B16, ⟨by decide, by decide⟩, F⟩
            · have F := F.2 (c24)
              refine v_iload_n C 0 rfl rfl dX4_sign_112 ?_
              refine v_if_eq C 120 ⟨by decide, by decide⟩ dX4_sign_113 (by decide) (fun _ => ?_) (fun c => absurd c (by decide))
              refine v_iconst C dX4_sign_120 ?_
              refine v_goto C 133 dX4_sign_121 (by decide) ?_
              refine V.toX ?_
              exact v_iret C (Nat.le_refl _) (Nat.le_refl _) dX4_sign_133 ⟨B16, ⟨by decide, by decide⟩, F⟩
          · have F := F.2 (c23)
            refine v_iconst C dX4_sign_86 ?_
            refine v_goto C 91 dX4_sign_87 (by decide) ?_
            refine v_istore_n C rfl (by decide) dX4_sign_91 (lv2 := [(2, iv 1), (1, iv r1), (0, rf x0)]) rfl ?_
            refine v_iload_n C 0 rfl rfl dX4_sign_92 ?_
            refine v_if_eq C 106 ⟨by decide, by decide⟩ dX4_sign_93 (by decide) (fun c => absurd c (by decide)) (fun _ => ?_)
            refine v_aload_n C 2 rfl rfl dX4_sign_96 ?_
            refine v_dup C (rf_n1 _) dX4_sign_97 ?_
            refine gX4_42 C (S_x0.ext E17.1).k (show h15 x0 2 = (h9 x0 2 + 1) by rw [eh15, up_s]) dX4_sign_98 ?_
            refine v_iconst C dX4_sign_101 ?_
            refine v_iadd C dX4_sign_102 ?_
            obtain ⟨o25, F⟩ := F
            refine pX4_42 C (S_x0.ext E17.1).k (okI_i rfl o25) dX4_sign_103 ?_
            obtain ⟨h26, eh26⟩ : ∃ m : Mem, m = up h15 x0 2 (h9 x0 2 + 1 + 1) := ⟨_, rfl⟩
            have B27 : EX h0 h26 := by rw [eh26]; exact EX_up B16 (S_x0.ext E17.1).k (by decide) rfl (by decide) (okI_i rfl o25)
            have E28 : EX h h26 := by rw [eh26]; exact EX_up E17 (S_x0.ext E17.1).k (by decide) rfl (by decide) (okI_i rfl o25)
            refine v_mem eh26 ?_
            have F := F h26 eh26
            refine v_iload_n C 1 rfl rfl dX4_sign_106 ?_
            refine v_bipush C rfl dX4_sign_107 ?_
            refine v_icmp_ne C 124 g4 ⟨by decide, by decide⟩ dX4_sign_109 (by decide) (fun c29 => ?_) (fun c29 => ?_)
            · have F := F.1 (c29)
              refine v_iload_n C 0 rfl rfl dX4_sign_124 ?_
              refine v_if_eq C 132 ⟨by decide, by decide⟩ dX4_sign_125 (by decide) (fun c => absurd c (by decide)) (fun _ => ?_)
              refine v_iconst C dX4_sign_128 ?_
              refine v_goto C 133 dX4_sign_129 (by decide) ?_
              refine V.toX ?_
              exact v_iret C (Nat.le_refl _) (Nat.le_refl _) dX4_sign_133 ⟨B27, ⟨by decide, by decide⟩, F⟩
            · have F := F.2 (c29)
              refine v_iload_n C 0 rfl rfl dX4_sign_112 ?_
              refine v_if_eq C 120 ⟨by decide, by decide⟩ dX4_sign_113 (by decide) (fun c => absurd c (by decide)) (fun _ => ?_)
              refine v_iconst C dX4_sign_116 ?_
              refine v_goto C 133 dX4_sign_117 (by decide) ?_
              refine V.toX ?_
              exact v_iret C (Nat.le_refl _) (Nat.le_refl _) dX4_sign_133 ⟨B27, ⟨by decide, by decide⟩, F⟩
      · have F := F.2 (c18)
        refine v_iconst C dX4_sign_53 ?_
        refine V.toX ?_
        exact v_iret C (Nat.le_refl _) (Nat.le_refl _) dX4_sign_54 ⟨B16, ⟨by decide, by decide⟩, F⟩
    · exact fun h9 F9 => ⟨B5.tr F9.1, F9.2⟩
  · have F := F.2 (c7)
    refine v_iload_n C 0 rfl rfl dX4_sign_12 ?_
    refine v_bipush C rfl dX4_sign_13 ?_
    refine v_icmp_eq C 24 g4 ⟨by decide, by decide⟩ dX4_sign_15 (by decide) (fun c30 => ?_) (fun c30 => ?_)
    · have F := F.1 (c30)
      refine v_iconst C dX4_sign_24 ?_
      refine v_goto C 29 dX4_sign_25 (by decide) ?_
      refine v_iconst C dX4_sign_29 ?_
      refine v_aload_n C 1 rfl rfl dX4_sign_30 ?_
      refine gX4_42 C (S_x0.ext E6.1).k rfl dX4_sign_31 ?_
      refine tX4_76 C N (S_x0.ext E6.1).k (d2 := 0) (kc2 := 0) (ks2 := 0) (by decide) (Nat.le_refl _) (Nat.le_refl _) (Nat.le_of_ble_eq_true rfl) dX4_sign_34 (CtX.mono (F ⟨by decide, by decide⟩ ⟨by decide, by decide⟩ (EX.rI B5 (j := 2) (S_x0.ext E6.1).k rfl)) ?_ ?_)
      · rintro r31 h32 ⟨e33, F⟩
        have F := F e33
        have B35 := B5.tr e33
        have E36 := E6.tr e33
        refine v_aload_n C 1 rfl rfl dX4_sign_37 ?_
        refine v_dup C (rf_n1 _) dX4_sign_38 ?_
        refine gX4_42 C (S_x0.ext E36.1).k rfl dX4_sign_39 ?_
        refine v_iconst C dX4_sign_42 ?_
        refine v_iadd C dX4_sign_43 ?_
        obtain ⟨o37, F⟩ := F
        refine pX4_42 C (S_x0.ext E36.1).k (okI_i rfl o37) dX4_sign_44 ?_
        obtain ⟨h38, eh38⟩ : ∃ m : Mem, m = up h32 x0 2 (h32 x0 2 + 1) := ⟨_, rfl⟩
        have B39 : EX h0 h38 := by rw [eh38]; exact EX_up B35 (S_x0.ext E36.1).k (by decide) rfl (by decide) (okI_i rfl o37)
        have E40 : EX h h38 := by rw [eh38]; exact EX_up E36 (S_x0.ext E36.1).k (by decide) rfl (by decide) (okI_i rfl o37)
        refine v_mem eh38 ?_
        have F := F h38 eh38
        refine v_iload_n C 0 rfl rfl dX4_sign_47 ?_
        refine v_bipush C rfl dX4_sign_48 ?_
        refine v_icmp_ne C 55 g4 ⟨by decide, by decide⟩ dX4_sign_50 (by decide) (fun c41 => ?_) (fun c41 => ?_)
        · have F := F.1 (c41)
          refine v_aload_n C 1 rfl rfl dX4_sign_55 ?_
          refine gX4_42 C (S_x0.ext E40.1).k (show h38 x0 2 = (h32 x0 2 + 1) by rw [eh38, up_s]) dX4_sign_56 ?_
          refine v_aload_n C 1 rfl rfl dX4_sign_59 ?_
          refine gX4_3 C (S_x0.ext E40.1).k (S_x0.ext E40.1).f6 dX4_sign_60 ?_
          refine gX4_45 C (SX.ext E40.1).k1 (show h38 1 11 = h32 1 11 by rw [eh38, up_i (by decide)]) dX4_sign_63 ?_
          refine v_icmp_ge C 90 o37 (R32.of (show h38 1 11 = h32 1 11 by rw [eh38, up_i (by decide)]) (EX.rI B39 (j := 11) (SX.ext E40.1).k1 rfl)) dX4_sign_66 (by decide) (fun c42 => ?_) (fun c42 => ?_)
          · have F := F.1 (c42)
            refine v_iconst C dX4_sign_90 ?_
            refine v_istore_n C rfl (by decide) dX4_sign_91 (lv2 := [(2, iv 0), (1, iv r1), (0, rf x0)]) rfl ?_
            refine v_iload_n C 0 rfl rfl dX4_sign_92 ?_
            refine v_if_eq C 106 ⟨by decide, by decide⟩ dX4_sign_93 (by decide) (fun _ => ?_) (fun c => absurd c (by decide))
            refine v_iload_n C 1 rfl rfl dX4_sign_106 ?_
            refine v_bipush C rfl dX4_sign_107 ?_
            refine v_icmp_ne C 124 g4 ⟨by decide, by decide⟩ dX4_sign_109 (by decide) (fun c43 => ?_) (fun c43 => ?_)
            · have F := F.1 (c43)
              refine v_iload_n C 0 rfl rfl dX4_sign_124 ?_
              refine v_if_eq C 132 ⟨by decide, by decide⟩ dX4_sign_125 (by decide) (fun _ => ?_) (fun c => absurd c (by decide))
              refine v_iconst C dX4_sign_132 ?_
              refine V.toX ?_
              exact v_iret C (Nat.le_refl _) (Nat.le_refl _) dX4_sign_133 ⟨B39, ⟨by decide, by decide⟩, F⟩
            · have F := F.2 (c43)
              refine v_iload_n C 0 rfl rfl dX4_sign_112 ?_
              refine v_if_eq C 120 ⟨by decide, by decide⟩ dX4_sign_113 (by decide) (fun _ => ?_) (fun c => absurd c (by decide))
              refine v_iconst C dX4_sign_120 ?_
              refine v_goto C 133 dX4_sign_121 (by decide) ?_
              refine V.toX ?_
              exact v_iret C (Nat.le_refl _) (Nat.le_refl _) dX4_sign_133 ⟨B39, ⟨by decide, by decide⟩, F⟩
          · have F := F.2 (c42)
            refine v_aload_n C 1 rfl rfl dX4_sign_69 ?_
            refine gX4_3 C (S_x0.ext E40.1).k (S_x0.ext E40.1).f6 dX4_sign_70 ?_
            refine gX4_48 C (SX.ext E40.1).k1 (SX.ext E40.1).f10 dX4_sign_73 ?_
            refine v_aload_n C 1 rfl rfl dX4_sign_76 ?_
            refine gX4_42 C (S_x0.ext E40.1).k (show h38 x0 2 = (h32 x0 2 + 1) by rw [eh38, up_s]) dX4_sign_77 ?_
            obtain ⟨o44, F⟩ := F
            obtain ⟨o45, F⟩ := F
            refine v_bald C (SX.ext E40.1).k167 o44 (by rw [(SX.ext E40.1).l167]; exact o45) rfl dX4_sign_80 ?_
            refine v_bipush C rfl dX4_sign_81 ?_
            refine v_icmp_ne C 90 (EX.rI B39 (j := h32 x0 2 + 1) (SX.ext E40.1).k167 rfl) ⟨by decide, by decide⟩ dX4_sign_83 (by decide) (fun c46 => ?_) (fun c46 => ?_)
            · have F := F.1 (c46)
              refine v_iconst C dX4_sign_90 ?_
              refine v_istore_n C rfl (by decide) dX4_sign_91 (lv2 := [(2, iv 0), (1, iv r1), (0, rf x0)]) rfl ?_
              refine v_iload_n C 0 rfl rfl dX4_sign_92 ?_
              refine v_if_eq C 106 ⟨by decide, by decide⟩ dX4_sign_93 (by decide) (fun _ => ?_) (fun c => absurd c (by decide))
              refine v_iload_n C 1 rfl rfl dX4_sign_106 ?_
              refine v_bipush C rfl dX4_sign_107 ?_
              refine v_icmp_ne C 124 g4 ⟨by decide, by decide⟩ dX4_sign_109 (by decide) (fun c47 => ?_) (fun c47 => ?_)
              · have F := F.1 (c47)
                refine v_iload_n C 0 rfl rfl dX4_sign_124 ?_
                refine v_if_eq C 132 ⟨by decide, by decide⟩ dX4_sign_125 (by decide) (fun _ => ?_) (fun c => absurd c (by decide))
                refine v_iconst C dX4_sign_132 ?_
                refine V.toX ?_
                exact v_iret C (Nat.le_refl _) (Nat.le_refl _) dX4_sign_133 ⟨B39, ⟨by decide, by decide⟩, F⟩
              · have F := F.2 (c47)
                refine v_iload_n C 0 rfl rfl dX4_sign_112 ?_
                refine v_if_eq C 120 ⟨by decide, by decide⟩ dX4_sign_113 (by decide) (fun _ => ?_) (fun c => absurd c (by decide))
                refine v_iconst C dX4_sign_120 ?_
                refine v_goto C 133 dX4_sign_121 (by decide) ?_
                refine V.toX ?_
                exact v_iret C (Nat.le_refl _) (Nat.le_refl _) dX4_sign_133 ⟨B39, ⟨by decide, by decide⟩, F⟩
            · have F := F.2 (c46)
              refine v_iconst C dX4_sign_86 ?_
              refine v_goto C 91 dX4_sign_87 (by decide) ?_
              refine v_istore_n C rfl (by decide) dX4_sign_91 (lv2 := [(2, iv 1), (1, iv r1), (0, rf x0)]) rfl ?_
              refine v_iload_n C 0 rfl rfl dX4_sign_92 ?_
              refine v_if_eq C 106 ⟨by decide, by decide⟩ dX4_sign_93 (by decide) (fun c => absurd c (by decide)) (fun _ => ?_)
              refine v_aload_n C 2 rfl rfl dX4_sign_96 ?_
              refine v_dup C (rf_n1 _) dX4_sign_97 ?_
              refine gX4_42 C (S_x0.ext E40.1).k (show h38 x0 2 = (h32 x0 2 + 1) by rw [eh38, up_s]) dX4_sign_98 ?_
              refine v_iconst C dX4_sign_101 ?_
              refine v_iadd C dX4_sign_102 ?_
              obtain ⟨o48, F⟩ := F
              refine pX4_42 C (S_x0.ext E40.1).k (okI_i rfl o48) dX4_sign_103 ?_
              obtain ⟨h49, eh49⟩ : ∃ m : Mem, m = up h38 x0 2 (h32 x0 2 + 1 + 1) := ⟨_, rfl⟩
              have B50 : EX h0 h49 := by rw [eh49]; exact EX_up B39 (S_x0.ext E40.1).k (by decide) rfl (by decide) (okI_i rfl o48)
              have E51 : EX h h49 := by rw [eh49]; exact EX_up E40 (S_x0.ext E40.1).k (by decide) rfl (by decide) (okI_i rfl o48)
              refine v_mem eh49 ?_
              have F := F h49 eh49
              refine v_iload_n C 1 rfl rfl dX4_sign_106 ?_
              refine v_bipush C rfl dX4_sign_107 ?_
              refine v_icmp_ne C 124 g4 ⟨by decide, by decide⟩ dX4_sign_109 (by decide) (fun c52 => ?_) (fun c52 => ?_)
              · have F := F.1 (c52)
                refine v_iload_n C 0 rfl rfl dX4_sign_124 ?_
                refine v_if_eq C 132 ⟨by decide, by decide⟩ dX4_sign_125 (by decide) (fun c => absurd c (by decide)) (fun _ => ?_)
                refine v_iconst C dX4_sign_128 ?_
                refine v_goto C 133 dX4_sign_129 (by decide) ?_
                refine V.toX ?_
                exact v_iret C (Nat.le_refl _) (Nat.le_refl _) dX4_sign_133 ⟨B50, ⟨by decide, by decide⟩, F⟩
              · have F := F.2 (c52)
                refine v_iload_n C 0 rfl rfl dX4_sign_112 ?_
                refine v_if_eq C 120 ⟨by decide, by decide⟩ dX4_sign_113 (by decide) (fun c => absurd c (by decide)) (fun _ => ?_)
                refine v_iconst C dX4_sign_116 ?_
                refine v_goto C 133 dX4_sign_117 (by decide) ?_
                refine V.toX ?_
                exact v_iret C (Nat.le_refl _) (Nat.le_refl _) dX4_sign_133 ⟨B50, ⟨by decide, by decide⟩, F⟩
        · have F := F.2 (c41)
          refine v_iconst C dX4_sign_53 ?_
          refine V.toX ?_
          exact v_iret C (Nat.le_refl _) (Nat.le_refl _) dX4_sign_54 ⟨B39, ⟨by decide, by decide⟩, F⟩
      · exact fun h9 F9 => ⟨B5.tr F9.1, F9.2⟩
    · have F := F.2 (c30)
      refine v_iload_n C 0 rfl rfl dX4_sign_18 ?_
      refine v_bipush C rfl dX4_sign_19 ?_
      refine v_icmp_ne C 28 g4 ⟨by decide, by decide⟩ dX4_sign_21 (by decide) (fun c53 => ?_) (fun c53 => ?_)
      · have F := F.1 (c53)
        refine v_iconst C dX4_sign_28 ?_
        refine v_iconst C dX4_sign_29 ?_
        refine v_aload_n C 1 rfl rfl dX4_sign_30 ?_
        refine gX4_42 C (S_x0.ext E6.1).k rfl dX4_sign_31 ?_
        refine tX4_76 C N (S_x0.ext E6.1).k (d2 := 0) (kc2 := 0) (ks2 := 0) (by decide) (Nat.le_refl _) (Nat.le_refl _) (Nat.le_of_ble_eq_true rfl) dX4_sign_34 (CtX.mono (F ⟨by decide, by decide⟩ ⟨by decide, by decide⟩ (EX.rI B5 (j := 2) (S_x0.ext E6.1).k rfl)) ?_ ?_)
        · rintro r54 h55 ⟨e56, F⟩
          have F := F e56
          have B58 := B5.tr e56
          have E59 := E6.tr e56
          refine v_aload_n C 1 rfl rfl dX4_sign_37 ?_
          refine v_dup C (rf_n1 _) dX4_sign_38 ?_
          refine gX4_42 C (S_x0.ext E59.1).k rfl dX4_sign_39 ?_
          refine v_iconst C dX4_sign_42 ?_
          refine v_iadd C dX4_sign_43 ?_
          obtain ⟨o60, F⟩ := F
          refine pX4_42 C (S_x0.ext E59.1).k (okI_i rfl o60) dX4_sign_44 ?_
          obtain ⟨h61, eh61⟩ : ∃ m : Mem, m = up h55 x0 2 (h55 x0 2 + 1) := ⟨_, rfl⟩
          have B62 : EX h0 h61 := by rw [eh61]; exact EX_up B58 (S_x0.ext E59.1).k (by decide) rfl (by decide) (okI_i rfl o60)
          have E63 : EX h h61 := by rw [eh61]; exact EX_up E59 (S_x0.ext E59.1).k (by decide) rfl (by decide) (okI_i rfl o60)
          refine v_mem eh61 ?_
          have F := F h61 eh61
          refine v_iload_n C 0 rfl rfl dX4_sign_47 ?_
          refine v_bipush C rfl dX4_sign_48 ?_
          refine v_icmp_ne C 55 g4 ⟨by decide, by decide⟩ dX4_sign_50 (by decide) (fun c64 => ?_) (fun c64 => ?_)
          · have F := F.1 (c64)
            refine v_aload_n C 1 rfl rfl dX4_sign_55 ?_
            refine gX4_42 C (S_x0.ext E63.1).k (show h61 x0 2 = (h55 x0 2 + 1) by rw [eh61, up_s]) dX4_sign_56 ?_
            refine v_aload_n C 1 rfl rfl dX4_sign_59 ?_
            refine gX4_3 C (S_x0.ext E63.1).k (S_x0.ext E63.1).f6 dX4_sign_60 ?_
            refine gX4_45 C (SX.ext E63.1).k1 (show h61 1 11 = h55 1 11 by rw [eh61, up_i (by decide)]) dX4_sign_63 ?_
            refine v_icmp_ge C 90 o60 (R32.of (show h61 1 11 = h55 1 11 by rw [eh61, up_i (by decide)]) (EX.rI B62 (j := 11) (SX.ext E63.1).k1 rfl)) dX4_sign_66 (by decide) (fun c65 => ?_) (fun c65 => ?_)
            · have F := F.1 (c65)
              refine v_iconst C dX4_sign_90 ?_
              refine v_istore_n C rfl (by decide) dX4_sign_91 (lv2 := [(2, iv 0), (1, iv r1), (0, rf x0)]) rfl ?_
              refine v_iload_n C 0 rfl rfl dX4_sign_92 ?_
              refine v_if_eq C 106 ⟨by decide, by decide⟩ dX4_sign_93 (by decide) (fun _ => ?_) (fun c => absurd c (by decide))
              refine v_iload_n C 1 rfl rfl dX4_sign_106 ?_
              refine v_bipush C rfl dX4_sign_107 ?_
              refine v_icmp_ne C 124 g4 ⟨by decide, by decide⟩ dX4_sign_109 (by decide) (fun c66 => ?_) (fun c66 => ?_)
              · have F := F.1 (c66)
                refine v_iload_n C 0 rfl rfl dX4_sign_124 ?_
                refine v_if_eq C 132 ⟨by decide, by decide⟩ dX4_sign_125 (by decide) (fun _ => ?_) (fun c => absurd c (by decide))
                refine v_iconst C dX4_sign_132 ?_
                refine V.toX ?_
                exact v_iret C (Nat.le_refl _) (Nat.le_refl _) dX4_sign_133 ⟨B62, ⟨by decide, by decide⟩, F⟩
              · have F := F.2 (c66)
                refine v_iload_n C 0 rfl rfl dX4_sign_112 ?_
                refine v_if_eq C 120 ⟨by decide, by decide⟩ dX4_sign_113 (by decide) (fun _ => ?_) (fun c => absurd c (by decide))
                refine v_iconst C dX4_sign_120 ?_
                refine v_goto C 133 dX4_sign_121 (by decide) ?_
                refine V.toX ?_
                exact v_iret C (Nat.le_refl _) (Nat.le_refl _) dX4_sign_133 ⟨B62, ⟨by decide, by decide⟩, F⟩
            · have F := F.2 (c65)
              refine v_aload_n C 1 rfl rfl dX4_sign_69 ?_
              refine gX4_3 C (S_x0.ext E63.1).k (S_x0.ext E63.1).f6 dX4_sign_70 ?_
              refine gX4_48 C (SX.ext E63.1).k1 (SX.ext E63.1).f10 dX4_sign_73 ?_
              refine v_aload_n C 1 rfl rfl dX4_sign_76 ?_
              refine gX4_42 C (S_x0.ext E63.1).k (show h61 x0 2 = (h55 x0 2 + 1) by rw [eh61, up_s]) dX4_sign_77 ?_
              obtain ⟨o67, F⟩ := F
              obtain ⟨o68, F⟩ := F
              refine v_bald C (SX.ext E63.1).k167 o67 (by rw [(SX.ext E63.1).l167]; exact o68) rfl dX4_sign_80 ?_
              refine v_bipush C rfl dX4_sign_81 ?_
              refine v_icmp_ne C 90 (EX.rI B62 (j := h55 x0 2 + 1) (SX.ext E63.1).k167 rfl) ⟨by decide, by decide⟩ dX4_sign_83 (by decide) (fun c69 => ?_) (fun c69 => ?_)
              · have F := F.1 (c69)
                refine v_iconst C dX4_sign_90 ?_
                refine v_istore_n C rfl (by decide) dX4_sign_91 (lv2 := [(2, iv 0), (1, iv r1), (0, rf x0)]) rfl ?_
                refine v_iload_n C 0 rfl rfl dX4_sign_92 ?_
                refine v_if_eq C 106 ⟨by decide, by decide⟩ dX4_sign_93 (by decide) (fun _ => ?_) (fun c => absurd c (by decide))
                refine v_iload_n C 1 rfl rfl dX4_sign_106 ?_
                refine v_bipush C rfl dX4_sign_107 ?_
                refine v_icmp_ne C 124 g4 ⟨by decide, by decide⟩ dX4_sign_109 (by decide) (fun c70 => ?_) (fun c70 => ?_)
                · have F := F.1 (c70)
                  refine v_iload_n C 0 rfl rfl dX4_sign_124 ?_
                  refine v_if_eq C 132 ⟨by decide, by decide⟩ dX4_sign_125 (by decide) (fun _ => ?_) (fun c => absurd c (by decide))
                  refine v_iconst C dX4_sign_132 ?_
                  refine V.toX ?_
                  exact v_iret C (Nat.le_refl _) (Nat.le_refl _) dX4_sign_133 ⟨B62, ⟨by decide, by decide⟩, F⟩
                · have F := F.2 (c70)
                  refine v_iload_n C 0 rfl rfl dX4_sign_112 ?_
                  refine v_if_eq C 120 ⟨by decide, by decide⟩ dX4_sign_113 (by decide) (fun _ => ?_) (fun c => absurd c (by decide))
                  refine v_iconst C dX4_sign_120 ?_
                  refine v_goto C 133 dX4_sign_121 (by decide) ?_
                  refine V.toX ?_
                  exact v_iret C (Nat.le_refl _) (Nat.le_refl _) dX4_sign_133 ⟨B62, ⟨by decide, by decide⟩, F⟩
              · have F := F.2 (c69)
                refine v_iconst C dX4_sign_86 ?_
                refine v_goto C 91 dX4_sign_87 (by decide) ?_
                refine v_istore_n C rfl (by decide) dX4_sign_91 (lv2 := [(2, iv 1), (1, iv r1), (0, rf x0)]) rfl ?_
                refine v_iload_n C 0 rfl rfl dX4_sign_92 ?_
                refine v_if_eq C 106 ⟨by decide, by decide⟩ dX4_sign_93 (by decide) (fun c => absurd c (by decide)) (fun _ => ?_)
                refine v_aload_n C 2 rfl rfl dX4_sign_96 ?_
                refine v_dup C (rf_n1 _) dX4_sign_97 ?_
                refine gX4_42 C (S_x0.ext E63.1).k (show h61 x0 2 = (h55 x0 2 + 1) by rw [eh61, up_s]) dX4_sign_98 ?_
                refine v_iconst C dX4_sign_101 ?_
                refine v_iadd C dX4_sign_102 ?_
                obtain ⟨o71, F⟩ := F
                refine pX4_42 C (S_x0.ext E63.1).k (okI_i rfl o71) dX4_sign_103 ?_
                obtain ⟨h72, eh72⟩ : ∃ m : Mem, m = up h61 x0 2 (h55 x0 2 + 1 + 1) := ⟨_, rfl⟩
                have B73 : EX h0 h72 := by rw [eh72]; exact EX_up B62 (S_x0.ext E63.1).k (by decide) rfl (by decide) (okI_i rfl o71)
                have E74 : EX h h72 := by rw [eh72]; exact EX_up E63 (S_x0.ext E63.1).k (by decide) rfl (by decide) (okI_i rfl o71)
                refine v_mem eh72 ?_
                have F := F h72 eh72
                refine v_iload_n C 1 rfl rfl dX4_sign_106 ?_
                refine v_bipush C rfl dX4_sign_107 ?_
                refine v_icmp_ne C 124 g4 ⟨by decide, by decide⟩ dX4_sign_109 (by decide) (fun c75 => ?_) (fun c75 => ?_)
                · have F := F.1 (c75)
                  refine v_iload_n C 0 rfl rfl dX4_sign_124 ?_
                  refine v_if_eq C 132 ⟨by decide, by decide⟩ dX4_sign_125 (by decide) (fun c => absurd c (by decide)) (fun _ => ?_)
                  refine v_iconst C dX4_sign_128 ?_
                  refine v_goto C 133 dX4_sign_129 (by decide) ?_
                  refine V.toX ?_
                  exact v_iret C (Nat.le_refl _) (Nat.le_refl _) dX4_sign_133 ⟨B73, ⟨by decide, by decide⟩, F⟩
                · have F := F.2 (c75)
                  refine v_iload_n C 0 rfl rfl dX4_sign_112 ?_
                  refine v_if_eq C 120 ⟨by decide, by decide⟩ dX4_sign_113 (by decide) (fun c => absurd c (by decide)) (fun _ => ?_)
                  refine v_iconst C dX4_sign_116 ?_
                  refine v_goto C 133 dX4_sign_117 (by decide) ?_
                  refine V.toX ?_
                  exact v_iret C (Nat.le_refl _) (Nat.le_refl _) dX4_sign_133 ⟨B73, ⟨by decide, by decide⟩, F⟩
          · have F := F.2 (c64)
            refine v_iconst C dX4_sign_53 ?_
            refine V.toX ?_
            exact v_iret C (Nat.le_refl _) (Nat.le_refl _) dX4_sign_54 ⟨B62, ⟨by decide, by decide⟩, F⟩
        · exact fun h9 F9 => ⟨B5.tr F9.1, F9.2⟩
      · have F := F.2 (c53)
        refine v_iconst C dX4_sign_24 ?_
        refine v_goto C 29 dX4_sign_25 (by decide) ?_
        refine v_iconst C dX4_sign_29 ?_
        refine v_aload_n C 1 rfl rfl dX4_sign_30 ?_
        refine gX4_42 C (S_x0.ext E6.1).k rfl dX4_sign_31 ?_
        refine tX4_76 C N (S_x0.ext E6.1).k (d2 := 0) (kc2 := 0) (ks2 := 0) (by decide) (Nat.le_refl _) (Nat.le_refl _) (Nat.le_of_ble_eq_true rfl) dX4_sign_34 (CtX.mono (F ⟨by decide, by decide⟩ ⟨by decide, by decide⟩ (EX.rI B5 (j := 2) (S_x0.ext E6.1).k rfl)) ?_ ?_)
        · rintro r76 h77 ⟨e78, F⟩
          have F := F e78
          have B80 := B5.tr e78
          have E81 := E6.tr e78
          refine v_aload_n C 1 rfl rfl dX4_sign_37 ?_
          refine v_dup C (rf_n1 _) dX4_sign_38 ?_
          refine gX4_42 C (S_x0.ext E81.1).k rfl dX4_sign_39 ?_
          refine v_iconst C dX4_sign_42 ?_
          refine v_iadd C dX4_sign_43 ?_
          obtain ⟨o82, F⟩ := F
          refine pX4_42 C (S_x0.ext E81.1).k (okI_i rfl o82) dX4_sign_44 ?_
          obtain ⟨h83, eh83⟩ : ∃ m : Mem, m = up h77 x0 2 (h77 x0 2 + 1) := ⟨_, rfl⟩
          have B84 : EX h0 h83 := by rw [eh83]; exact EX_up B80 (S_x0.ext E81.1).k (by decide) rfl (by decide) (okI_i rfl o82)
          have E85 : EX h h83 := by rw [eh83]; exact EX_up E81 (S_x0.ext E81.1).k (by decide) rfl (by decide) (okI_i rfl o82)
          refine v_mem eh83 ?_
          have F := F h83 eh83
          refine v_iload_n C 0 rfl rfl dX4_sign_47 ?_
          refine v_bipush C rfl dX4_sign_48 ?_
          refine v_icmp_ne C 55 g4 ⟨by decide, by decide⟩ dX4_sign_50 (by decide) (fun c86 => ?_) (fun c86 => ?_)
          · have F := F.1 (c86)
            refine v_aload_n C 1 rfl rfl dX4_sign_55 ?_
            refine gX4_42 C (S_x0.ext E85.1).k (show h83 x0 2 = (h77 x0 2 + 1) by rw [eh83, up_s]) dX4_sign_56 ?_
            refine v_aload_n C 1 rfl rfl dX4_sign_59 ?_
            refine gX4_3 C (S_x0.ext E85.1).k (S_x0.ext E85.1).f6 dX4_sign_60 ?_
            refine gX4_45 C (SX.ext E85.1).k1 (show h83 1 11 = h77 1 11 by rw [eh83, up_i (by decide)]) dX4_sign_63 ?_
            refine v_icmp_ge C 90 o82 (R32.of (show h83 1 11 = h77 1 11 by rw [eh83, up_i (by decide)]) (EX.rI B84 (j := 11) (SX.ext E85.1).k1 rfl)) dX4_sign_66 (by decide) (fun c87 => ?_) (fun c87 => ?_)
            · have F := F.1 (c87)
              refine v_iconst C dX4_sign_90 ?_
              refine v_istore_n C rfl (by decide) dX4_sign_91 (lv2 := [(2, iv 0), (1, iv r1), (0, rf x0)]) rfl ?_
              refine v_iload_n C 0 rfl rfl dX4_sign_92 ?_
              refine v_if_eq C 106 ⟨by decide, by decide⟩ dX4_sign_93 (by decide) (fun _ => ?_) (fun c => absurd c (by decide))
              refine v_iload_n C 1 rfl rfl dX4_sign_106 ?_
              refine v_bipush C rfl dX4_sign_107 ?_
              refine v_icmp_ne C 124 g4 ⟨by decide, by decide⟩ dX4_sign_109 (by decide) (fun c88 => ?_) (fun c88 => ?_)
              · have F := F.1 (c88)
                refine v_iload_n C 0 rfl rfl dX4_sign_124 ?_
                refine v_if_eq C 132 ⟨by decide, by decide⟩ dX4_sign_125 (by decide) (fun _ => ?_) (fun c => absurd c (by decide))
                refine v_iconst C dX4_sign_132 ?_
                refine V.toX ?_
                exact v_iret C (Nat.le_refl _) (Nat.le_refl _) dX4_sign_133 ⟨B84, ⟨by decide, by decide⟩, F⟩
              · have F := F.2 (c88)
                refine v_iload_n C 0 rfl rfl dX4_sign_112 ?_
                refine v_if_eq C 120 ⟨by decide, by decide⟩ dX4_sign_113 (by decide) (fun _ => ?_) (fun c => absurd c (by decide))
                refine v_iconst C dX4_sign_120 ?_
                refine v_goto C 133 dX4_sign_121 (by decide) ?_
                refine V.toX ?_
                exact v_iret C (Nat.le_refl _) (Nat.le_refl _) dX4_sign_133 ⟨B84, ⟨by decide, by decide⟩, F⟩
            · have F := F.2 (c87)
              refine v_aload_n C 1 rfl rfl dX4_sign_69 ?_
              refine gX4_3 C (S_x0.ext E85.1).k (S_x0.ext E85.1).f6 dX4_sign_70 ?_
              refine gX4_48 C (SX.ext E85.1).k1 (SX.ext E85.1).f10 dX4_sign_73 ?_
              refine v_aload_n C 1 rfl rfl dX4_sign_76 ?_
              refine gX4_42 C (S_x0.ext E85.1).k (show h83 x0 2 = (h77 x0 2 + 1) by rw [eh83, up_s]) dX4_sign_77 ?_
              obtain ⟨o89, F⟩ := F
              obtain ⟨o90, F⟩ := F
              refine v_bald C (SX.ext E85.1).k167 o89 (by rw [(SX.ext E85.1).l167]; exact o90) rfl dX4_sign_80 ?_
              refine v_bipush C rfl dX4_sign_81 ?_
              refine v_icmp_ne C 90 (EX.rI B84 (j := h77 x0 2 + 1) (SX.ext E85.1).k167 rfl) ⟨by decide, by decide⟩ dX4_sign_83 (by decide) (fun c91 => ?_) (fun c91 => ?_)
              · have F := F.1 (c91)
                refine v_iconst C dX4_sign_90 ?_
                refine v_istore_n C rfl (by decide) dX4_sign_91 (lv2 := [(2, iv 0), (1, iv r1), (0, rf x0)]) rfl ?_
                refine v_iload_n C 0 rfl rfl dX4_sign_92 ?_
                refine v_if_eq C 106 ⟨by decide, by decide⟩ dX4_sign_93 (by decide) (fun _ => ?_) (fun c => absurd c (by decide))
                refine v_iload_n C 1 rfl rfl dX4_sign_106 ?_
                refine v_bipush C rfl dX4_sign_107 ?_
                refine v_icmp_ne C 124 g4 ⟨by decide, by decide⟩ dX4_sign_109 (by decide) (fun c92 => ?_) (fun c92 => ?_)
                · have F := F.1 (c92)
                  refine v_iload_n C 0 rfl rfl dX4_sign_124 ?_
                  refine v_if_eq C 132 ⟨by decide, by decide⟩ dX4_sign_125 (by decide) (fun _ => ?_) (fun c => absurd c (by decide))
                  refine v_iconst C dX4_sign_132 ?_
                  refine V.toX ?_
                  exact v_iret C (Nat.le_refl _) (Nat.le_refl _) dX4_sign_133 ⟨B84, ⟨by decide, by decide⟩, F⟩
                · have F := F.2 (c92)
                  refine v_iload_n C 0 rfl rfl dX4_sign_112 ?_
                  refine v_if_eq C 120 ⟨by decide, by decide⟩ dX4_sign_113 (by decide) (fun _ => ?_) (fun c => absurd c (by decide))
                  refine v_iconst C dX4_sign_120 ?_
                  refine v_goto C 133 dX4_sign_121 (by decide) ?_
                  refine V.toX ?_
                  exact v_iret C (Nat.le_refl _) (Nat.le_refl _) dX4_sign_133 ⟨B84, ⟨by decide, by decide⟩, F⟩
              · have F := F.2 (c91)
                refine v_iconst C dX4_sign_86 ?_
                refine v_goto C 91 dX4_sign_87 (by decide) ?_
                refine v_istore_n C rfl (by decide) dX4_sign_91 (lv2 := [(2, iv 1), (1, iv r1), (0, rf x0)]) rfl ?_
                refine v_iload_n C 0 rfl rfl dX4_sign_92 ?_
                refine v_if_eq C 106 ⟨by decide, by decide⟩ dX4_sign_93 (by decide) (fun c => absurd c (by decide)) (fun _ => ?_)
                refine v_aload_n C 2 rfl rfl dX4_sign_96 ?_
                refine v_dup C (rf_n1 _) dX4_sign_97 ?_
                refine gX4_42 C (S_x0.ext E85.1).k (show h83 x0 2 = (h77 x0 2 + 1) by rw [eh83, up_s]) dX4_sign_98 ?_
                refine v_iconst C dX4_sign_101 ?_
                refine v_iadd C dX4_sign_102 ?_
                obtain ⟨o93, F⟩ := F
                refine pX4_42 C (S_x0.ext E85.1).k (okI_i rfl o93) dX4_sign_103 ?_
                obtain ⟨h94, eh94⟩ : ∃ m : Mem, m = up h83 x0 2 (h77 x0 2 + 1 + 1) := ⟨_, rfl⟩
                have B95 : EX h0 h94 := by rw [eh94]; exact EX_up B84 (S_x0.ext E85.1).k (by decide) rfl (by decide) (okI_i rfl o93)
                have E96 : EX h h94 := by rw [eh94]; exact EX_up E85 (S_x0.ext E85.1).k (by decide) rfl (by decide) (okI_i rfl o93)
                refine v_mem eh94 ?_
                have F := F h94 eh94
                refine v_iload_n C 1 rfl rfl dX4_sign_106 ?_
                refine v_bipush C rfl dX4_sign_107 ?_
                refine v_icmp_ne C 124 g4 ⟨by decide, by decide⟩ dX4_sign_109 (by decide) (fun c97 => ?_) (fun c97 => ?_)
                · have F := F.1 (c97)
                  refine v_iload_n C 0 rfl rfl dX4_sign_124 ?_
                  refine v_if_eq C 132 ⟨by decide, by decide⟩ dX4_sign_125 (by decide) (fun c => absurd c (by decide)) (fun _ => ?_)
                  refine v_iconst C dX4_sign_128 ?_
                  refine v_goto C 133 dX4_sign_129 (by decide) ?_
                  refine V.toX ?_
                  exact v_iret C (Nat.le_refl _) (Nat.le_refl _) dX4_sign_133 ⟨B95, ⟨by decide, by decide⟩, F⟩
                · have F := F.2 (c97)
                  refine v_iload_n C 0 rfl rfl dX4_sign_112 ?_
                  refine v_if_eq C 120 ⟨by decide, by decide⟩ dX4_sign_113 (by decide) (fun c => absurd c (by decide)) (fun _ => ?_)
                  refine v_iconst C dX4_sign_116 ?_
                  refine v_goto C 133 dX4_sign_117 (by decide) ?_
                  refine V.toX ?_
                  exact v_iret C (Nat.le_refl _) (Nat.le_refl _) dX4_sign_133 ⟨B95, ⟨by decide, by decide⟩, F⟩
          · have F := F.2 (c86)
            refine v_iconst C dX4_sign_53 ?_
            refine V.toX ?_
            exact v_iret C (Nat.le_refl _) (Nat.le_refl _) dX4_sign_54 ⟨B84, ⟨by decide, by decide⟩, F⟩
        · exact fun h9 F9 => ⟨B5.tr F9.1, F9.2⟩
set_option maxHeartbeats 1000000 in
theorem eX4_sign {G : GT} {l : Launch} {x0 : Int} {h : Mem} {P : Int → Mem → Prop} {PX : Mem → Prop} (F : ∀ X : MX, Cx G X cX4_sign 3 RX4 1 0 0 (some .int) "sign" → NoH X → X.2.1 = l → (EX h h) →
    TextS h x0 ∧ XS h ∧ kX4_see G X.2.1 x0 h (fun r1 h2 => EX h h2 → ((r1 = 60 → kX4_demand G X.2.1 x0 1 0 (h2 x0 2) h2 (fun _ h9 => EX h2 h9 → R32 (h9 x0 2 + 1) ∧ ∀ h15 : Mem, h15 = up h9 x0 2 (h9 x0 2 + 1) → ((r1 ≠ 61 → ((h9 x0 2 + 1 ≥ h9 1 11 → ((r1 ≠ 60 → P 4 h15) ∧ (r1 = 60 → P 0 h15))) ∧ (h9 x0 2 + 1 < h9 1 11 → 0 ≤ h9 x0 2 + 1 ∧ h9 x0 2 + 1 < 400 ∧ ((h15 167 (h9 x0 2 + 1) ≠ 61 → ((r1 ≠ 60 → P 4 h15) ∧ (r1 = 60 → P 0 h15))) ∧ (h15 167 (h9 x0 2 + 1) = 61 → R32 (h9 x0 2 + 1 + 1) ∧ ∀ h26 : Mem, h26 = up h15 x0 2 (h9 x0 2 + 1 + 1) → ((r1 ≠ 60 → P 3 h26) ∧ (r1 = 60 → P 1 h26))))))) ∧ (r1 = 61 → P 2 h15))) PX) ∧ (r1 ≠ 60 → ((r1 = 61 → kX4_demand G X.2.1 x0 1 0 (h2 x0 2) h2 (fun _ h32 => EX h2 h32 → R32 (h32 x0 2 + 1) ∧ ∀ h38 : Mem, h38 = up h32 x0 2 (h32 x0 2 + 1) → ((r1 ≠ 61 → ((h32 x0 2 + 1 ≥ h32 1 11 → ((r1 ≠ 60 → P 4 h38) ∧ (r1 = 60 → P 0 h38))) ∧ (h32 x0 2 + 1 < h32 1 11 → 0 ≤ h32 x0 2 + 1 ∧ h32 x0 2 + 1 < 400 ∧ ((h38 167 (h32 x0 2 + 1) ≠ 61 → ((r1 ≠ 60 → P 4 h38) ∧ (r1 = 60 → P 0 h38))) ∧ (h38 167 (h32 x0 2 + 1) = 61 → R32 (h32 x0 2 + 1 + 1) ∧ ∀ h49 : Mem, h49 = up h38 x0 2 (h32 x0 2 + 1 + 1) → ((r1 ≠ 60 → P 3 h49) ∧ (r1 = 60 → P 1 h49))))))) ∧ (r1 = 61 → P 2 h38))) PX) ∧ (r1 ≠ 61 → ((r1 ≠ 62 → kX4_demand G X.2.1 x0 0 0 (h2 x0 2) h2 (fun _ h55 => EX h2 h55 → R32 (h55 x0 2 + 1) ∧ ∀ h61 : Mem, h61 = up h55 x0 2 (h55 x0 2 + 1) → ((r1 ≠ 61 → ((h55 x0 2 + 1 ≥ h55 1 11 → ((r1 ≠ 60 → P 4 h61) ∧ (r1 = 60 → P 0 h61))) ∧ (h55 x0 2 + 1 < h55 1 11 → 0 ≤ h55 x0 2 + 1 ∧ h55 x0 2 + 1 < 400 ∧ ((h61 167 (h55 x0 2 + 1) ≠ 61 → ((r1 ≠ 60 → P 4 h61) ∧ (r1 = 60 → P 0 h61))) ∧ (h61 167 (h55 x0 2 + 1) = 61 → R32 (h55 x0 2 + 1 + 1) ∧ ∀ h72 : Mem, h72 = up h61 x0 2 (h55 x0 2 + 1 + 1) → ((r1 ≠ 60 → P 3 h72) ∧ (r1 = 60 → P 1 h72))))))) ∧ (r1 = 61 → P 2 h61))) PX) ∧ (r1 = 62 → kX4_demand G X.2.1 x0 1 0 (h2 x0 2) h2 (fun _ h77 => EX h2 h77 → R32 (h77 x0 2 + 1) ∧ ∀ h83 : Mem, h83 = up h77 x0 2 (h77 x0 2 + 1) → ((r1 ≠ 61 → ((h77 x0 2 + 1 ≥ h77 1 11 → ((r1 ≠ 60 → P 4 h83) ∧ (r1 = 60 → P 0 h83))) ∧ (h77 x0 2 + 1 < h77 1 11 → 0 ≤ h77 x0 2 + 1 ∧ h77 x0 2 + 1 < 400 ∧ ((h83 167 (h77 x0 2 + 1) ≠ 61 → ((r1 ≠ 60 → P 4 h83) ∧ (r1 = 60 → P 0 h83))) ∧ (h83 167 (h77 x0 2 + 1) = 61 → R32 (h77 x0 2 + 1 + 1) ∧ ∀ h94 : Mem, h94 = up h83 x0 2 (h77 x0 2 + 1 + 1) → ((r1 ≠ 60 → P 3 h94) ∧ (r1 = 60 → P 1 h94))))))) ∧ (r1 = 61 → P 2 h83))) PX)))))))) :
    kX4_sign G l x0 h P PX := by
  refine ct_ofX (by decide +kernel) (Nat.le_of_ble_eq_true rfl) fun X C N e => ?_
  refine v_okz fun O => ?_
  exact wX4_sign_0 C N (EX.rf O) (F X C N e (EX.rf O))
set_option maxHeartbeats 4000000 in
theorem wX4_takesSign_0 {G : GT} {X : MX} {h0 h : Mem} {P : Int → Mem → Prop} {x0 x1 : Int} (C : Cx G X cX4_takesSign 2 RX4 1 0 0 (some .boolean) "takesSign") (B0 : EX h0 h ∧ R32 x1)
    (F : TextS h x0 ∧ kX4_see G X.2.1 x0 h (fun r1 h2 => EX h h2 → ((r1 = x1 → R32 (h2 x0 2 + 1) ∧ ∀ h9 : Mem, h9 = up h2 x0 2 (h2 x0 2 + 1) → P 1 h9) ∧ (r1 ≠ x1 → P 0 h2)))) :
    V G X 2 0 0 (QF G X 0 0 0 (PZ h0 P)) 0 [(0, rf x0), (1, iv x1)] [] h := by
  obtain ⟨B, R1⟩ := B0
  have E : EX h h := EX.rf B.2
  obtain ⟨S_x0, F⟩ := F
  refine v_aload_n C 0 rfl rfl dX4_takesSign_0 ?_
  refine mX4_52 C (S_x0.ext E.1).k (d2 := 0) (kc2 := 0) (ks2 := 0) (by decide) (Nat.le_refl _) (Nat.le_refl _) (Nat.le_of_ble_eq_true rfl) dX4_takesSign_1 (Ct.mono (F) ?_)
  rintro r1 h2 ⟨e3, g4, F⟩
  have F := F e3
  have B5 := B.tr e3
  have E6 := E.tr e3
  refine v_iload_n C 1 rfl rfl dX4_takesSign_4 ?_
  refine v_icmp_eq C 10 g4 R1 dX4_takesSign_5 (by decide) (fun c7 => ?_) (fun c7 => ?_)
  · have F := F.1 (c7)
    refine v_aload_n C 0 rfl rfl dX4_takesSign_10 ?_
    refine v_dup C (rf_n1 _) dX4_takesSign_11 ?_
    refine gX4_42 C (S_x0.ext E6.1).k rfl dX4_takesSign_12 ?_
    refine v_iconst C dX4_takesSign_15 ?_
    refine v_iadd C dX4_takesSign_16 ?_
    obtain ⟨o8, F⟩ := F
    refine pX4_42 C (S_x0.ext E6.1).k (okI_i rfl o8) dX4_takesSign_17 ?_
    obtain ⟨h9, eh9⟩ : ∃ m : Mem, m = up h2 x0 2 (h2 x0 2 + 1) := ⟨_, rfl⟩
    have B10 : EX h0 h9 := by rw [eh9]; exact EX_up B5 (S_x0.ext E6.1).k (by decide) rfl (by decide) (okI_i rfl o8)
    have E11 : EX h h9 := by rw [eh9]; exact EX_up E6 (S_x0.ext E6.1).k (by decide) rfl (by decide) (okI_i rfl o8)
    refine v_mem eh9 ?_
    have F := F h9 eh9
    refine v_iconst C dX4_takesSign_20 ?_
    exact v_zret C (by decide) (Nat.le_refl _) (Nat.le_refl _) dX4_takesSign_21 ⟨B10, (by decide), F⟩
  · have F := F.2 (c7)
    refine v_iconst C dX4_takesSign_8 ?_
    exact v_zret C (by decide) (Nat.le_refl _) (Nat.le_refl _) dX4_takesSign_9 ⟨B5, (by decide), F⟩
set_option maxHeartbeats 1000000 in
theorem eX4_takesSign {G : GT} {l : Launch} {x0 x1 : Int} {h : Mem} {P : Int → Mem → Prop} (F : ∀ X : MX, Cx G X cX4_takesSign 2 RX4 1 0 0 (some .boolean) "takesSign" → X.2.1 = l → (EX h h ∧ R32 x1) →
    TextS h x0 ∧ kX4_see G X.2.1 x0 h (fun r1 h2 => EX h h2 → ((r1 = x1 → R32 (h2 x0 2 + 1) ∧ ∀ h9 : Mem, h9 = up h2 x0 2 (h2 x0 2 + 1) → P 1 h9) ∧ (r1 ≠ x1 → P 0 h2)))) :
    kX4_takesSign G l x0 x1 h P := by
  intro R1
  refine ct_of (by decide +kernel) (Nat.le_of_ble_eq_true rfl) fun X C e => ?_
  refine v_okz fun O => ?_
  exact wX4_takesSign_0 C ⟨EX.rf O, R1⟩ (F X C e ⟨EX.rf O, R1⟩)
set_option maxHeartbeats 4000000 in
theorem wX4_coatHere_0 {G : GT} {X : MX} {h0 h : Mem} {P : Int → Mem → Prop} {PX : Mem → Prop} {x0 : Int} (C : Cx G X cX4_coatHere 3 RX4 2 0 0 none "coatHere") (N : NoH X) (B0 : EX h0 h)
    (F : TextS h x0 ∧ XS h ∧ R32 (h 129 4 - 1) ∧ kX4_number G X.2.1 x0 0 (h 129 4 - 1) h (fun r2 h3 => EX h h3 → R32 (h3 129 5 - 1) ∧ kX4_number G X.2.1 x0 0 (h3 129 5 - 1) h3 (fun r9 h10 => EX h3 h10 → 0 ≤ r2 ∧ r2 < 16 ∧ ((h10 136 r2 ≠ 5 → 0 ≤ 5 * r2 + h10 136 r2 ∧ 5 * r2 + h10 136 r2 < 80 ∧ ∀ h20 : Mem, h20 = up h10 137 (5 * r2 + h10 136 r2) r9 → R32 (h10 136 r2 + 1) ∧ ∀ h24 : Mem, h24 = up h20 136 r2 (h10 136 r2 + 1) → P 0 h24) ∧ (h10 136 r2 = 5 → 0 ≤ 5 * r2 + 1 ∧ 0 ≤ 5 * r2 ∧ 5 * r2 + 1 + 4 ≤ 80 ∧ 5 * r2 + 4 ≤ 80 ∧ ∀ h31 : Mem, h31 = cpy h10 137 (5 * r2 + 1) 137 (5 * r2) 4 → R32 (h31 136 r2 - 1) ∧ ∀ h35 : Mem, h35 = up h31 136 r2 (h31 136 r2 - 1) → 0 ≤ 5 * r2 + (h31 136 r2 - 1) ∧ 5 * r2 + (h31 136 r2 - 1) < 80 ∧ ∀ h40 : Mem, h40 = up h35 137 (5 * r2 + (h31 136 r2 - 1)) r9 → R32 (h31 136 r2 - 1 + 1) ∧ ∀ h44 : Mem, h44 = up h40 136 r2 (h31 136 r2 - 1 + 1) → P 0 h44))) PX) PX) :
    V G X 3 0 0 (QX G X 3 0 0 (PR h0 P) (PE h0 PX)) 0 [(0, rf x0)] [] h := by
  have B := B0
  have E : EX h h := EX.rf B.2
  obtain ⟨S_x0, F⟩ := F
  obtain ⟨SX, F⟩ := F
  refine v_aload_n C 0 rfl rfl dX4_coatHere_0 ?_
  refine v_iconst C dX4_coatHere_1 ?_
  refine v_aload_n C 0 rfl rfl dX4_coatHere_2 ?_
  refine gX4_26 C (S_x0.ext E.1).k (S_x0.ext E.1).f1 dX4_coatHere_3 ?_
  refine gX4_124 C ((SX.ext E.1).t129).k rfl dX4_coatHere_6 ?_
  refine v_iconst C dX4_coatHere_9 ?_
  refine v_isub C dX4_coatHere_10 ?_
  obtain ⟨o1, F⟩ := F
  refine tX4_110 C N (S_x0.ext E.1).k (d2 := 1) (kc2 := 0) (ks2 := 0) (by decide) (Nat.le_refl _) (Nat.le_refl _) (Nat.le_of_ble_eq_true rfl) dX4_coatHere_11 (CtX.mono (F ⟨by decide, by decide⟩ o1) ?_ ?_)
  · rintro r2 h3 ⟨e4, g5, F⟩
    have F := F e4
    have B6 := B.tr e4
    have E7 := E.tr e4
    refine v_istore_n C rfl (by decide) dX4_coatHere_14 (lv2 := [(1, iv r2), (0, rf x0)]) rfl ?_
    refine v_aload_n C 1 rfl rfl dX4_coatHere_15 ?_
    refine v_iconst C dX4_coatHere_16 ?_
    refine v_aload_n C 1 rfl rfl dX4_coatHere_17 ?_
    refine gX4_26 C (S_x0.ext E7.1).k (S_x0.ext E7.1).f1 dX4_coatHere_18 ?_
    refine gX4_101 C ((SX.ext E7.1).t129).k rfl dX4_coatHere_21 ?_
    refine v_iconst C dX4_coatHere_24 ?_
    refine v_isub C dX4_coatHere_25 ?_
    obtain ⟨o8, F⟩ := F
    refine tX4_110 C N (S_x0.ext E7.1).k (d2 := 1) (kc2 := 0) (ks2 := 0) (by decide) (Nat.le_refl _) (Nat.le_refl _) (Nat.le_of_ble_eq_true rfl) dX4_coatHere_26 (CtX.mono (F ⟨by decide, by decide⟩ o8) ?_ ?_)
    · rintro r9 h10 ⟨e11, g12, F⟩
      have F := F e11
      have B13 := B6.tr e11
      have E14 := E7.tr e11
      refine v_istore_n C rfl (by decide) dX4_coatHere_29 (lv2 := [(2, iv r9), (1, iv r2), (0, rf x0)]) rfl ?_
      refine v_aload_n C 2 rfl rfl dX4_coatHere_30 ?_
      refine gX4_26 C (S_x0.ext E14.1).k (S_x0.ext E14.1).f1 dX4_coatHere_31 ?_
      refine gX4_141 C ((SX.ext E14.1).t129).k ((SX.ext E14.1).t129).f19 dX4_coatHere_34 ?_
      refine v_iload_n C 1 rfl rfl dX4_coatHere_37 ?_
      obtain ⟨o15, F⟩ := F
      obtain ⟨o16, F⟩ := F
      refine v_iald C ((SX.ext E14.1).t129).k19 o15 (by rw [((SX.ext E14.1).t129).l19]; exact o16) rfl dX4_coatHere_38 ?_
      refine v_iconst C dX4_coatHere_39 ?_
      refine v_icmp_ne C 82 (EX.rI B13 (j := r2) ((SX.ext E14.1).t129).k19 rfl) ⟨by decide, by decide⟩ dX4_coatHere_40 (by decide) (fun c17 => ?_) (fun c17 => ?_)
      · have F := F.1 (c17)
        refine v_aload_n C 2 rfl rfl dX4_coatHere_82 ?_
        refine gX4_26 C (S_x0.ext E14.1).k (S_x0.ext E14.1).f1 dX4_coatHere_83 ?_
        refine gX4_144 C ((SX.ext E14.1).t129).k ((SX.ext E14.1).t129).f20 dX4_coatHere_86 ?_
        refine v_iconst C dX4_coatHere_89 ?_
        refine v_iload_n C 1 rfl rfl dX4_coatHere_90 ?_
        refine v_imul C dX4_coatHere_91 ?_
        refine v_aload_n C 2 rfl rfl dX4_coatHere_92 ?_
        refine gX4_26 C (S_x0.ext E14.1).k (S_x0.ext E14.1).f1 dX4_coatHere_93 ?_
        refine gX4_141 C ((SX.ext E14.1).t129).k ((SX.ext E14.1).t129).f19 dX4_coatHere_96 ?_
        refine v_iload_n C 1 rfl rfl dX4_coatHere_99 ?_
        refine v_iald C ((SX.ext E14.1).t129).k19 o15 (by rw [((SX.ext E14.1).t129).l19]; exact o16) rfl dX4_coatHere_100 ?_
        refine v_iadd C dX4_coatHere_101 ?_
        refine v_iload_n C 0 rfl rfl dX4_coatHere_102 ?_
        obtain ⟨o18, F⟩ := F
        obtain ⟨o19, F⟩ := F
        refine v_iast C ((SX.ext E14.1).t129).k20 o18 (by rw [((SX.ext E14.1).t129).l20]; exact o19) g12 dX4_coatHere_103 ?_
        obtain ⟨h20, eh20⟩ : ∃ m : Mem, m = up h10 137 (5 * r2 + h10 136 r2) r9 := ⟨_, rfl⟩
        have B21 : EX h0 h20 := by rw [eh20]; exact EX_up B13 ((SX.ext E14.1).t129).k20 (by decide) rfl o18 (okI_a (Or.inl rfl) g12)
        have E22 : EX h h20 := by rw [eh20]; exact EX_up E14 ((SX.ext E14.1).t129).k20 (by decide) rfl o18 (okI_a (Or.inl rfl) g12)
        refine v_mem eh20 ?_
        have F := F h20 eh20
        refine v_aload_n C 2 rfl rfl dX4_coatHere_104 ?_
        refine gX4_26 C (S_x0.ext E22.1).k (S_x0.ext E22.1).f1 dX4_coatHere_105 ?_
        refine gX4_141 C ((SX.ext E22.1).t129).k ((SX.ext E22.1).t129).f19 dX4_coatHere_108 ?_
        refine v_iload_n C 1 rfl rfl dX4_coatHere_111 ?_
        refine v_dup2 C (iv_n1 _) (rf_n1 _) dX4_coatHere_112 ?_
        refine v_iald C ((SX.ext E22.1).t129).k19 o15 (by rw [((SX.ext E22.1).t129).l19]; exact o16) (show h20 136 r2 = h10 136 r2 by rw [eh20, up_a (by decide)]) dX4_coatHere_113 ?_
        refine v_iconst C dX4_coatHere_114 ?_
        refine v_iadd C dX4_coatHere_115 ?_
        obtain ⟨o23, F⟩ := F
        refine v_iast C ((SX.ext E22.1).t129).k19 o15 (by rw [((SX.ext E22.1).t129).l19]; exact o16) o23 dX4_coatHere_116 ?_
        obtain ⟨h24, eh24⟩ : ∃ m : Mem, m = up h20 136 r2 (h10 136 r2 + 1) := ⟨_, rfl⟩
        have B25 : EX h0 h24 := by rw [eh24]; exact EX_up B21 ((SX.ext E22.1).t129).k19 (by decide) rfl o15 (okI_a (Or.inl rfl) o23)
        have E26 : EX h h24 := by rw [eh24]; exact EX_up E22 ((SX.ext E22.1).t129).k19 (by decide) rfl o15 (okI_a (Or.inl rfl) o23)
        refine v_mem eh24 ?_
        have F := F h24 eh24
        refine V.toX ?_
        exact v_vret C (Nat.le_refl _) (Nat.le_refl _) dX4_coatHere_117 ⟨B25, F⟩
      · have F := F.2 (c17)
        refine v_aload_n C 2 rfl rfl dX4_coatHere_43 ?_
        refine gX4_26 C (S_x0.ext E14.1).k (S_x0.ext E14.1).f1 dX4_coatHere_44 ?_
        refine gX4_144 C ((SX.ext E14.1).t129).k ((SX.ext E14.1).t129).f20 dX4_coatHere_47 ?_
        refine v_iconst C dX4_coatHere_50 ?_
        refine v_iload_n C 1 rfl rfl dX4_coatHere_51 ?_
        refine v_imul C dX4_coatHere_52 ?_
        refine v_iconst C dX4_coatHere_53 ?_
        refine v_iadd C dX4_coatHere_54 ?_
        refine v_aload_n C 2 rfl rfl dX4_coatHere_55 ?_
        refine gX4_26 C (S_x0.ext E14.1).k (S_x0.ext E14.1).f1 dX4_coatHere_56 ?_
        refine gX4_144 C ((SX.ext E14.1).t129).k ((SX.ext E14.1).t129).f20 dX4_coatHere_59 ?_
        refine v_iconst C dX4_coatHere_62 ?_
        refine v_iload_n C 1 rfl rfl dX4_coatHere_63 ?_
        refine v_imul C dX4_coatHere_64 ?_
        refine v_iconst C dX4_coatHere_65 ?_
        obtain ⟨o27, F⟩ := F
        obtain ⟨o28, F⟩ := F
        obtain ⟨o29, F⟩ := F
        obtain ⟨o30, F⟩ := F
        refine v_copy C q647 q540 q539 q137 (by decide) (Nat.le_of_ble_eq_true rfl) ((SX.ext E14.1).t129).k20 ((SX.ext E14.1).t129).k20 o27 o28 (by decide) (by rw [((SX.ext E14.1).t129).l20]; exact o29) (by rw [((SX.ext E14.1).t129).l20]; exact o30) dX4_coatHere_66 ?_
        obtain ⟨h31, eh31⟩ : ∃ m : Mem, m = cpy h10 137 (5 * r2 + 1) 137 (5 * r2) 4 := ⟨_, rfl⟩
        have B32 : EX h0 h31 := by rw [eh31]; exact EX_cpy B13 ((SX.ext E14.1).t129).k20 ((SX.ext E14.1).t129).k20 o28
        have E33 : EX h h31 := by rw [eh31]; exact EX_cpy E14 ((SX.ext E14.1).t129).k20 ((SX.ext E14.1).t129).k20 o28
        refine v_mem eh31 ?_
        have F := F h31 eh31
        refine v_aload_n C 2 rfl rfl dX4_coatHere_69 ?_
        refine gX4_26 C (S_x0.ext E33.1).k (S_x0.ext E33.1).f1 dX4_coatHere_70 ?_
        refine gX4_141 C ((SX.ext E33.1).t129).k ((SX.ext E33.1).t129).f19 dX4_coatHere_73 ?_
        refine v_iload_n C 1 rfl rfl dX4_coatHere_76 ?_
        refine v_dup2 C (iv_n1 _) (rf_n1 _) dX4_coatHere_77 ?_
        refine v_iald C ((SX.ext E33.1).t129).k19 o15 (by rw [((SX.ext E33.1).t129).l19]; exact o16) rfl dX4_coatHere_78 ?_
        refine v_iconst C dX4_coatHere_79 ?_
        refine v_isub C dX4_coatHere_80 ?_
        obtain ⟨o34, F⟩ := F
        refine v_iast C ((SX.ext E33.1).t129).k19 o15 (by rw [((SX.ext E33.1).t129).l19]; exact o16) o34 dX4_coatHere_81 ?_
        obtain ⟨h35, eh35⟩ : ∃ m : Mem, m = up h31 136 r2 (h31 136 r2 - 1) := ⟨_, rfl⟩
        have B36 : EX h0 h35 := by rw [eh35]; exact EX_up B32 ((SX.ext E33.1).t129).k19 (by decide) rfl o15 (okI_a (Or.inl rfl) o34)
        have E37 : EX h h35 := by rw [eh35]; exact EX_up E33 ((SX.ext E33.1).t129).k19 (by decide) rfl o15 (okI_a (Or.inl rfl) o34)
        refine v_mem eh35 ?_
        have F := F h35 eh35
        refine v_aload_n C 2 rfl rfl dX4_coatHere_82 ?_
        refine gX4_26 C (S_x0.ext E37.1).k (S_x0.ext E37.1).f1 dX4_coatHere_83 ?_
        refine gX4_144 C ((SX.ext E37.1).t129).k ((SX.ext E37.1).t129).f20 dX4_coatHere_86 ?_
        refine v_iconst C dX4_coatHere_89 ?_
        refine v_iload_n C 1 rfl rfl dX4_coatHere_90 ?_
        refine v_imul C dX4_coatHere_91 ?_
        refine v_aload_n C 2 rfl rfl dX4_coatHere_92 ?_
        refine gX4_26 C (S_x0.ext E37.1).k (S_x0.ext E37.1).f1 dX4_coatHere_93 ?_
        refine gX4_141 C ((SX.ext E37.1).t129).k ((SX.ext E37.1).t129).f19 dX4_coatHere_96 ?_
        refine v_iload_n C 1 rfl rfl dX4_coatHere_99 ?_
        refine v_iald C ((SX.ext E37.1).t129).k19 o15 (by rw [((SX.ext E37.1).t129).l19]; exact o16) (show h35 136 r2 = (h31 136 r2 - 1) by rw [eh35, up_s]) dX4_coatHere_100 ?_
        refine v_iadd C dX4_coatHere_101 ?_
        refine v_iload_n C 0 rfl rfl dX4_coatHere_102 ?_
        obtain ⟨o38, F⟩ := F
        obtain ⟨o39, F⟩ := F
        refine v_iast C ((SX.ext E37.1).t129).k20 o38 (by rw [((SX.ext E37.1).t129).l20]; exact o39) g12 dX4_coatHere_103 ?_
        obtain ⟨h40, eh40⟩ : ∃ m : Mem, m = up h35 137 (5 * r2 + (h31 136 r2 - 1)) r9 := ⟨_, rfl⟩
        have B41 : EX h0 h40 := by rw [eh40]; exact EX_up B36 ((SX.ext E37.1).t129).k20 (by decide) rfl o38 (okI_a (Or.inl rfl) g12)
        have E42 : EX h h40 := by rw [eh40]; exact EX_up E37 ((SX.ext E37.1).t129).k20 (by decide) rfl o38 (okI_a (Or.inl rfl) g12)
        refine v_mem eh40 ?_
        have F := F h40 eh40
        refine v_aload_n C 2 rfl rfl dX4_coatHere_104 ?_
        refine gX4_26 C (S_x0.ext E42.1).k (S_x0.ext E42.1).f1 dX4_coatHere_105 ?_
        refine gX4_141 C ((SX.ext E42.1).t129).k ((SX.ext E42.1).t129).f19 dX4_coatHere_108 ?_
        refine v_iload_n C 1 rfl rfl dX4_coatHere_111 ?_
        refine v_dup2 C (iv_n1 _) (rf_n1 _) dX4_coatHere_112 ?_
        refine v_iald C ((SX.ext E42.1).t129).k19 o15 (by rw [((SX.ext E42.1).t129).l19]; exact o16) (show h40 136 r2 = (h31 136 r2 - 1) by rw [eh40, up_a (by decide), eh35, up_s]) dX4_coatHere_113 ?_
        refine v_iconst C dX4_coatHere_114 ?_
        refine v_iadd C dX4_coatHere_115 ?_
        obtain ⟨o43, F⟩ := F
        refine v_iast C ((SX.ext E42.1).t129).k19 o15 (by rw [((SX.ext E42.1).t129).l19]; exact o16) o43 dX4_coatHere_116 ?_
        obtain ⟨h44, eh44⟩ : ∃ m : Mem, m = up h40 136 r2 (h31 136 r2 - 1 + 1) := ⟨_, rfl⟩
        have B45 : EX h0 h44 := by rw [eh44]; exact EX_up B41 ((SX.ext E42.1).t129).k19 (by decide) rfl o15 (okI_a (Or.inl rfl) o43)
        have E46 : EX h h44 := by rw [eh44]; exact EX_up E42 ((SX.ext E42.1).t129).k19 (by decide) rfl o15 (okI_a (Or.inl rfl) o43)
        refine v_mem eh44 ?_
        have F := F h44 eh44
        refine V.toX ?_
        exact v_vret C (Nat.le_refl _) (Nat.le_refl _) dX4_coatHere_117 ⟨B45, F⟩
    · exact fun h9 F9 => ⟨B6.tr F9.1, F9.2⟩
  · exact fun h9 F9 => ⟨B.tr F9.1, F9.2⟩
set_option maxHeartbeats 1000000 in
theorem eX4_coatHere {G : GT} {l : Launch} {x0 : Int} {h : Mem} {P : Int → Mem → Prop} {PX : Mem → Prop} (F : ∀ X : MX, Cx G X cX4_coatHere 3 RX4 2 0 0 none "coatHere" → NoH X → X.2.1 = l → (EX h h) →
    TextS h x0 ∧ XS h ∧ R32 (h 129 4 - 1) ∧ kX4_number G X.2.1 x0 0 (h 129 4 - 1) h (fun r2 h3 => EX h h3 → R32 (h3 129 5 - 1) ∧ kX4_number G X.2.1 x0 0 (h3 129 5 - 1) h3 (fun r9 h10 => EX h3 h10 → 0 ≤ r2 ∧ r2 < 16 ∧ ((h10 136 r2 ≠ 5 → 0 ≤ 5 * r2 + h10 136 r2 ∧ 5 * r2 + h10 136 r2 < 80 ∧ ∀ h20 : Mem, h20 = up h10 137 (5 * r2 + h10 136 r2) r9 → R32 (h10 136 r2 + 1) ∧ ∀ h24 : Mem, h24 = up h20 136 r2 (h10 136 r2 + 1) → P 0 h24) ∧ (h10 136 r2 = 5 → 0 ≤ 5 * r2 + 1 ∧ 0 ≤ 5 * r2 ∧ 5 * r2 + 1 + 4 ≤ 80 ∧ 5 * r2 + 4 ≤ 80 ∧ ∀ h31 : Mem, h31 = cpy h10 137 (5 * r2 + 1) 137 (5 * r2) 4 → R32 (h31 136 r2 - 1) ∧ ∀ h35 : Mem, h35 = up h31 136 r2 (h31 136 r2 - 1) → 0 ≤ 5 * r2 + (h31 136 r2 - 1) ∧ 5 * r2 + (h31 136 r2 - 1) < 80 ∧ ∀ h40 : Mem, h40 = up h35 137 (5 * r2 + (h31 136 r2 - 1)) r9 → R32 (h31 136 r2 - 1 + 1) ∧ ∀ h44 : Mem, h44 = up h40 136 r2 (h31 136 r2 - 1 + 1) → P 0 h44))) PX) PX) :
    kX4_coatHere G l x0 h P PX := by
  refine ct_ofX (by decide +kernel) (Nat.le_of_ble_eq_true rfl) fun X C N e => ?_
  refine v_okz fun O => ?_
  exact wX4_coatHere_0 C N (EX.rf O) (F X C N e (EX.rf O))
set_option maxHeartbeats 4000000 in
theorem wX4_streetHere_0 {G : GT} {X : MX} {h0 h : Mem} {P : Int → Mem → Prop} {PX : Mem → Prop} {x0 : Int} (C : Cx G X cX4_streetHere 2 RX4 2 0 0 none "streetHere") (N : NoH X) (B0 : EX h0 h)
    (F : TextS h x0 ∧ XS h ∧ kX4_number G X.2.1 x0 1 9 h (fun r1 h2 => EX h h2 → kX4_number G X.2.1 x0 1 100 h2 (fun r7 h8 => EX h2 h8 → ∀ h13 : Mem, h13 = up h8 129 1 r7 → kX4_number G X.2.1 x0 0 9 h13 (fun r16 h17 => EX h13 h17 → ∀ h22 : Mem, h22 = up h17 129 2 r16 → ∀ h25 : Mem, h25 = up h22 129 0 r1 → P 0 h25) PX) PX) PX) :
    V G X 2 0 0 (QX G X 3 0 0 (PR h0 P) (PE h0 PX)) 0 [(0, rf x0)] [] h := by
  have B := B0
  have E : EX h h := EX.rf B.2
  obtain ⟨S_x0, F⟩ := F
  obtain ⟨SX, F⟩ := F
  refine v_aload_n C 0 rfl rfl dX4_streetHere_0 ?_
  refine v_iconst C dX4_streetHere_1 ?_
  refine v_bipush C rfl dX4_streetHere_2 ?_
  refine tX4_110 C N (S_x0.ext E.1).k (d2 := 1) (kc2 := 0) (ks2 := 0) (by decide) (Nat.le_refl _) (Nat.le_refl _) (Nat.le_of_ble_eq_true rfl) dX4_streetHere_4 (CtX.mono (F ⟨by decide, by decide⟩ ⟨by decide, by decide⟩) ?_ ?_)
  · rintro r1 h2 ⟨e3, g4, F⟩
    have F := F e3
    have B5 := B.tr e3
    have E6 := E.tr e3
    refine v_istore_n C rfl (by decide) dX4_streetHere_7 (lv2 := [(1, iv r1), (0, rf x0)]) rfl ?_
    refine v_aload_n C 1 rfl rfl dX4_streetHere_8 ?_
    refine gX4_26 C (S_x0.ext E6.1).k (S_x0.ext E6.1).f1 dX4_streetHere_9 ?_
    refine v_aload_n C 1 rfl rfl dX4_streetHere_12 ?_
    refine v_iconst C dX4_streetHere_13 ?_
    refine v_bipush C rfl dX4_streetHere_14 ?_
    refine tX4_110 C N (S_x0.ext E6.1).k (d2 := 1) (kc2 := 0) (ks2 := 0) (by decide) (Nat.le_refl _) (Nat.le_refl _) (Nat.le_of_ble_eq_true rfl) dX4_streetHere_16 (CtX.mono (F ⟨by decide, by decide⟩ ⟨by decide, by decide⟩) ?_ ?_)
    · rintro r7 h8 ⟨e9, g10, F⟩
      have F := F e9
      have B11 := B5.tr e9
      have E12 := E6.tr e9
      refine pX4_114 C ((SX.ext E12.1).t129).k (okI_i rfl g10) dX4_streetHere_19 ?_
      obtain ⟨h13, eh13⟩ : ∃ m : Mem, m = up h8 129 1 r7 := ⟨_, rfl⟩
      have B14 : EX h0 h13 := by rw [eh13]; exact EX_up B11 ((SX.ext E12.1).t129).k (by decide) rfl (by decide) (okI_i rfl g10)
      have E15 : EX h h13 := by rw [eh13]; exact EX_up E12 ((SX.ext E12.1).t129).k (by decide) rfl (by decide) (okI_i rfl g10)
      refine v_mem eh13 ?_
      have F := F h13 eh13
      refine v_aload_n C 1 rfl rfl dX4_streetHere_22 ?_
      refine gX4_26 C (S_x0.ext E15.1).k (S_x0.ext E15.1).f1 dX4_streetHere_23 ?_
      refine v_aload_n C 1 rfl rfl dX4_streetHere_26 ?_
      refine v_iconst C dX4_streetHere_27 ?_
      refine v_bipush C rfl dX4_streetHere_28 ?_
      refine tX4_110 C N (S_x0.ext E15.1).k (d2 := 1) (kc2 := 0) (ks2 := 0) (by decide) (Nat.le_refl _) (Nat.le_refl _) (Nat.le_of_ble_eq_true rfl) dX4_streetHere_30 (CtX.mono (F ⟨by decide, by decide⟩ ⟨by decide, by decide⟩) ?_ ?_)
      · rintro r16 h17 ⟨e18, g19, F⟩
        have F := F e18
        have B20 := B14.tr e18
        have E21 := E15.tr e18
        refine pX4_117 C ((SX.ext E21.1).t129).k (okI_i rfl g19) dX4_streetHere_33 ?_
        obtain ⟨h22, eh22⟩ : ∃ m : Mem, m = up h17 129 2 r16 := ⟨_, rfl⟩
        have B23 : EX h0 h22 := by rw [eh22]; exact EX_up B20 ((SX.ext E21.1).t129).k (by decide) rfl (by decide) (okI_i rfl g19)
        have E24 : EX h h22 := by rw [eh22]; exact EX_up E21 ((SX.ext E21.1).t129).k (by decide) rfl (by decide) (okI_i rfl g19)
        refine v_mem eh22 ?_
        have F := F h22 eh22
        refine v_aload_n C 1 rfl rfl dX4_streetHere_36 ?_
        refine gX4_26 C (S_x0.ext E24.1).k (S_x0.ext E24.1).f1 dX4_streetHere_37 ?_
        refine v_iload_n C 0 rfl rfl dX4_streetHere_40 ?_
        refine pX4_93 C ((SX.ext E24.1).t129).k (okI_i rfl g4) dX4_streetHere_41 ?_
        obtain ⟨h25, eh25⟩ : ∃ m : Mem, m = up h22 129 0 r1 := ⟨_, rfl⟩
        have B26 : EX h0 h25 := by rw [eh25]; exact EX_up B23 ((SX.ext E24.1).t129).k (by decide) rfl (by decide) (okI_i rfl g4)
        have E27 : EX h h25 := by rw [eh25]; exact EX_up E24 ((SX.ext E24.1).t129).k (by decide) rfl (by decide) (okI_i rfl g4)
        refine v_mem eh25 ?_
        have F := F h25 eh25
        refine V.toX ?_
        exact v_vret C (Nat.le_refl _) (Nat.le_refl _) dX4_streetHere_44 ⟨B26, F⟩
      · exact fun h9 F9 => ⟨B14.tr F9.1, F9.2⟩
    · exact fun h9 F9 => ⟨B5.tr F9.1, F9.2⟩
  · exact fun h9 F9 => ⟨B.tr F9.1, F9.2⟩
set_option maxHeartbeats 1000000 in
theorem eX4_streetHere {G : GT} {l : Launch} {x0 : Int} {h : Mem} {P : Int → Mem → Prop} {PX : Mem → Prop} (F : ∀ X : MX, Cx G X cX4_streetHere 2 RX4 2 0 0 none "streetHere" → NoH X → X.2.1 = l → (EX h h) →
    TextS h x0 ∧ XS h ∧ kX4_number G X.2.1 x0 1 9 h (fun r1 h2 => EX h h2 → kX4_number G X.2.1 x0 1 100 h2 (fun r7 h8 => EX h2 h8 → ∀ h13 : Mem, h13 = up h8 129 1 r7 → kX4_number G X.2.1 x0 0 9 h13 (fun r16 h17 => EX h13 h17 → ∀ h22 : Mem, h22 = up h17 129 2 r16 → ∀ h25 : Mem, h25 = up h22 129 0 r1 → P 0 h25) PX) PX) PX) :
    kX4_streetHere G l x0 h P PX := by
  refine ct_ofX (by decide +kernel) (Nat.le_of_ble_eq_true rfl) fun X C N e => ?_
  refine v_okz fun O => ?_
  exact wX4_streetHere_0 C N (EX.rf O) (F X C N e (EX.rf O))
set_option maxHeartbeats 4000000 in
theorem wX4_thingHere_0 {G : GT} {X : MX} {h0 h : Mem} {P : Int → Mem → Prop} {PX : Mem → Prop} {x0 : Int} (C : Cx G X cX4_thingHere 3 RX4 2 0 0 none "thingHere") (N : NoH X) (B0 : EX h0 h)
    (F : TextS h x0 ∧ XS h ∧ ∀ y1 : Int, y1 = h 129 3 → 0 ≤ y1 ∧ y1 < 4 ∧ ∀ h4 : Mem, h4 = up h 130 y1 (h 129 4) → R32 (16 - h 129 4) ∧ kX4_number G X.2.1 x0 1 (min 6 (16 - h 129 4)) h4 (fun r8 h9 => EX h4 h9 → ∀ h14 : Mem, h14 = up h9 131 y1 r8 → kX4_number G X.2.1 x0 0 20 h14 (fun r17 h18 => EX h14 h18 → ∀ h23 : Mem, h23 = up h18 132 y1 r17 → (EX h0 h23 ∧ R32 y1 ∧ R32 0 → V G X 3 0 0 (QX G X 3 0 0 (PR h0 P) (PE h0 PX)) 71 [(0, rf x0), (1, iv y1), (2, iv 0)] [] h23)) PX) PX) :
    V G X 3 0 0 (QX G X 3 0 0 (PR h0 P) (PE h0 PX)) 0 [(0, rf x0)] [] h := by
  have B := B0
  have E : EX h h := EX.rf B.2
  obtain ⟨S_x0, F⟩ := F
  obtain ⟨SX, F⟩ := F
  refine v_aload_n C 0 rfl rfl dX4_thingHere_0 ?_
  refine gX4_26 C (S_x0.ext E.1).k (S_x0.ext E.1).f1 dX4_thingHere_1 ?_
  refine gX4_98 C ((SX.ext E.1).t129).k rfl dX4_thingHere_4 ?_
  obtain ⟨y1, ey1⟩ : ∃ z : Int, z = h 129 3 := ⟨_, rfl⟩
  have F := F y1 ey1
  have Ry1 : R32 y1 := by rw [ey1]; exact (EX.rI B (j := 3) ((SX.ext E.1).t129).k rfl)
  refine v_istore_n C rfl (by decide) dX4_thingHere_7 (lv2 := [(1, iv y1), (0, rf x0)]) (by rw [ey1]; rfl) ?_
  refine v_aload_n C 1 rfl rfl dX4_thingHere_8 ?_
  refine gX4_26 C (S_x0.ext E.1).k (S_x0.ext E.1).f1 dX4_thingHere_9 ?_
  refine gX4_120 C ((SX.ext E.1).t129).k ((SX.ext E.1).t129).f13 dX4_thingHere_12 ?_
  refine v_iload_n C 0 rfl rfl dX4_thingHere_15 ?_
  refine v_aload_n C 1 rfl rfl dX4_thingHere_16 ?_
  refine gX4_26 C (S_x0.ext E.1).k (S_x0.ext E.1).f1 dX4_thingHere_17 ?_
  refine gX4_124 C ((SX.ext E.1).t129).k rfl dX4_thingHere_20 ?_
  obtain ⟨o2, F⟩ := F
  obtain ⟨o3, F⟩ := F
  refine v_iast C ((SX.ext E.1).t129).k13 o2 (by rw [((SX.ext E.1).t129).l13]; exact o3) (EX.rI B (j := 4) ((SX.ext E.1).t129).k rfl) dX4_thingHere_23 ?_
  obtain ⟨h4, eh4⟩ : ∃ m : Mem, m = up h 130 y1 (h 129 4) := ⟨_, rfl⟩
  have B5 : EX h0 h4 := by rw [eh4]; exact EX_up B ((SX.ext E.1).t129).k13 (by decide) rfl o2 (okI_a (Or.inl rfl) (EX.rI B (j := 4) ((SX.ext E.1).t129).k rfl))
  have E6 : EX h h4 := by rw [eh4]; exact EX_up E ((SX.ext E.1).t129).k13 (by decide) rfl o2 (okI_a (Or.inl rfl) (EX.rI B (j := 4) ((SX.ext E.1).t129).k rfl))
  refine v_mem eh4 ?_
  have F := F h4 eh4
  refine v_aload_n C 1 rfl rfl dX4_thingHere_24 ?_
  refine gX4_26 C (S_x0.ext E6.1).k (S_x0.ext E6.1).f1 dX4_thingHere_25 ?_
  refine gX4_127 C ((SX.ext E6.1).t129).k ((SX.ext E6.1).t129).f14 dX4_thingHere_28 ?_
  refine v_iload_n C 0 rfl rfl dX4_thingHere_31 ?_
  refine v_aload_n C 1 rfl rfl dX4_thingHere_32 ?_
  refine v_iconst C dX4_thingHere_33 ?_
  refine v_bipush C rfl dX4_thingHere_34 ?_
  refine v_bipush C rfl dX4_thingHere_36 ?_
  refine v_aload_n C 1 rfl rfl dX4_thingHere_38 ?_
  refine gX4_26 C (S_x0.ext E6.1).k (S_x0.ext E6.1).f1 dX4_thingHere_39 ?_
  refine gX4_124 C ((SX.ext E6.1).t129).k (show h4 129 4 = h 129 4 by rw [eh4, up_a (by decide)]) dX4_thingHere_42 ?_
  refine v_isub C dX4_thingHere_45 ?_
  obtain ⟨o7, F⟩ := F
  refine v_mmin C ⟨by decide, by decide⟩ o7 q640 q641 q142 q642 (by decide) (Nat.le_refl _) (Nat.le_refl _) (Nat.le_of_ble_eq_true rfl) dX4_thingHere_46 ?_
  refine tX4_110 C N (S_x0.ext E6.1).k (d2 := 1) (kc2 := 0) (ks2 := 0) (by decide) (Nat.le_refl _) (Nat.le_refl _) (Nat.le_of_ble_eq_true rfl) dX4_thingHere_49 (CtX.mono (F ⟨by decide, by decide⟩ (minR ⟨by decide, by decide⟩ o7)) ?_ ?_)
  · rintro r8 h9 ⟨e10, g11, F⟩
    have F := F e10
    have B12 := B5.tr e10
    have E13 := E6.tr e10
    refine v_iast C ((SX.ext E13.1).t129).k14 o2 (by rw [((SX.ext E13.1).t129).l14]; exact o3) g11 dX4_thingHere_52 ?_
    obtain ⟨h14, eh14⟩ : ∃ m : Mem, m = up h9 131 y1 r8 := ⟨_, rfl⟩
    have B15 : EX h0 h14 := by rw [eh14]; exact EX_up B12 ((SX.ext E13.1).t129).k14 (by decide) rfl o2 (okI_a (Or.inl rfl) g11)
    have E16 : EX h h14 := by rw [eh14]; exact EX_up E13 ((SX.ext E13.1).t129).k14 (by decide) rfl o2 (okI_a (Or.inl rfl) g11)
    refine v_mem eh14 ?_
    have F := F h14 eh14
    refine v_aload_n C 1 rfl rfl dX4_thingHere_53 ?_
    refine gX4_26 C (S_x0.ext E16.1).k (S_x0.ext E16.1).f1 dX4_thingHere_54 ?_
    refine gX4_135 C ((SX.ext E16.1).t129).k ((SX.ext E16.1).t129).f15 dX4_thingHere_57 ?_
    refine v_iload_n C 0 rfl rfl dX4_thingHere_60 ?_
    refine v_aload_n C 1 rfl rfl dX4_thingHere_61 ?_
    refine v_iconst C dX4_thingHere_62 ?_
    refine v_bipush C rfl dX4_thingHere_63 ?_
    refine tX4_110 C N (S_x0.ext E16.1).k (d2 := 1) (kc2 := 0) (ks2 := 0) (by decide) (Nat.le_refl _) (Nat.le_refl _) (Nat.le_of_ble_eq_true rfl) dX4_thingHere_65 (CtX.mono (F ⟨by decide, by decide⟩ ⟨by decide, by decide⟩) ?_ ?_)
    · rintro r17 h18 ⟨e19, g20, F⟩
      have F := F e19
      have B21 := B15.tr e19
      have E22 := E16.tr e19
      refine v_iast C ((SX.ext E22.1).t129).k15 o2 (by rw [((SX.ext E22.1).t129).l15]; exact o3) g20 dX4_thingHere_68 ?_
      obtain ⟨h23, eh23⟩ : ∃ m : Mem, m = up h18 132 y1 r17 := ⟨_, rfl⟩
      have B24 : EX h0 h23 := by rw [eh23]; exact EX_up B21 ((SX.ext E22.1).t129).k15 (by decide) rfl o2 (okI_a (Or.inl rfl) g20)
      have E25 : EX h h23 := by rw [eh23]; exact EX_up E22 ((SX.ext E22.1).t129).k15 (by decide) rfl o2 (okI_a (Or.inl rfl) g20)
      refine v_mem eh23 ?_
      have F := F h23 eh23
      refine v_iconst C dX4_thingHere_69 ?_
      refine v_istore_n C rfl (by decide) dX4_thingHere_70 (lv2 := [(2, iv 0), (1, iv y1), (0, rf x0)]) rfl ?_
      refine v_sub (lv2 := [(0, rf x0), (1, iv y1), (2, iv 0)]) [2, 1, 0] rfl ?_
      exact F ⟨B24, Ry1, ⟨by decide, by decide⟩⟩
    · exact fun h9 F9 => ⟨B15.tr F9.1, F9.2⟩
  · exact fun h9 F9 => ⟨B5.tr F9.1, F9.2⟩
set_option maxHeartbeats 4000000 in
theorem wX4_thingHere_L71 {G : GT} {X : MX} {h0 h : Mem} {P : Int → Mem → Prop} {PX : Mem → Prop} {x0 x1 x2 : Int} (C : Cx G X cX4_thingHere 3 RX4 2 0 0 none "thingHere") (N : NoH X) (B0 : EX h0 h ∧ R32 x1 ∧ R32 x2)
    (F : TextS h x0 ∧ XS h ∧ 0 ≤ x1 ∧ x1 < 4 ∧ ((x2 ≥ h 131 x1 → R32 (h 129 3 + 1) ∧ ∀ h5 : Mem, h5 = up h 129 3 (h 129 3 + 1) → P 0 h5) ∧ (x2 < h 131 x1 → 0 ≤ h 129 4 ∧ h 129 4 < 16 ∧ ∀ h10 : Mem, h10 = up h 133 (h 129 4) x1 → ∀ h13 : Mem, h13 = up h10 136 (h 129 4) 0 → R32 (h 129 4 + 1) ∧ ∀ h17 : Mem, h17 = up h13 129 4 (h 129 4 + 1) → R32 (x2 + 1) ∧ (EX h0 h17 ∧ R32 x1 ∧ R32 (x2 + 1) → V G X 3 0 0 (QX G X 3 0 0 (PR h0 P) (PE h0 PX)) 71 [(0, rf x0), (1, iv x1), (2, iv (x2 + 1))] [] h17)))) :
    V G X 3 0 0 (QX G X 3 0 0 (PR h0 P) (PE h0 PX)) 71 [(0, rf x0), (1, iv x1), (2, iv x2)] [] h := by
  obtain ⟨B, R1, R2⟩ := B0
  have E : EX h h := EX.rf B.2
  obtain ⟨S_x0, F⟩ := F
  obtain ⟨SX, F⟩ := F
  refine v_iload_n C 2 rfl rfl dX4_thingHere_71 ?_
  refine v_aload_n C 0 rfl rfl dX4_thingHere_72 ?_
  refine gX4_26 C (S_x0.ext E.1).k (S_x0.ext E.1).f1 dX4_thingHere_73 ?_
  refine gX4_127 C ((SX.ext E.1).t129).k ((SX.ext E.1).t129).f14 dX4_thingHere_76 ?_
  refine v_iload_n C 1 rfl rfl dX4_thingHere_79 ?_
  obtain ⟨o1, F⟩ := F
  obtain ⟨o2, F⟩ := F
  refine v_iald C ((SX.ext E.1).t129).k14 o1 (by rw [((SX.ext E.1).t129).l14]; exact o2) rfl dX4_thingHere_80 ?_
  refine v_icmp_ge C 135 R2 (EX.rI B (j := x1) ((SX.ext E.1).t129).k14 rfl) dX4_thingHere_81 (by decide) (fun c3 => ?_) (fun c3 => ?_)
  · have F := F.1 (c3)
    refine v_aload_n C 0 rfl rfl dX4_thingHere_135 ?_
    refine gX4_26 C (S_x0.ext E.1).k (S_x0.ext E.1).f1 dX4_thingHere_136 ?_
    refine v_dup C (rf_n1 _) dX4_thingHere_139 ?_
    refine gX4_98 C ((SX.ext E.1).t129).k rfl dX4_thingHere_140 ?_
    refine v_iconst C dX4_thingHere_143 ?_
    refine v_iadd C dX4_thingHere_144 ?_
    obtain ⟨o4, F⟩ := F
    refine pX4_98 C ((SX.ext E.1).t129).k (okI_i rfl o4) dX4_thingHere_145 ?_
    obtain ⟨h5, eh5⟩ : ∃ m : Mem, m = up h 129 3 (h 129 3 + 1) := ⟨_, rfl⟩
    have B6 : EX h0 h5 := by rw [eh5]; exact EX_up B ((SX.ext E.1).t129).k (by decide) rfl (by decide) (okI_i rfl o4)
    have E7 : EX h h5 := by rw [eh5]; exact EX_up E ((SX.ext E.1).t129).k (by decide) rfl (by decide) (okI_i rfl o4)
    refine v_mem eh5 ?_
    have F := F h5 eh5
    refine V.toX ?_
    exact v_vret C (Nat.le_refl _) (Nat.le_refl _) dX4_thingHere_148 ⟨B6, F⟩
  · have F := F.2 (c3)
    refine v_aload_n C 0 rfl rfl dX4_thingHere_84 ?_
    refine gX4_26 C (S_x0.ext E.1).k (S_x0.ext E.1).f1 dX4_thingHere_85 ?_
    refine gX4_138 C ((SX.ext E.1).t129).k ((SX.ext E.1).t129).f16 dX4_thingHere_88 ?_
    refine v_aload_n C 0 rfl rfl dX4_thingHere_91 ?_
    refine gX4_26 C (S_x0.ext E.1).k (S_x0.ext E.1).f1 dX4_thingHere_92 ?_
    refine gX4_124 C ((SX.ext E.1).t129).k rfl dX4_thingHere_95 ?_
    refine v_iload_n C 1 rfl rfl dX4_thingHere_98 ?_
    obtain ⟨o8, F⟩ := F
    obtain ⟨o9, F⟩ := F
    refine v_iast C ((SX.ext E.1).t129).k16 o8 (by rw [((SX.ext E.1).t129).l16]; exact o9) R1 dX4_thingHere_99 ?_
    obtain ⟨h10, eh10⟩ : ∃ m : Mem, m = up h 133 (h 129 4) x1 := ⟨_, rfl⟩
    have B11 : EX h0 h10 := by rw [eh10]; exact EX_up B ((SX.ext E.1).t129).k16 (by decide) rfl o8 (okI_a (Or.inl rfl) R1)
    have E12 : EX h h10 := by rw [eh10]; exact EX_up E ((SX.ext E.1).t129).k16 (by decide) rfl o8 (okI_a (Or.inl rfl) R1)
    refine v_mem eh10 ?_
    have F := F h10 eh10
    refine v_aload_n C 0 rfl rfl dX4_thingHere_100 ?_
    refine gX4_26 C (S_x0.ext E12.1).k (S_x0.ext E12.1).f1 dX4_thingHere_101 ?_
    refine gX4_141 C ((SX.ext E12.1).t129).k ((SX.ext E12.1).t129).f19 dX4_thingHere_104 ?_
    refine v_aload_n C 0 rfl rfl dX4_thingHere_107 ?_
    refine gX4_26 C (S_x0.ext E12.1).k (S_x0.ext E12.1).f1 dX4_thingHere_108 ?_
    refine gX4_124 C ((SX.ext E12.1).t129).k (show h10 129 4 = h 129 4 by rw [eh10, up_a (by decide)]) dX4_thingHere_111 ?_
    refine v_iconst C dX4_thingHere_114 ?_
    refine v_iast C ((SX.ext E12.1).t129).k19 o8 (by rw [((SX.ext E12.1).t129).l19]; exact o9) ⟨by decide, by decide⟩ dX4_thingHere_115 ?_
    obtain ⟨h13, eh13⟩ : ∃ m : Mem, m = up h10 136 (h 129 4) 0 := ⟨_, rfl⟩
    have B14 : EX h0 h13 := by rw [eh13]; exact EX_up B11 ((SX.ext E12.1).t129).k19 (by decide) rfl o8 (okI_a (Or.inl rfl) ⟨by decide, by decide⟩)
    have E15 : EX h h13 := by rw [eh13]; exact EX_up E12 ((SX.ext E12.1).t129).k19 (by decide) rfl o8 (okI_a (Or.inl rfl) ⟨by decide, by decide⟩)
    refine v_mem eh13 ?_
    have F := F h13 eh13
    refine v_aload_n C 0 rfl rfl dX4_thingHere_116 ?_
    refine gX4_26 C (S_x0.ext E15.1).k (S_x0.ext E15.1).f1 dX4_thingHere_117 ?_
    refine v_dup C (rf_n1 _) dX4_thingHere_120 ?_
    refine gX4_124 C ((SX.ext E15.1).t129).k (show h13 129 4 = h 129 4 by rw [eh13, up_a (by decide), eh10, up_a (by decide)]) dX4_thingHere_121 ?_
    refine v_iconst C dX4_thingHere_124 ?_
    refine v_iadd C dX4_thingHere_125 ?_
    obtain ⟨o16, F⟩ := F
    refine pX4_124 C ((SX.ext E15.1).t129).k (okI_i rfl o16) dX4_thingHere_126 ?_
    obtain ⟨h17, eh17⟩ : ∃ m : Mem, m = up h13 129 4 (h 129 4 + 1) := ⟨_, rfl⟩
    have B18 : EX h0 h17 := by rw [eh17]; exact EX_up B14 ((SX.ext E15.1).t129).k (by decide) rfl (by decide) (okI_i rfl o16)
    have E19 : EX h h17 := by rw [eh17]; exact EX_up E15 ((SX.ext E15.1).t129).k (by decide) rfl (by decide) (okI_i rfl o16)
    refine v_mem eh17 ?_
    have F := F h17 eh17
    obtain ⟨o20, F⟩ := F
    refine v_iinc C 2 rfl (by decide) dX4_thingHere_129 (lv2 := [(2, iv (x2 + 1)), (0, rf x0), (1, iv x1)]) rfl ?_
    refine v_goto C 71 dX4_thingHere_132 (by decide) ?_
    refine v_sub (lv2 := [(0, rf x0), (1, iv x1), (2, iv (x2 + 1))]) [1, 2, 0] rfl ?_
    exact F ⟨B18, R1, o20⟩
set_option maxHeartbeats 1000000 in
theorem eX4_thingHere {G : GT} {l : Launch} {x0 : Int} {h : Mem} {P : Int → Mem → Prop} {PX : Mem → Prop} (F : ∀ X : MX, Cx G X cX4_thingHere 3 RX4 2 0 0 none "thingHere" → NoH X → X.2.1 = l → (EX h h) →
    TextS h x0 ∧ XS h ∧ ∀ y1 : Int, y1 = h 129 3 → 0 ≤ y1 ∧ y1 < 4 ∧ ∀ h4 : Mem, h4 = up h 130 y1 (h 129 4) → R32 (16 - h 129 4) ∧ kX4_number G X.2.1 x0 1 (min 6 (16 - h 129 4)) h4 (fun r8 h9 => EX h4 h9 → ∀ h14 : Mem, h14 = up h9 131 y1 r8 → kX4_number G X.2.1 x0 0 20 h14 (fun r17 h18 => EX h14 h18 → ∀ h23 : Mem, h23 = up h18 132 y1 r17 → (EX h h23 ∧ R32 y1 ∧ R32 0 → V G X 3 0 0 (QX G X 3 0 0 (PR h P) (PE h PX)) 71 [(0, rf x0), (1, iv y1), (2, iv 0)] [] h23)) PX) PX) :
    kX4_thingHere G l x0 h P PX := by
  refine ct_ofX (by decide +kernel) (Nat.le_of_ble_eq_true rfl) fun X C N e => ?_
  refine v_okz fun O => ?_
  exact wX4_thingHere_0 C N (EX.rf O) (F X C N e (EX.rf O))
set_option maxHeartbeats 4000000 in
theorem wX4_line_0 {G : GT} {X : MX} {h0 h : Mem} {P : Int → Mem → Prop} {PX : Mem → Prop} {x0 x1 : Int} (C : Cx G X cX4_line 3 RX4 3 0 0 none "line") (N : NoH X) (B0 : EX h0 h ∧ R32 x1)
    (F : TextS h x0 ∧ XS h ∧ ((x1 = 0 → kX4_streetHere G X.2.1 x0 h (fun _ h2 => EX h h2 → P 0 h2) PX) ∧ (x1 = 1 → kX4_thingHere G X.2.1 x0 h (fun _ h9 => EX h h9 → P 0 h9) PX) ∧ (x1 = 2 → ∀ y15 : Int, y15 = h 129 5 → kX4_number G X.2.1 x0 0 8 h (fun r16 h17 => EX h h17 → 0 ≤ y15 ∧ y15 < 4 ∧ ∀ h24 : Mem, h24 = up h17 134 y15 r16 → kX4_number G X.2.1 x0 0 99 h24 (fun r27 h28 => EX h24 h28 → ∀ h33 : Mem, h33 = up h28 135 y15 r27 → R32 (h28 129 5 + 1) ∧ ∀ h37 : Mem, h37 = up h33 129 5 (h28 129 5 + 1) → P 0 h37) PX) PX) ∧ (x1 = 3 → kX4_coatHere G X.2.1 x0 h (fun _ h42 => EX h h42 → P 0 h42) PX) ∧ (x1 = 4 → R32 (h 129 3 - 1) ∧ kX4_number G X.2.1 x0 0 (h 129 3 - 1) h (fun r49 h50 => EX h h50 → ∀ h55 : Mem, h55 = up h50 129 10 (bOr (h 129 10) (bShl 1 r49)) → P 0 h55) PX) ∧ (x1 = 5 → R32 (2 * h 129 6) ∧ ∀ y60 : Int, y60 = 2 * h 129 6 → kX4_number G X.2.1 x0 0 199 h (fun r61 h62 => EX h h62 → 0 ≤ y60 ∧ y60 < 10 ∧ ∀ h69 : Mem, h69 = up h62 138 y60 r61 → kX4_number G X.2.1 x0 r61 199 h69 (fun r72 h73 => EX h69 h73 → 0 ≤ y60 + 1 ∧ y60 + 1 < 10 ∧ ∀ h80 : Mem, h80 = up h73 138 (y60 + 1) r72 → R32 (h73 129 6 + 1) ∧ ∀ h84 : Mem, h84 = up h80 129 6 (h73 129 6 + 1) → P 0 h84) PX) PX) ∧ ((x1 < 0 ∨ 5 < x1) → ∀ h88 : Mem, h88 = up h 129 7 1 → P 0 h88))) :
    V G X 3 0 0 (QX G X 3 0 0 (PR h0 P) (PE h0 PX)) 0 [(0, rf x0), (1, iv x1)] [] h := by
  obtain ⟨B, R1⟩ := B0
  have E : EX h h := EX.rf B.2
  obtain ⟨S_x0, F⟩ := F
  obtain ⟨SX, F⟩ := F
  refine v_iload_n C 1 rfl rfl dX4_line_0 ?_
  by_cases c7 : x1 = 0
  · have F := F.1 c7
    refine v_tableIn C 40 0 ⟨by decide, by decide⟩ c7 dX4_line_1 (by decide) (by decide) rfl (by decide) ?_
    refine v_aload_n C 0 rfl rfl dX4_line_40 ?_
    refine tX4_153 C N (S_x0.ext E.1).k (d2 := 2) (kc2 := 0) (ks2 := 0) (by decide) (Nat.le_refl _) (Nat.le_refl _) (Nat.le_of_ble_eq_true rfl) dX4_line_41 (CtX.mono (F) ?_ ?_)
    · rintro r1 h2 ⟨e3, F⟩
      have F := F e3
      have B5 := B.tr e3
      have E6 := E.tr e3
      refine V.toX ?_
      exact v_vret C (Nat.le_refl _) (Nat.le_refl _) dX4_line_44 ⟨B5, F⟩
    · exact fun h9 F9 => ⟨B.tr F9.1, F9.2⟩
  by_cases c14 : x1 = 1
  · have F := F.2.1 c14
    refine v_tableIn C 45 1 ⟨by decide, by decide⟩ c14 dX4_line_1 (by decide) (by decide) rfl (by decide) ?_
    refine v_aload_n C 0 rfl rfl dX4_line_45 ?_
    refine tX4_156 C N (S_x0.ext E.1).k (d2 := 2) (kc2 := 0) (ks2 := 0) (by decide) (Nat.le_refl _) (Nat.le_refl _) (Nat.le_of_ble_eq_true rfl) dX4_line_46 (CtX.mono (F) ?_ ?_)
    · rintro r8 h9 ⟨e10, F⟩
      have F := F e10
      have B12 := B.tr e10
      have E13 := E.tr e10
      refine V.toX ?_
      exact v_vret C (Nat.le_refl _) (Nat.le_refl _) dX4_line_49 ⟨B12, F⟩
    · exact fun h9 F9 => ⟨B.tr F9.1, F9.2⟩
  by_cases c40 : x1 = 2
  · have F := F.2.2.1 c40
    refine v_tableIn C 50 2 ⟨by decide, by decide⟩ c40 dX4_line_1 (by decide) (by decide) rfl (by decide) ?_
    refine v_aload_n C 0 rfl rfl dX4_line_50 ?_
    refine gX4_26 C (S_x0.ext E.1).k (S_x0.ext E.1).f1 dX4_line_51 ?_
    refine gX4_101 C ((SX.ext E.1).t129).k rfl dX4_line_54 ?_
    obtain ⟨y15, ey15⟩ : ∃ z : Int, z = h 129 5 := ⟨_, rfl⟩
    have F := F y15 ey15
    have Ry15 : R32 y15 := by rw [ey15]; exact (EX.rI B (j := 5) ((SX.ext E.1).t129).k rfl)
    refine v_istore_n C rfl (by decide) dX4_line_57 (lv2 := [(2, iv y15), (0, rf x0), (1, iv x1)]) (by rw [ey15]; rfl) ?_
    refine v_aload_n C 1 rfl rfl dX4_line_58 ?_
    refine gX4_26 C (S_x0.ext E.1).k (S_x0.ext E.1).f1 dX4_line_59 ?_
    refine gX4_159 C ((SX.ext E.1).t129).k ((SX.ext E.1).t129).f17 dX4_line_62 ?_
    refine v_iload_n C 0 rfl rfl dX4_line_65 ?_
    refine v_aload_n C 1 rfl rfl dX4_line_66 ?_
    refine v_iconst C dX4_line_67 ?_
    refine v_bipush C rfl dX4_line_68 ?_
    refine tX4_110 C N (S_x0.ext E.1).k (d2 := 1) (kc2 := 0) (ks2 := 0) (by decide) (Nat.le_refl _) (Nat.le_refl _) (Nat.le_of_ble_eq_true rfl) dX4_line_70 (CtX.mono (F ⟨by decide, by decide⟩ ⟨by decide, by decide⟩) ?_ ?_)
    · rintro r16 h17 ⟨e18, g19, F⟩
      have F := F e18
      have B20 := B.tr e18
      have E21 := E.tr e18
      obtain ⟨o22, F⟩ := F
      obtain ⟨o23, F⟩ := F
      refine v_iast C ((SX.ext E21.1).t129).k17 o22 (by rw [((SX.ext E21.1).t129).l17]; exact o23) g19 dX4_line_73 ?_
      obtain ⟨h24, eh24⟩ : ∃ m : Mem, m = up h17 134 y15 r16 := ⟨_, rfl⟩
      have B25 : EX h0 h24 := by rw [eh24]; exact EX_up B20 ((SX.ext E21.1).t129).k17 (by decide) rfl o22 (okI_a (Or.inl rfl) g19)
      have E26 : EX h h24 := by rw [eh24]; exact EX_up E21 ((SX.ext E21.1).t129).k17 (by decide) rfl o22 (okI_a (Or.inl rfl) g19)
      refine v_mem eh24 ?_
      have F := F h24 eh24
      refine v_aload_n C 1 rfl rfl dX4_line_74 ?_
      refine gX4_26 C (S_x0.ext E26.1).k (S_x0.ext E26.1).f1 dX4_line_75 ?_
      refine gX4_162 C ((SX.ext E26.1).t129).k ((SX.ext E26.1).t129).f18 dX4_line_78 ?_
      refine v_iload_n C 0 rfl rfl dX4_line_81 ?_
      refine v_aload_n C 1 rfl rfl dX4_line_82 ?_
      refine v_iconst C dX4_line_83 ?_
      refine v_bipush C rfl dX4_line_84 ?_
      refine tX4_110 C N (S_x0.ext E26.1).k (d2 := 1) (kc2 := 0) (ks2 := 0) (by decide) (Nat.le_refl _) (Nat.le_refl _) (Nat.le_of_ble_eq_true rfl) dX4_line_86 (CtX.mono (F ⟨by decide, by decide⟩ ⟨by decide, by decide⟩) ?_ ?_)
      · rintro r27 h28 ⟨e29, g30, F⟩
        have F := F e29
        have B31 := B25.tr e29
        have E32 := E26.tr e29
        refine v_iast C ((SX.ext E32.1).t129).k18 o22 (by rw [((SX.ext E32.1).t129).l18]; exact o23) g30 dX4_line_89 ?_
        obtain ⟨h33, eh33⟩ : ∃ m : Mem, m = up h28 135 y15 r27 := ⟨_, rfl⟩
        have B34 : EX h0 h33 := by rw [eh33]; exact EX_up B31 ((SX.ext E32.1).t129).k18 (by decide) rfl o22 (okI_a (Or.inl rfl) g30)
        have E35 : EX h h33 := by rw [eh33]; exact EX_up E32 ((SX.ext E32.1).t129).k18 (by decide) rfl o22 (okI_a (Or.inl rfl) g30)
        refine v_mem eh33 ?_
        have F := F h33 eh33
        refine v_aload_n C 1 rfl rfl dX4_line_90 ?_
        refine gX4_26 C (S_x0.ext E35.1).k (S_x0.ext E35.1).f1 dX4_line_91 ?_
        refine v_dup C (rf_n1 _) dX4_line_94 ?_
        refine gX4_101 C ((SX.ext E35.1).t129).k (show h33 129 5 = h28 129 5 by rw [eh33, up_a (by decide)]) dX4_line_95 ?_
        refine v_iconst C dX4_line_98 ?_
        refine v_iadd C dX4_line_99 ?_
        obtain ⟨o36, F⟩ := F
        refine pX4_101 C ((SX.ext E35.1).t129).k (okI_i rfl o36) dX4_line_100 ?_
        obtain ⟨h37, eh37⟩ : ∃ m : Mem, m = up h33 129 5 (h28 129 5 + 1) := ⟨_, rfl⟩
        have B38 : EX h0 h37 := by rw [eh37]; exact EX_up B34 ((SX.ext E35.1).t129).k (by decide) rfl (by decide) (okI_i rfl o36)
        have E39 : EX h h37 := by rw [eh37]; exact EX_up E35 ((SX.ext E35.1).t129).k (by decide) rfl (by decide) (okI_i rfl o36)
        refine v_mem eh37 ?_
        have F := F h37 eh37
        refine V.toX ?_
        exact v_vret C (Nat.le_refl _) (Nat.le_refl _) dX4_line_103 ⟨B38, F⟩
      · exact fun h9 F9 => ⟨B25.tr F9.1, F9.2⟩
    · exact fun h9 F9 => ⟨B.tr F9.1, F9.2⟩
  by_cases c47 : x1 = 3
  · have F := F.2.2.2.1 c47
    refine v_tableIn C 104 3 ⟨by decide, by decide⟩ c47 dX4_line_1 (by decide) (by decide) rfl (by decide) ?_
    refine v_aload_n C 0 rfl rfl dX4_line_104 ?_
    refine tX4_165 C N (S_x0.ext E.1).k (d2 := 2) (kc2 := 0) (ks2 := 0) (by decide) (Nat.le_refl _) (Nat.le_refl _) (Nat.le_of_ble_eq_true rfl) dX4_line_105 (CtX.mono (F) ?_ ?_)
    · rintro r41 h42 ⟨e43, F⟩
      have F := F e43
      have B45 := B.tr e43
      have E46 := E.tr e43
      refine V.toX ?_
      exact v_vret C (Nat.le_refl _) (Nat.le_refl _) dX4_line_108 ⟨B45, F⟩
    · exact fun h9 F9 => ⟨B.tr F9.1, F9.2⟩
  by_cases c58 : x1 = 4
  · have F := F.2.2.2.2.1 c58
    refine v_tableIn C 109 4 ⟨by decide, by decide⟩ c58 dX4_line_1 (by decide) (by decide) rfl (by decide) ?_
    refine v_aload_n C 0 rfl rfl dX4_line_109 ?_
    refine gX4_26 C (S_x0.ext E.1).k (S_x0.ext E.1).f1 dX4_line_110 ?_
    refine v_dup C (rf_n1 _) dX4_line_113 ?_
    refine gX4_168 C ((SX.ext E.1).t129).k rfl dX4_line_114 ?_
    refine v_iconst C dX4_line_117 ?_
    refine v_aload_n C 0 rfl rfl dX4_line_118 ?_
    refine v_iconst C dX4_line_119 ?_
    refine v_aload_n C 0 rfl rfl dX4_line_120 ?_
    refine gX4_26 C (S_x0.ext E.1).k (S_x0.ext E.1).f1 dX4_line_121 ?_
    refine gX4_98 C ((SX.ext E.1).t129).k rfl dX4_line_124 ?_
    refine v_iconst C dX4_line_127 ?_
    refine v_isub C dX4_line_128 ?_
    obtain ⟨o48, F⟩ := F
    refine tX4_110 C N (S_x0.ext E.1).k (d2 := 1) (kc2 := 0) (ks2 := 0) (by decide) (Nat.le_refl _) (Nat.le_refl _) (Nat.le_of_ble_eq_true rfl) dX4_line_129 (CtX.mono (F ⟨by decide, by decide⟩ o48) ?_ ?_)
    · rintro r49 h50 ⟨e51, g52, F⟩
      have F := F e51
      have B53 := B.tr e51
      have E54 := E.tr e51
      refine v_ishl C dX4_line_132 ?_
      refine v_ior C dX4_line_133 ?_
      refine pX4_168 C ((SX.ext E54.1).t129).k (okI_i rfl (R32_toInt _)) dX4_line_134 ?_
      obtain ⟨h55, eh55⟩ : ∃ m : Mem, m = up h50 129 10 (bOr (h 129 10) (bShl 1 r49)) := ⟨_, rfl⟩
      have B56 : EX h0 h55 := by rw [eh55]; exact EX_up B53 ((SX.ext E54.1).t129).k (by decide) rfl (by decide) (okI_i rfl (R32_toInt _))
      have E57 : EX h h55 := by rw [eh55]; exact EX_up E54 ((SX.ext E54.1).t129).k (by decide) rfl (by decide) (okI_i rfl (R32_toInt _))
      refine v_mem eh55 ?_
      have F := F h55 eh55
      refine V.toX ?_
      exact v_vret C (Nat.le_refl _) (Nat.le_refl _) dX4_line_137 ⟨B56, F⟩
    · exact fun h9 F9 => ⟨B.tr F9.1, F9.2⟩
  by_cases c87 : x1 = 5
  · have F := F.2.2.2.2.2.1 c87
    refine v_tableIn C 138 5 ⟨by decide, by decide⟩ c87 dX4_line_1 (by decide) (by decide) rfl (by decide) ?_
    refine v_iconst C dX4_line_138 ?_
    refine v_aload_n C 0 rfl rfl dX4_line_139 ?_
    refine gX4_26 C (S_x0.ext E.1).k (S_x0.ext E.1).f1 dX4_line_140 ?_
    refine gX4_104 C ((SX.ext E.1).t129).k rfl dX4_line_143 ?_
    refine v_imul C dX4_line_146 ?_
    obtain ⟨o59, F⟩ := F
    obtain ⟨y60, ey60⟩ : ∃ z : Int, z = 2 * h 129 6 := ⟨_, rfl⟩
    have F := F y60 ey60
    have Ry60 : R32 y60 := by rw [ey60]; exact o59
    refine v_istore_n C rfl (by decide) dX4_line_147 (lv2 := [(2, iv y60), (0, rf x0), (1, iv x1)]) (by rw [ey60]; rfl) ?_
    refine v_aload_n C 1 rfl rfl dX4_line_148 ?_
    refine gX4_26 C (S_x0.ext E.1).k (S_x0.ext E.1).f1 dX4_line_149 ?_
    refine gX4_171 C ((SX.ext E.1).t129).k ((SX.ext E.1).t129).f21 dX4_line_152 ?_
    refine v_iload_n C 0 rfl rfl dX4_line_155 ?_
    refine v_aload_n C 1 rfl rfl dX4_line_156 ?_
    refine v_iconst C dX4_line_157 ?_
    refine v_sipush C rfl dX4_line_158 ?_
    refine tX4_110 C N (S_x0.ext E.1).k (d2 := 1) (kc2 := 0) (ks2 := 0) (by decide) (Nat.le_refl _) (Nat.le_refl _) (Nat.le_of_ble_eq_true rfl) dX4_line_161 (CtX.mono (F ⟨by decide, by decide⟩ ⟨by decide, by decide⟩) ?_ ?_)
    · rintro r61 h62 ⟨e63, g64, F⟩
      have F := F e63
      have B65 := B.tr e63
      have E66 := E.tr e63
      obtain ⟨o67, F⟩ := F
      obtain ⟨o68, F⟩ := F
      refine v_iast C ((SX.ext E66.1).t129).k21 o67 (by rw [((SX.ext E66.1).t129).l21]; exact o68) g64 dX4_line_164 ?_
      obtain ⟨h69, eh69⟩ : ∃ m : Mem, m = up h62 138 y60 r61 := ⟨_, rfl⟩
      have B70 : EX h0 h69 := by rw [eh69]; exact EX_up B65 ((SX.ext E66.1).t129).k21 (by decide) rfl o67 (okI_a (Or.inl rfl) g64)
      have E71 : EX h h69 := by rw [eh69]; exact EX_up E66 ((SX.ext E66.1).t129).k21 (by decide) rfl o67 (okI_a (Or.inl rfl) g64)
      refine v_mem eh69 ?_
      have F := F h69 eh69
      refine v_aload_n C 1 rfl rfl dX4_line_165 ?_
      refine gX4_26 C (S_x0.ext E71.1).k (S_x0.ext E71.1).f1 dX4_line_166 ?_
      refine gX4_171 C ((SX.ext E71.1).t129).k ((SX.ext E71.1).t129).f21 dX4_line_169 ?_
      refine v_iload_n C 0 rfl rfl dX4_line_172 ?_
      refine v_iconst C dX4_line_173 ?_
      refine v_iadd C dX4_line_174 ?_
      refine v_aload_n C 1 rfl rfl dX4_line_175 ?_
      refine v_aload_n C 1 rfl rfl dX4_line_176 ?_
      refine gX4_26 C (S_x0.ext E71.1).k (S_x0.ext E71.1).f1 dX4_line_177 ?_
      refine gX4_171 C ((SX.ext E71.1).t129).k ((SX.ext E71.1).t129).f21 dX4_line_180 ?_
      refine v_iload_n C 0 rfl rfl dX4_line_183 ?_
      refine v_iald C ((SX.ext E71.1).t129).k21 o67 (by rw [((SX.ext E71.1).t129).l21]; exact o68) (show h69 138 y60 = r61 by rw [eh69, up_s]) dX4_line_184 ?_
      refine v_sipush C rfl dX4_line_185 ?_
      refine tX4_110 C N (S_x0.ext E71.1).k (d2 := 1) (kc2 := 0) (ks2 := 0) (by decide) (Nat.le_refl _) (Nat.le_refl _) (Nat.le_of_ble_eq_true rfl) dX4_line_188 (CtX.mono (F g64 ⟨by decide, by decide⟩) ?_ ?_)
      · rintro r72 h73 ⟨e74, g75, F⟩
        have F := F e74
        have B76 := B70.tr e74
        have E77 := E71.tr e74
        obtain ⟨o78, F⟩ := F
        obtain ⟨o79, F⟩ := F
        refine v_iast C ((SX.ext E77.1).t129).k21 o78 (by rw [((SX.ext E77.1).t129).l21]; exact o79) g75 dX4_line_191 ?_
        obtain ⟨h80, eh80⟩ : ∃ m : Mem, m = up h73 138 (y60 + 1) r72 := ⟨_, rfl⟩
        have B81 : EX h0 h80 := by rw [eh80]; exact EX_up B76 ((SX.ext E77.1).t129).k21 (by decide) rfl o78 (okI_a (Or.inl rfl) g75)
        have E82 : EX h h80 := by rw [eh80]; exact EX_up E77 ((SX.ext E77.1).t129).k21 (by decide) rfl o78 (okI_a (Or.inl rfl) g75)
        refine v_mem eh80 ?_
        have F := F h80 eh80
        refine v_aload_n C 1 rfl rfl dX4_line_192 ?_
        refine gX4_26 C (S_x0.ext E82.1).k (S_x0.ext E82.1).f1 dX4_line_193 ?_
        refine v_dup C (rf_n1 _) dX4_line_196 ?_
        refine gX4_104 C ((SX.ext E82.1).t129).k (show h80 129 6 = h73 129 6 by rw [eh80, up_a (by decide)]) dX4_line_197 ?_
        refine v_iconst C dX4_line_200 ?_
        refine v_iadd C dX4_line_201 ?_
        obtain ⟨o83, F⟩ := F
        refine pX4_104 C ((SX.ext E82.1).t129).k (okI_i rfl o83) dX4_line_202 ?_
        obtain ⟨h84, eh84⟩ : ∃ m : Mem, m = up h80 129 6 (h73 129 6 + 1) := ⟨_, rfl⟩
        have B85 : EX h0 h84 := by rw [eh84]; exact EX_up B81 ((SX.ext E82.1).t129).k (by decide) rfl (by decide) (okI_i rfl o83)
        have E86 : EX h h84 := by rw [eh84]; exact EX_up E82 ((SX.ext E82.1).t129).k (by decide) rfl (by decide) (okI_i rfl o83)
        refine v_mem eh84 ?_
        have F := F h84 eh84
        refine V.toX ?_
        exact v_vret C (Nat.le_refl _) (Nat.le_refl _) dX4_line_205 ⟨B85, F⟩
      · exact fun h9 F9 => ⟨B70.tr F9.1, F9.2⟩
    · exact fun h9 F9 => ⟨B.tr F9.1, F9.2⟩
  have c91 : x1 < 0 ∨ 5 < x1 := by omega
  have F := F.2.2.2.2.2.2 c91
  refine v_tableOut C 206 R1 c91 dX4_line_1 (by decide) ?_
  refine v_aload_n C 0 rfl rfl dX4_line_206 ?_
  refine gX4_26 C (S_x0.ext E.1).k (S_x0.ext E.1).f1 dX4_line_207 ?_
  refine v_iconst C dX4_line_210 ?_
  refine pX4_107 C ((SX.ext E.1).t129).k (okI_i rfl ⟨by decide, by decide⟩) dX4_line_211 ?_
  obtain ⟨h88, eh88⟩ : ∃ m : Mem, m = up h 129 7 1 := ⟨_, rfl⟩
  have B89 : EX h0 h88 := by rw [eh88]; exact EX_up B ((SX.ext E.1).t129).k (by decide) rfl (by decide) (okI_i rfl ⟨by decide, by decide⟩)
  have E90 : EX h h88 := by rw [eh88]; exact EX_up E ((SX.ext E.1).t129).k (by decide) rfl (by decide) (okI_i rfl ⟨by decide, by decide⟩)
  refine v_mem eh88 ?_
  have F := F h88 eh88
  refine V.toX ?_
  exact v_vret C (Nat.le_refl _) (Nat.le_refl _) dX4_line_214 ⟨B89, F⟩
set_option maxHeartbeats 1000000 in
theorem eX4_line {G : GT} {l : Launch} {x0 x1 : Int} {h : Mem} {P : Int → Mem → Prop} {PX : Mem → Prop} (F : ∀ X : MX, Cx G X cX4_line 3 RX4 3 0 0 none "line" → NoH X → X.2.1 = l → (EX h h ∧ R32 x1) →
    TextS h x0 ∧ XS h ∧ ((x1 = 0 → kX4_streetHere G X.2.1 x0 h (fun _ h2 => EX h h2 → P 0 h2) PX) ∧ (x1 = 1 → kX4_thingHere G X.2.1 x0 h (fun _ h9 => EX h h9 → P 0 h9) PX) ∧ (x1 = 2 → ∀ y15 : Int, y15 = h 129 5 → kX4_number G X.2.1 x0 0 8 h (fun r16 h17 => EX h h17 → 0 ≤ y15 ∧ y15 < 4 ∧ ∀ h24 : Mem, h24 = up h17 134 y15 r16 → kX4_number G X.2.1 x0 0 99 h24 (fun r27 h28 => EX h24 h28 → ∀ h33 : Mem, h33 = up h28 135 y15 r27 → R32 (h28 129 5 + 1) ∧ ∀ h37 : Mem, h37 = up h33 129 5 (h28 129 5 + 1) → P 0 h37) PX) PX) ∧ (x1 = 3 → kX4_coatHere G X.2.1 x0 h (fun _ h42 => EX h h42 → P 0 h42) PX) ∧ (x1 = 4 → R32 (h 129 3 - 1) ∧ kX4_number G X.2.1 x0 0 (h 129 3 - 1) h (fun r49 h50 => EX h h50 → ∀ h55 : Mem, h55 = up h50 129 10 (bOr (h 129 10) (bShl 1 r49)) → P 0 h55) PX) ∧ (x1 = 5 → R32 (2 * h 129 6) ∧ ∀ y60 : Int, y60 = 2 * h 129 6 → kX4_number G X.2.1 x0 0 199 h (fun r61 h62 => EX h h62 → 0 ≤ y60 ∧ y60 < 10 ∧ ∀ h69 : Mem, h69 = up h62 138 y60 r61 → kX4_number G X.2.1 x0 r61 199 h69 (fun r72 h73 => EX h69 h73 → 0 ≤ y60 + 1 ∧ y60 + 1 < 10 ∧ ∀ h80 : Mem, h80 = up h73 138 (y60 + 1) r72 → R32 (h73 129 6 + 1) ∧ ∀ h84 : Mem, h84 = up h80 129 6 (h73 129 6 + 1) → P 0 h84) PX) PX) ∧ ((x1 < 0 ∨ 5 < x1) → ∀ h88 : Mem, h88 = up h 129 7 1 → P 0 h88))) :
    kX4_line G l x0 x1 h P PX := by
  intro R1
  refine ct_ofX (by decide +kernel) (Nat.le_of_ble_eq_true rfl) fun X C N e => ?_
  refine v_okz fun O => ?_
  exact wX4_line_0 C N ⟨EX.rf O, R1⟩ (F X C N e ⟨EX.rf O, R1⟩)
set_option maxHeartbeats 4000000 in
theorem wX4_isWord_0 {G : GT} {X : MX} {h0 h : Mem} {P : Int → Mem → Prop} {x0 x1 : Int} (C : Cx G X cX4_isWord 5 RX4 4 0 0 (some .boolean) "isWord") (B0 : EX h0 h)
    (F : TextS h x0 ∧ kX4_letters G X.2.1 x0 h (fun r1 h2 => EX h h2 → ∃ i7 : Nat, i7 < 45 ∧ x1 = sK i7 ∧ ((r1 ≠ (sL i7 : Int) → (EX h0 h2 ∧ R32 r1 ∧ R32 0 ∧ R32 0 → V G X 5 0 0 (QF G X 0 0 0 (PZ h0 P)) 22 [(0, rf x0), (1, rf x1), (2, iv r1), (3, iv 0), (4, iv 0)] [] h2)) ∧ (r1 = (sL i7 : Int) → (EX h0 h2 ∧ R32 r1 ∧ R32 1 ∧ R32 0 → V G X 5 0 0 (QF G X 0 0 0 (PZ h0 P)) 22 [(0, rf x0), (1, rf x1), (2, iv r1), (3, iv 1), (4, iv 0)] [] h2))))) :
    V G X 5 0 0 (QF G X 0 0 0 (PZ h0 P)) 0 [(0, rf x0), (1, rf x1)] [] h := by
  have B := B0
  have E : EX h h := EX.rf B.2
  obtain ⟨S_x0, F⟩ := F
  refine v_aload_n C 0 rfl rfl dX4_isWord_0 ?_
  refine mX4_56 C (S_x0.ext E.1).k (d2 := 1) (kc2 := 0) (ks2 := 0) (by decide) (Nat.le_refl _) (Nat.le_refl _) (Nat.le_of_ble_eq_true rfl) dX4_isWord_1 (Ct.mono (F) ?_)
  rintro r1 h2 ⟨e3, g4, F⟩
  have F := F e3
  have B5 := B.tr e3
  have E6 := E.tr e3
  refine v_istore_n C rfl (by decide) dX4_isWord_4 (lv2 := [(2, iv r1), (0, rf x0), (1, rf x1)]) rfl ?_
  refine v_iload_n C 0 rfl rfl dX4_isWord_5 ?_
  refine v_aload_n C 2 rfl rfl dX4_isWord_6 ?_
  obtain ⟨i7, o8, o9, F⟩ := F
  refine v_top o9 ?_
  refine mX4_59 C i7 o8 (d2 := 1) (kc2 := 0) (ks2 := 0) (by decide) (Nat.le_refl _) (Nat.le_refl _) (Nat.le_of_ble_eq_true rfl) dX4_isWord_7 (Ct.mono (jLen i7 o8 _) ?_)
  intro _ _ z; rw [z.1, z.2]
  refine v_icmp_ne C 17 g4 (sLR o8) dX4_isWord_10 (by decide) (fun c10 => ?_) (fun c10 => ?_)
  · have F := F.1 (c10)
    refine v_iconst C dX4_isWord_17 ?_
    refine v_istore_n C rfl (by decide) dX4_isWord_18 (lv2 := [(3, iv 0), (2, iv r1), (0, rf x0), (1, rf x1)]) rfl ?_
    refine v_iconst C dX4_isWord_19 ?_
    refine v_istore C (by decide) dX4_isWord_20 (lv2 := [(4, iv 0), (3, iv 0), (2, iv r1), (0, rf x0), (1, rf x1)]) rfl ?_
    refine v_sub (lv2 := [(0, rf x0), (1, rf x1), (2, iv r1), (3, iv 0), (4, iv 0)]) [3, 4, 2, 1, 0] rfl ?_
    exact F ⟨B5, g4, ⟨by decide, by decide⟩, ⟨by decide, by decide⟩⟩
  · have F := F.2 (c10)
    refine v_iconst C dX4_isWord_13 ?_
    refine v_goto C 18 dX4_isWord_14 (by decide) ?_
    refine v_istore_n C rfl (by decide) dX4_isWord_18 (lv2 := [(3, iv 1), (2, iv r1), (0, rf x0), (1, rf x1)]) rfl ?_
    refine v_iconst C dX4_isWord_19 ?_
    refine v_istore C (by decide) dX4_isWord_20 (lv2 := [(4, iv 0), (3, iv 1), (2, iv r1), (0, rf x0), (1, rf x1)]) rfl ?_
    refine v_sub (lv2 := [(0, rf x0), (1, rf x1), (2, iv r1), (3, iv 1), (4, iv 0)]) [3, 4, 2, 1, 0] rfl ?_
    exact F ⟨B5, g4, ⟨by decide, by decide⟩, ⟨by decide, by decide⟩⟩
set_option maxHeartbeats 4000000 in
theorem wX4_isWord_L22 {G : GT} {X : MX} {h0 h : Mem} {P : Int → Mem → Prop} {x0 x1 x2 x3 x4 : Int} (C : Cx G X cX4_isWord 5 RX4 4 0 0 (some .boolean) "isWord") (B0 : EX h0 h ∧ R32 x2 ∧ R32 x3 ∧ R32 x4)
    (F : TextS h x0 ∧ XS h ∧ ((x3 = 0 → (x3 = 0 ∨ x3 = 1) ∧ P x3 h) ∧ (x3 ≠ 0 → ((x4 ≥ x2 → (x3 = 0 ∨ x3 = 1) ∧ P x3 h) ∧ (x4 < x2 → ∃ i5 : Nat, i5 < 45 ∧ x1 = sK i5 ∧ 0 ≤ x4 ∧ x4 < (sL i5 : Int) ∧ 0 ≤ h x0 2 + x4 ∧ h x0 2 + x4 < 400 ∧ ((sC i5 x4.toNat ≠ h 167 (h x0 2 + x4) → R32 (x4 + 1) ∧ (EX h0 h ∧ R32 x2 ∧ R32 0 ∧ R32 (x4 + 1) → V G X 5 0 0 (QF G X 0 0 0 (PZ h0 P)) 22 [(0, rf x0), (1, rf x1), (2, iv x2), (3, iv 0), (4, iv (x4 + 1))] [] h)) ∧ (sC i5 x4.toNat = h 167 (h x0 2 + x4) → R32 (x4 + 1) ∧ (EX h0 h ∧ R32 x2 ∧ R32 1 ∧ R32 (x4 + 1) → V G X 5 0 0 (QF G X 0 0 0 (PZ h0 P)) 22 [(0, rf x0), (1, rf x1), (2, iv x2), (3, iv 1), (4, iv (x4 + 1))] [] h)))))))) :
    V G X 5 0 0 (QF G X 0 0 0 (PZ h0 P)) 22 [(0, rf x0), (1, rf x1), (2, iv x2), (3, iv x3), (4, iv x4)] [] h := by
  obtain ⟨B, R2, R3, R4⟩ := B0
  have E : EX h h := EX.rf B.2
  obtain ⟨S_x0, F⟩ := F
  obtain ⟨SX, F⟩ := F
  refine v_iload_n C 3 rfl rfl dX4_isWord_22 ?_
  refine v_if_eq C 68 R3 dX4_isWord_23 (by decide) (fun c1 => ?_) (fun c1 => ?_)
  · have F := F.1 (c1)
    refine v_iload_n C 3 rfl rfl dX4_isWord_68 ?_
    obtain ⟨o2, F⟩ := F
    exact v_zret C o2 (Nat.le_refl _) (Nat.le_refl _) dX4_isWord_69 ⟨B, o2, F⟩
  · have F := F.2 (c1)
    refine v_iload C 4 rfl dX4_isWord_26 ?_
    refine v_iload_n C 2 rfl rfl dX4_isWord_28 ?_
    refine v_icmp_ge C 68 R4 R2 dX4_isWord_29 (by decide) (fun c3 => ?_) (fun c3 => ?_)
    · have F := F.1 (c3)
      refine v_iload_n C 3 rfl rfl dX4_isWord_68 ?_
      obtain ⟨o4, F⟩ := F
      exact v_zret C o4 (Nat.le_refl _) (Nat.le_refl _) dX4_isWord_69 ⟨B, o4, F⟩
    · have F := F.2 (c3)
      refine v_aload_n C 1 rfl rfl dX4_isWord_32 ?_
      refine v_iload C 4 rfl dX4_isWord_33 ?_
      obtain ⟨i5, o6, o7, F⟩ := F
      obtain ⟨o8, F⟩ := F
      obtain ⟨o9, F⟩ := F
      refine v_top1 o7 ?_
      refine mX4_64 C i5 o6 (d2 := 3) (kc2 := 0) (ks2 := 0) (by decide) (Nat.le_refl _) (Nat.le_refl _) (Nat.le_of_ble_eq_true rfl) dX4_isWord_35 (Ct.mono (jChar i5 o6 _ o8 o9 _) ?_)
      intro _ _ z; rw [z.1, z.2]
      refine v_aload_n C 0 rfl rfl dX4_isWord_38 ?_
      refine gX4_3 C (S_x0.ext E.1).k (S_x0.ext E.1).f6 dX4_isWord_39 ?_
      refine gX4_48 C (SX.ext E.1).k1 (SX.ext E.1).f10 dX4_isWord_42 ?_
      refine v_aload_n C 0 rfl rfl dX4_isWord_45 ?_
      refine gX4_42 C (S_x0.ext E.1).k rfl dX4_isWord_46 ?_
      refine v_iload C 4 rfl dX4_isWord_49 ?_
      refine v_iadd C dX4_isWord_51 ?_
      obtain ⟨o10, F⟩ := F
      obtain ⟨o11, F⟩ := F
      refine v_bald C (SX.ext E.1).k167 o10 (by rw [(SX.ext E.1).l167]; exact o11) rfl dX4_isWord_52 ?_
      refine v_icmp_ne C 60 (sCR o6 o8 o9) (EX.rI B (j := h x0 2 + x4) (SX.ext E.1).k167 rfl) dX4_isWord_53 (by decide) (fun c12 => ?_) (fun c12 => ?_)
      · have F := F.1 (c12)
        refine v_iconst C dX4_isWord_60 ?_
        refine v_istore_n C rfl (by decide) dX4_isWord_61 (lv2 := [(3, iv 0), (0, rf x0), (1, rf x1), (2, iv x2), (4, iv x4)]) rfl ?_
        obtain ⟨o13, F⟩ := F
        refine v_iinc C 4 rfl (by decide) dX4_isWord_62 (lv2 := [(4, iv (x4 + 1)), (3, iv 0), (0, rf x0), (1, rf x1), (2, iv x2)]) rfl ?_
        refine v_goto C 22 dX4_isWord_65 (by decide) ?_
        refine v_sub (lv2 := [(0, rf x0), (1, rf x1), (2, iv x2), (3, iv 0), (4, iv (x4 + 1))]) [2, 3, 4, 1, 0] rfl ?_
        exact F ⟨B, R2, ⟨by decide, by decide⟩, o13⟩
      · have F := F.2 (c12)
        refine v_iconst C dX4_isWord_56 ?_
        refine v_goto C 61 dX4_isWord_57 (by decide) ?_
        refine v_istore_n C rfl (by decide) dX4_isWord_61 (lv2 := [(3, iv 1), (0, rf x0), (1, rf x1), (2, iv x2), (4, iv x4)]) rfl ?_
        obtain ⟨o14, F⟩ := F
        refine v_iinc C 4 rfl (by decide) dX4_isWord_62 (lv2 := [(4, iv (x4 + 1)), (3, iv 1), (0, rf x0), (1, rf x1), (2, iv x2)]) rfl ?_
        refine v_goto C 22 dX4_isWord_65 (by decide) ?_
        refine v_sub (lv2 := [(0, rf x0), (1, rf x1), (2, iv x2), (3, iv 1), (4, iv (x4 + 1))]) [2, 3, 4, 1, 0] rfl ?_
        exact F ⟨B, R2, ⟨by decide, by decide⟩, o14⟩
set_option maxHeartbeats 1000000 in
theorem eX4_isWord {G : GT} {l : Launch} {x0 x1 : Int} {h : Mem} {P : Int → Mem → Prop} (F : ∀ X : MX, Cx G X cX4_isWord 5 RX4 4 0 0 (some .boolean) "isWord" → X.2.1 = l → (EX h h) →
    TextS h x0 ∧ kX4_letters G X.2.1 x0 h (fun r1 h2 => EX h h2 → ∃ i7 : Nat, i7 < 45 ∧ x1 = sK i7 ∧ ((r1 ≠ (sL i7 : Int) → (EX h h2 ∧ R32 r1 ∧ R32 0 ∧ R32 0 → V G X 5 0 0 (QF G X 0 0 0 (PZ h P)) 22 [(0, rf x0), (1, rf x1), (2, iv r1), (3, iv 0), (4, iv 0)] [] h2)) ∧ (r1 = (sL i7 : Int) → (EX h h2 ∧ R32 r1 ∧ R32 1 ∧ R32 0 → V G X 5 0 0 (QF G X 0 0 0 (PZ h P)) 22 [(0, rf x0), (1, rf x1), (2, iv r1), (3, iv 1), (4, iv 0)] [] h2))))) :
    kX4_isWord G l x0 x1 h P := by
  refine ct_of (by decide +kernel) (Nat.le_of_ble_eq_true rfl) fun X C e => ?_
  refine v_okz fun O => ?_
  exact wX4_isWord_0 C (EX.rf O) (F X C e (EX.rf O))
set_option maxHeartbeats 4000000 in
theorem wX4_oneOf_0 {G : GT} {X : MX} {h0 h : Mem} {P : Int → Mem → Prop} {x0 x1 : Int} (C : Cx G X cX4_oneOf 3 RX4 5 0 0 (some .int) "oneOf") (B0 : EX h0 h)
    (F : (EX h0 h ∧ R32 0 → V G X 3 0 0 (QF G X 0 0 0 (PI h0 P)) 2 [(0, rf x0), (1, rf x1), (2, iv 0)] [] h)) :
    V G X 3 0 0 (QF G X 0 0 0 (PI h0 P)) 0 [(0, rf x0), (1, rf x1)] [] h := by
  have B := B0
  have E : EX h h := EX.rf B.2
  refine v_iconst C dX4_oneOf_0 ?_
  refine v_istore_n C rfl (by decide) dX4_oneOf_1 (lv2 := [(2, iv 0), (0, rf x0), (1, rf x1)]) rfl ?_
  refine v_sub (lv2 := [(0, rf x0), (1, rf x1), (2, iv 0)]) [1, 2, 0] rfl ?_
  exact F ⟨B, ⟨by decide, by decide⟩⟩
set_option maxHeartbeats 4000000 in
theorem wX4_oneOf_L2 {G : GT} {X : MX} {h0 h : Mem} {P : Int → Mem → Prop} {x0 x1 x2 : Int} (C : Cx G X cX4_oneOf 3 RX4 5 0 0 (some .int) "oneOf") (B0 : EX h0 h ∧ R32 x2)
    (F : TextS h x0 ∧ h x1 (-1) = 105 ∧ ((x2 ≥ h x1 (-2) → P (-1) h) ∧ (x2 < h x1 (-2) → 0 ≤ x2 ∧ x2 < h x1 (-2) ∧ kX4_isWord G X.2.1 x0 (h x1 x2) h (fun r5 h6 => EX h h6 → ((r5 = 0 → R32 (x2 + 1) ∧ (EX h0 h6 ∧ R32 (x2 + 1) → V G X 3 0 0 (QF G X 0 0 0 (PI h0 P)) 2 [(0, rf x0), (1, rf x1), (2, iv (x2 + 1))] [] h6)) ∧ (r5 ≠ 0 → P x2 h6)))))) :
    V G X 3 0 0 (QF G X 0 0 0 (PI h0 P)) 2 [(0, rf x0), (1, rf x1), (2, iv x2)] [] h := by
  obtain ⟨B, R2⟩ := B0
  have E : EX h h := EX.rf B.2
  obtain ⟨S_x0, F⟩ := F
  refine v_iload_n C 2 rfl rfl dX4_oneOf_2 ?_
  refine v_aload_n C 1 rfl rfl dX4_oneOf_3 ?_
  obtain ⟨o1, F⟩ := F
  refine v_alen C 4  (by decide) o1 rfl dX4_oneOf_4 ?_
  refine v_icmp_ge C 26 R2 (alenR B) dX4_oneOf_5 (by decide) (fun c2 => ?_) (fun c2 => ?_)
  · have F := F.1 (c2)
    refine v_iconst C dX4_oneOf_26 ?_
    exact v_iret C (Nat.le_refl _) (Nat.le_refl _) dX4_oneOf_27 ⟨B, ⟨by decide, by decide⟩, F⟩
  · have F := F.2 (c2)
    refine v_aload_n C 0 rfl rfl dX4_oneOf_8 ?_
    refine v_aload_n C 1 rfl rfl dX4_oneOf_9 ?_
    refine v_iload_n C 2 rfl rfl dX4_oneOf_10 ?_
    obtain ⟨o3, F⟩ := F
    obtain ⟨o4, F⟩ := F
    refine v_aald C 4 (by decide) (by decide) o1 o3 o4 rfl dX4_oneOf_11 ?_
    refine mX4_68 C (S_x0.ext E.1).k (d2 := 4) (kc2 := 0) (ks2 := 0) (by decide) (Nat.le_refl _) (Nat.le_refl _) (Nat.le_of_ble_eq_true rfl) dX4_oneOf_12 (Ct.mono (F) ?_)
    rintro r5 h6 ⟨e7, g8, F⟩
    have F := F e7
    have B9 := B.tr e7
    have E10 := E.tr e7
    refine v_if_eq C 20 (bR g8) dX4_oneOf_15 (by decide) (fun c11 => ?_) (fun c11 => ?_)
    · have F := F.1 (c11)
      obtain ⟨o12, F⟩ := F
      refine v_iinc C 2 rfl (by decide) dX4_oneOf_20 (lv2 := [(2, iv (x2 + 1)), (0, rf x0), (1, rf x1)]) rfl ?_
      refine v_goto C 2 dX4_oneOf_23 (by decide) ?_
      refine v_sub (lv2 := [(0, rf x0), (1, rf x1), (2, iv (x2 + 1))]) [1, 2, 0] rfl ?_
      exact F ⟨B9, o12⟩
    · have F := F.2 (c11)
      refine v_iload_n C 2 rfl rfl dX4_oneOf_18 ?_
      exact v_iret C (Nat.le_refl _) (Nat.le_refl _) dX4_oneOf_19 ⟨B9, R2, F⟩
set_option maxHeartbeats 1000000 in
theorem eX4_oneOf {G : GT} {l : Launch} {x0 x1 : Int} {h : Mem} {P : Int → Mem → Prop} (F : ∀ X : MX, Cx G X cX4_oneOf 3 RX4 5 0 0 (some .int) "oneOf" → X.2.1 = l → (EX h h) →
    (EX h h ∧ R32 0 → V G X 3 0 0 (QF G X 0 0 0 (PI h P)) 2 [(0, rf x0), (1, rf x1), (2, iv 0)] [] h)) :
    kX4_oneOf G l x0 x1 h P := by
  refine ct_of (by decide +kernel) (Nat.le_of_ble_eq_true rfl) fun X C e => ?_
  refine v_okz fun O => ?_
  exact wX4_oneOf_0 C (EX.rf O) (F X C e (EX.rf O))
set_option maxHeartbeats 4000000 in
theorem wX4_takesWord_0 {G : GT} {X : MX} {h0 h : Mem} {P : Int → Mem → Prop} {x0 x1 : Int} (C : Cx G X cX4_takesWord 2 RX4 5 0 0 (some .boolean) "takesWord") (B0 : EX h0 h)
    (F : TextS h x0 ∧ kX4_isWord G X.2.1 x0 x1 h (fun r1 h2 => EX h h2 → ((r1 ≠ 0 → ∃ i8 : Nat, i8 < 45 ∧ x1 = sK i8 ∧ R32 (h2 x0 2 + (sL i8 : Int)) ∧ ∀ h12 : Mem, h12 = up h2 x0 2 (h2 x0 2 + (sL i8 : Int)) → P 1 h12) ∧ (r1 = 0 → P 0 h2)))) :
    V G X 2 0 0 (QF G X 0 0 0 (PZ h0 P)) 0 [(0, rf x0), (1, rf x1)] [] h := by
  have B := B0
  have E : EX h h := EX.rf B.2
  obtain ⟨S_x0, F⟩ := F
  refine v_aload_n C 0 rfl rfl dX4_takesWord_0 ?_
  refine v_aload_n C 1 rfl rfl dX4_takesWord_1 ?_
  refine mX4_68 C (S_x0.ext E.1).k (d2 := 4) (kc2 := 0) (ks2 := 0) (by decide) (Nat.le_refl _) (Nat.le_refl _) (Nat.le_of_ble_eq_true rfl) dX4_takesWord_2 (Ct.mono (F) ?_)
  rintro r1 h2 ⟨e3, g4, F⟩
  have F := F e3
  have B5 := B.tr e3
  have E6 := E.tr e3
  refine v_if_ne C 10 (bR g4) dX4_takesWord_5 (by decide) (fun c7 => ?_) (fun c7 => ?_)
  · have F := F.1 (c7)
    refine v_aload_n C 0 rfl rfl dX4_takesWord_10 ?_
    refine v_dup C (rf_n1 _) dX4_takesWord_11 ?_
    refine gX4_42 C (S_x0.ext E6.1).k rfl dX4_takesWord_12 ?_
    refine v_aload_n C 1 rfl rfl dX4_takesWord_15 ?_
    obtain ⟨i8, o9, o10, F⟩ := F
    refine v_top o10 ?_
    refine mX4_59 C i8 o9 (d2 := 1) (kc2 := 0) (ks2 := 0) (by decide) (Nat.le_refl _) (Nat.le_refl _) (Nat.le_of_ble_eq_true rfl) dX4_takesWord_16 (Ct.mono (jLen i8 o9 _) ?_)
    intro _ _ z; rw [z.1, z.2]
    refine v_iadd C dX4_takesWord_19 ?_
    obtain ⟨o11, F⟩ := F
    refine pX4_42 C (S_x0.ext E6.1).k (okI_i rfl o11) dX4_takesWord_20 ?_
    obtain ⟨h12, eh12⟩ : ∃ m : Mem, m = up h2 x0 2 (h2 x0 2 + (sL i8 : Int)) := ⟨_, rfl⟩
    have B13 : EX h0 h12 := by rw [eh12]; exact EX_up B5 (S_x0.ext E6.1).k (by decide) rfl (by decide) (okI_i rfl o11)
    have E14 : EX h h12 := by rw [eh12]; exact EX_up E6 (S_x0.ext E6.1).k (by decide) rfl (by decide) (okI_i rfl o11)
    refine v_mem eh12 ?_
    have F := F h12 eh12
    refine v_iconst C dX4_takesWord_23 ?_
    exact v_zret C (by decide) (Nat.le_refl _) (Nat.le_refl _) dX4_takesWord_24 ⟨B13, (by decide), F⟩
  · have F := F.2 (c7)
    refine v_iconst C dX4_takesWord_8 ?_
    exact v_zret C (by decide) (Nat.le_refl _) (Nat.le_refl _) dX4_takesWord_9 ⟨B5, (by decide), F⟩
set_option maxHeartbeats 1000000 in
theorem eX4_takesWord {G : GT} {l : Launch} {x0 x1 : Int} {h : Mem} {P : Int → Mem → Prop} (F : ∀ X : MX, Cx G X cX4_takesWord 2 RX4 5 0 0 (some .boolean) "takesWord" → X.2.1 = l → (EX h h) →
    TextS h x0 ∧ kX4_isWord G X.2.1 x0 x1 h (fun r1 h2 => EX h h2 → ((r1 ≠ 0 → ∃ i8 : Nat, i8 < 45 ∧ x1 = sK i8 ∧ R32 (h2 x0 2 + (sL i8 : Int)) ∧ ∀ h12 : Mem, h12 = up h2 x0 2 (h2 x0 2 + (sL i8 : Int)) → P 1 h12) ∧ (r1 = 0 → P 0 h2)))) :
    kX4_takesWord G l x0 x1 h P := by
  refine ct_of (by decide +kernel) (Nat.le_of_ble_eq_true rfl) fun X C e => ?_
  refine v_okz fun O => ?_
  exact wX4_takesWord_0 C (EX.rf O) (F X C e (EX.rf O))
set_option maxHeartbeats 4000000 in
theorem wX4_streetTold_0 {G : GT} {X : MX} {h0 h : Mem} {P : Int → Mem → Prop} {PX : Mem → Prop} {x0 : Int} (C : Cx G X cX4_streetTold 3 RX4 6 0 0 (some (.object "LatestCoat$Town")) "streetTold") (N : NoH X) (B0 : EX h0 h)
    (F : TextS h x0 ∧ XS h ∧ kX1_copies G X.2.1 129 147 h (fun r1 h2 => EX h h2 → r1 = 129 ∧ (EX h0 h2 → V G X 3 0 0 (QX G X 2 0 0 (PR h0 P) (PE h0 PX)) 15 [(0, rf x0)] [] h2))) :
    V G X 3 0 0 (QX G X 2 0 0 (PR h0 P) (PE h0 PX)) 0 [(0, rf x0)] [] h := by
  have B := B0
  have E : EX h h := EX.rf B.2
  obtain ⟨S_x0, F⟩ := F
  obtain ⟨SX, F⟩ := F
  refine v_aload_n C 0 rfl rfl dX4_streetTold_0 ?_
  refine gX4_26 C (S_x0.ext E.1).k (S_x0.ext E.1).f1 dX4_streetTold_1 ?_
  refine v_aload_n C 0 rfl rfl dX4_streetTold_4 ?_
  refine gX4_3 C (S_x0.ext E.1).k (S_x0.ext E.1).f6 dX4_streetTold_5 ?_
  refine gX4_174 C (SX.ext E.1).k1 (SX.ext E.1).f5 dX4_streetTold_8 ?_
  refine mX4_177 C ((SX.ext E.1).t129).k (d2 := 2) (kc2 := 0) (ks2 := 0) (by decide) (Nat.le_refl _) (Nat.le_refl _) (Nat.le_of_ble_eq_true rfl) dX4_streetTold_11 (Ct.mono (F) ?_)
  rintro r1 h2 ⟨e3, F⟩
  replace F := F e3
  have B5 := B.tr e3
  have E6 := E.tr e3
  obtain ⟨r1q, F⟩ := F
  subst r1q
  refine v_pop C (rf_n1 _) dX4_streetTold_14 ?_
  refine v_sub (lv2 := [(0, rf x0)]) [0] rfl ?_
  exact F B5
set_option maxHeartbeats 4000000 in
theorem wX4_streetTold_L15 {G : GT} {X : MX} {h0 h : Mem} {P : Int → Mem → Prop} {PX : Mem → Prop} {x0 : Int} (C : Cx G X cX4_streetTold 3 RX4 6 0 0 (some (.object "LatestCoat$Town")) "streetTold") (N : NoH X) (B0 : EX h0 h)
    (F : TextS h x0 ∧ XS h ∧ kX4_see G X.2.1 x0 h (fun r1 h2 => EX h h2 → ∀ y7 : Int, y7 = h2 x0 2 → kX4_oneOf G X.2.1 x0 168 h2 (fun r8 h9 => EX h2 h9 → ((r8 = (-1) → kX4_demand G X.2.1 x0 0 0 y7 h9 (fun _ h16 => EX h9 h16 → kX4_canBe G X.2.1 x0 r8 h16 (fun r21 h22 => EX h16 h22 → kX4_demand G X.2.1 x0 r21 4 y7 h22 (fun _ h28 => EX h22 h28 → R32 (h28 x0 5 + 1) ∧ ∀ h34 : Mem, h34 = up h28 x0 5 (h28 x0 5 + 1) → 0 ≤ r8 ∧ r8 < 7 ∧ ∃ i39 : Nat, i39 < 45 ∧ h34 168 r8 = sK i39 ∧ R32 (h28 x0 2 + (sL i39 : Int)) ∧ ∀ h43 : Mem, h43 = up h34 x0 2 (h28 x0 2 + (sL i39 : Int)) → kX4_line G X.2.1 x0 r8 h43 (fun _ h47 => EX h43 h47 → kX4_takesSign G X.2.1 x0 59 h47 (fun r52 h53 => EX h47 h53 → ((r52 ≠ 0 → (EX h0 h53 → V G X 3 0 0 (QX G X 2 0 0 (PR h0 P) (PE h0 PX)) 15 [(0, rf x0)] [] h53)) ∧ (r52 = 0 → kX4_ends G X.2.1 x0 h53 (fun _ h60 => EX h53 h60 → kX1_begins G X.2.1 129 h60 (fun _ h66 => EX h60 h66 → P 129 h66)) PX)))) PX) PX)) PX) ∧ (r8 ≠ (-1) → kX4_demand G X.2.1 x0 1 0 y7 h9 (fun _ h72 => EX h9 h72 → kX4_canBe G X.2.1 x0 r8 h72 (fun r77 h78 => EX h72 h78 → kX4_demand G X.2.1 x0 r77 4 y7 h78 (fun _ h84 => EX h78 h84 → R32 (h84 x0 5 + 1) ∧ ∀ h90 : Mem, h90 = up h84 x0 5 (h84 x0 5 + 1) → 0 ≤ r8 ∧ r8 < 7 ∧ ∃ i95 : Nat, i95 < 45 ∧ h90 168 r8 = sK i95 ∧ R32 (h84 x0 2 + (sL i95 : Int)) ∧ ∀ h99 : Mem, h99 = up h90 x0 2 (h84 x0 2 + (sL i95 : Int)) → kX4_line G X.2.1 x0 r8 h99 (fun _ h103 => EX h99 h103 → kX4_takesSign G X.2.1 x0 59 h103 (fun r108 h109 => EX h103 h109 → ((r108 ≠ 0 → (EX h0 h109 → V G X 3 0 0 (QX G X 2 0 0 (PR h0 P) (PE h0 PX)) 15 [(0, rf x0)] [] h109)) ∧ (r108 = 0 → kX4_ends G X.2.1 x0 h109 (fun _ h116 => EX h109 h116 → kX1_begins G X.2.1 129 h116 (fun _ h122 => EX h116 h122 → P 129 h122)) PX)))) PX) PX)) PX))))) :
    V G X 3 0 0 (QX G X 2 0 0 (PR h0 P) (PE h0 PX)) 15 [(0, rf x0)] [] h := by
  have B := B0
  have E : EX h h := EX.rf B.2
  obtain ⟨S_x0, F⟩ := F
  obtain ⟨SX, F⟩ := F
  refine v_aload_n C 0 rfl rfl dX4_streetTold_15 ?_
  refine mX4_52 C (S_x0.ext E.1).k (d2 := 0) (kc2 := 0) (ks2 := 0) (by decide) (Nat.le_refl _) (Nat.le_refl _) (Nat.le_of_ble_eq_true rfl) dX4_streetTold_16 (Ct.mono (F) ?_)
  rintro r1 h2 ⟨e3, g4, F⟩
  have F := F e3
  have B5 := B.tr e3
  have E6 := E.tr e3
  refine v_pop C (iv_n1 _) dX4_streetTold_19 ?_
  refine v_aload_n C 0 rfl rfl dX4_streetTold_20 ?_
  refine gX4_42 C (S_x0.ext E6.1).k rfl dX4_streetTold_21 ?_
  obtain ⟨y7, ey7⟩ : ∃ z : Int, z = h2 x0 2 := ⟨_, rfl⟩
  have F := F y7 ey7
  have Ry7 : R32 y7 := by rw [ey7]; exact (EX.rI B5 (j := 2) (S_x0.ext E6.1).k rfl)
  refine v_istore_n C rfl (by decide) dX4_streetTold_24 (lv2 := [(1, iv y7), (0, rf x0)]) (by rw [ey7]; rfl) ?_
  refine v_aload_n C 1 rfl rfl dX4_streetTold_25 ?_
  refine v_aload_n C 1 rfl rfl dX4_streetTold_26 ?_
  refine gX4_3 C (S_x0.ext E6.1).k (S_x0.ext E6.1).f6 dX4_streetTold_27 ?_
  refine gX4_181 C (SX.ext E6.1).k1 (SX.ext E6.1).f12 dX4_streetTold_30 ?_
  refine mX4_184 C (S_x0.ext E6.1).k (d2 := 5) (kc2 := 0) (ks2 := 0) (by decide) (Nat.le_refl _) (Nat.le_refl _) (Nat.le_of_ble_eq_true rfl) dX4_streetTold_33 (Ct.mono (F) ?_)
  rintro r8 h9 ⟨e10, g11, F⟩
  have F := F e10
  have B12 := B5.tr e10
  have E13 := E6.tr e10
  refine v_istore_n C rfl (by decide) dX4_streetTold_36 (lv2 := [(2, iv r8), (1, iv y7), (0, rf x0)]) rfl ?_
  refine v_aload_n C 2 rfl rfl dX4_streetTold_37 ?_
  refine v_iload_n C 0 rfl rfl dX4_streetTold_38 ?_
  refine v_iconst C dX4_streetTold_39 ?_
  refine v_icmp_eq C 47 g11 ⟨by decide, by decide⟩ dX4_streetTold_40 (by decide) (fun c14 => ?_) (fun c14 => ?_)
  · have F := F.1 (c14)
    refine v_iconst C dX4_streetTold_47 ?_
    refine v_iconst C dX4_streetTold_48 ?_
    refine v_iload_n C 1 rfl rfl dX4_streetTold_49 ?_
    refine tX4_76 C N (S_x0.ext E13.1).k (d2 := 0) (kc2 := 0) (ks2 := 0) (by decide) (Nat.le_refl _) (Nat.le_refl _) (Nat.le_of_ble_eq_true rfl) dX4_streetTold_50 (CtX.mono (F ⟨by decide, by decide⟩ ⟨by decide, by decide⟩ Ry7) ?_ ?_)
    · rintro r15 h16 ⟨e17, F⟩
      have F := F e17
      have B19 := B12.tr e17
      have E20 := E13.tr e17
      refine v_aload_n C 2 rfl rfl dX4_streetTold_53 ?_
      refine v_aload_n C 2 rfl rfl dX4_streetTold_54 ?_
      refine v_iload_n C 0 rfl rfl dX4_streetTold_55 ?_
      refine mX4_188 C (S_x0.ext E20.1).k (d2 := 0) (kc2 := 0) (ks2 := 0) (by decide) (Nat.le_refl _) (Nat.le_refl _) (Nat.le_of_ble_eq_true rfl) dX4_streetTold_56 (Ct.mono (F g11) ?_)
      rintro r21 h22 ⟨e23, g24, F⟩
      have F := F e23
      have B25 := B19.tr e23
      have E26 := E20.tr e23
      refine v_iconst C dX4_streetTold_59 ?_
      refine v_iload_n C 1 rfl rfl dX4_streetTold_60 ?_
      refine tX4_76 C N (S_x0.ext E26.1).k (d2 := 0) (kc2 := 0) (ks2 := 0) (by decide) (Nat.le_refl _) (Nat.le_refl _) (Nat.le_of_ble_eq_true rfl) dX4_streetTold_61 (CtX.mono (F (bR g24) ⟨by decide, by decide⟩ Ry7) ?_ ?_)
      · rintro r27 h28 ⟨e29, F⟩
        have F := F e29
        have B31 := B25.tr e29
        have E32 := E26.tr e29
        refine v_aload_n C 2 rfl rfl dX4_streetTold_64 ?_
        refine v_dup C (rf_n1 _) dX4_streetTold_65 ?_
        refine gX4_90 C (S_x0.ext E32.1).k rfl dX4_streetTold_66 ?_
        refine v_iconst C dX4_streetTold_69 ?_
        refine v_iadd C dX4_streetTold_70 ?_
        obtain ⟨o33, F⟩ := F
        refine pX4_90 C (S_x0.ext E32.1).k (okI_i rfl o33) dX4_streetTold_71 ?_
        obtain ⟨h34, eh34⟩ : ∃ m : Mem, m = up h28 x0 5 (h28 x0 5 + 1) := ⟨_, rfl⟩
        have B35 : EX h0 h34 := by rw [eh34]; exact EX_up B31 (S_x0.ext E32.1).k (by decide) rfl (by decide) (okI_i rfl o33)
        have E36 : EX h h34 := by rw [eh34]; exact EX_up E32 (S_x0.ext E32.1).k (by decide) rfl (by decide) (okI_i rfl o33)
        refine v_mem eh34 ?_
        have F := F h34 eh34
        refine v_aload_n C 2 rfl rfl dX4_streetTold_74 ?_
        refine v_dup C (rf_n1 _) dX4_streetTold_75 ?_
        refine gX4_42 C (S_x0.ext E36.1).k (show h34 x0 2 = h28 x0 2 by rw [eh34, up_i (by decide)]) dX4_streetTold_76 ?_
        refine v_aload_n C 2 rfl rfl dX4_streetTold_79 ?_
        refine gX4_3 C (S_x0.ext E36.1).k (S_x0.ext E36.1).f6 dX4_streetTold_80 ?_
        refine gX4_181 C (SX.ext E36.1).k1 (SX.ext E36.1).f12 dX4_streetTold_83 ?_
        refine v_iload_n C 0 rfl rfl dX4_streetTold_86 ?_
        obtain ⟨o37, F⟩ := F
        obtain ⟨o38, F⟩ := F
        refine v_aald C 4 (by decide) (by decide) (SX.ext E36.1).k168 o37 (by rw [(SX.ext E36.1).l168]; exact o38) rfl dX4_streetTold_87 ?_
        obtain ⟨i39, o40, o41, F⟩ := F
        refine v_top o41 ?_
        refine mX4_59 C i39 o40 (d2 := 1) (kc2 := 0) (ks2 := 0) (by decide) (Nat.le_refl _) (Nat.le_refl _) (Nat.le_of_ble_eq_true rfl) dX4_streetTold_88 (Ct.mono (jLen i39 o40 _) ?_)
        intro _ _ z; rw [z.1, z.2]
        refine v_iadd C dX4_streetTold_91 ?_
        obtain ⟨o42, F⟩ := F
        refine pX4_42 C (S_x0.ext E36.1).k (okI_i rfl o42) dX4_streetTold_92 ?_
        obtain ⟨h43, eh43⟩ : ∃ m : Mem, m = up h34 x0 2 (h28 x0 2 + (sL i39 : Int)) := ⟨_, rfl⟩
        have B44 : EX h0 h43 := by rw [eh43]; exact EX_up B35 (S_x0.ext E36.1).k (by decide) rfl (by decide) (okI_i rfl o42)
        have E45 : EX h h43 := by rw [eh43]; exact EX_up E36 (S_x0.ext E36.1).k (by decide) rfl (by decide) (okI_i rfl o42)
        refine v_mem eh43 ?_
        have F := F h43 eh43
        refine v_aload_n C 2 rfl rfl dX4_streetTold_95 ?_
        refine v_iload_n C 0 rfl rfl dX4_streetTold_96 ?_
        refine tX4_191 C N (S_x0.ext E45.1).k (d2 := 3) (kc2 := 0) (ks2 := 0) (by decide) (Nat.le_refl _) (Nat.le_refl _) (Nat.le_of_ble_eq_true rfl) dX4_streetTold_97 (CtX.mono (F g11) ?_ ?_)
        · rintro r46 h47 ⟨e48, F⟩
          have F := F e48
          have B50 := B44.tr e48
          have E51 := E45.tr e48
          refine v_aload_n C 2 rfl rfl dX4_streetTold_100 ?_
          refine v_bipush C rfl dX4_streetTold_101 ?_
          refine mX4_195 C (S_x0.ext E51.1).k (d2 := 1) (kc2 := 0) (ks2 := 0) (by decide) (Nat.le_refl _) (Nat.le_refl _) (Nat.le_of_ble_eq_true rfl) dX4_streetTold_103 (Ct.mono (F ⟨by decide, by decide⟩) ?_)
          rintro r52 h53 ⟨e54, g55, F⟩
          have F := F e54
          have B56 := B50.tr e54
          have E57 := E51.tr e54
          refine v_if_ne C 15 (bR g55) dX4_streetTold_106 (by decide) (fun c58 => ?_) (fun c58 => ?_)
          · have F := F.1 (c58)
            refine v_sub (lv2 := [(0, rf x0)]) [2] rfl ?_
            exact F B56
          · have F := F.2 (c58)
            refine v_aload_n C 2 rfl rfl dX4_streetTold_109 ?_
            refine tX4_198 C N (S_x0.ext E57.1).k (d2 := 1) (kc2 := 0) (ks2 := 0) (by decide) (Nat.le_refl _) (Nat.le_refl _) (Nat.le_of_ble_eq_true rfl) dX4_streetTold_110 (CtX.mono (F) ?_ ?_)
            · rintro r59 h60 ⟨e61, F⟩
              have F := F e61
              have B63 := B56.tr e61
              have E64 := E57.tr e61
              refine v_aload_n C 2 rfl rfl dX4_streetTold_113 ?_
              refine gX4_26 C (S_x0.ext E64.1).k (S_x0.ext E64.1).f1 dX4_streetTold_114 ?_
              refine mX4_201 C ((SX.ext E64.1).t129).k (d2 := 1) (kc2 := 0) (ks2 := 0) (by decide) (Nat.le_refl _) (Nat.le_refl _) (Nat.le_of_ble_eq_true rfl) dX4_streetTold_117 (Ct.mono (F) ?_)
              rintro r65 h66 ⟨e67, F⟩
              have F := F e67
              have B69 := B63.tr e67
              have E70 := E64.tr e67
              refine v_aload_n C 2 rfl rfl dX4_streetTold_120 ?_
              refine gX4_26 C (S_x0.ext E70.1).k (S_x0.ext E70.1).f1 dX4_streetTold_121 ?_
              refine V.toX ?_
              exact v_aret C (Nat.le_refl _) (Nat.le_refl _) dX4_streetTold_124 ⟨B69, F⟩
            · exact fun h9 F9 => ⟨B56.tr F9.1, F9.2⟩
        · exact fun h9 F9 => ⟨B44.tr F9.1, F9.2⟩
      · exact fun h9 F9 => ⟨B25.tr F9.1, F9.2⟩
    · exact fun h9 F9 => ⟨B12.tr F9.1, F9.2⟩
  · have F := F.2 (c14)
    refine v_iconst C dX4_streetTold_43 ?_
    refine v_goto C 48 dX4_streetTold_44 (by decide) ?_
    refine v_iconst C dX4_streetTold_48 ?_
    refine v_iload_n C 1 rfl rfl dX4_streetTold_49 ?_
    refine tX4_76 C N (S_x0.ext E13.1).k (d2 := 0) (kc2 := 0) (ks2 := 0) (by decide) (Nat.le_refl _) (Nat.le_refl _) (Nat.le_of_ble_eq_true rfl) dX4_streetTold_50 (CtX.mono (F ⟨by decide, by decide⟩ ⟨by decide, by decide⟩ Ry7) ?_ ?_)
    · rintro r71 h72 ⟨e73, F⟩
      have F := F e73
      have B75 := B12.tr e73
      have E76 := E13.tr e73
      refine v_aload_n C 2 rfl rfl dX4_streetTold_53 ?_
      refine v_aload_n C 2 rfl rfl dX4_streetTold_54 ?_
      refine v_iload_n C 0 rfl rfl dX4_streetTold_55 ?_
      refine mX4_188 C (S_x0.ext E76.1).k (d2 := 0) (kc2 := 0) (ks2 := 0) (by decide) (Nat.le_refl _) (Nat.le_refl _) (Nat.le_of_ble_eq_true rfl) dX4_streetTold_56 (Ct.mono (F g11) ?_)
      rintro r77 h78 ⟨e79, g80, F⟩
      have F := F e79
      have B81 := B75.tr e79
      have E82 := E76.tr e79
      refine v_iconst C dX4_streetTold_59 ?_
      refine v_iload_n C 1 rfl rfl dX4_streetTold_60 ?_
      refine tX4_76 C N (S_x0.ext E82.1).k (d2 := 0) (kc2 := 0) (ks2 := 0) (by decide) (Nat.le_refl _) (Nat.le_refl _) (Nat.le_of_ble_eq_true rfl) dX4_streetTold_61 (CtX.mono (F (bR g80) ⟨by decide, by decide⟩ Ry7) ?_ ?_)
      · rintro r83 h84 ⟨e85, F⟩
        have F := F e85
        have B87 := B81.tr e85
        have E88 := E82.tr e85
        refine v_aload_n C 2 rfl rfl dX4_streetTold_64 ?_
        refine v_dup C (rf_n1 _) dX4_streetTold_65 ?_
        refine gX4_90 C (S_x0.ext E88.1).k rfl dX4_streetTold_66 ?_
        refine v_iconst C dX4_streetTold_69 ?_
        refine v_iadd C dX4_streetTold_70 ?_
        obtain ⟨o89, F⟩ := F
        refine pX4_90 C (S_x0.ext E88.1).k (okI_i rfl o89) dX4_streetTold_71 ?_
        obtain ⟨h90, eh90⟩ : ∃ m : Mem, m = up h84 x0 5 (h84 x0 5 + 1) := ⟨_, rfl⟩
        have B91 : EX h0 h90 := by rw [eh90]; exact EX_up B87 (S_x0.ext E88.1).k (by decide) rfl (by decide) (okI_i rfl o89)
        have E92 : EX h h90 := by rw [eh90]; exact EX_up E88 (S_x0.ext E88.1).k (by decide) rfl (by decide) (okI_i rfl o89)
        refine v_mem eh90 ?_
        have F := F h90 eh90
        refine v_aload_n C 2 rfl rfl dX4_streetTold_74 ?_
        refine v_dup C (rf_n1 _) dX4_streetTold_75 ?_
        refine gX4_42 C (S_x0.ext E92.1).k (show h90 x0 2 = h84 x0 2 by rw [eh90, up_i (by decide)]) dX4_streetTold_76 ?_
        refine v_aload_n C 2 rfl rfl dX4_streetTold_79 ?_
        refine gX4_3 C (S_x0.ext E92.1).k (S_x0.ext E92.1).f6 dX4_streetTold_80 ?_
        refine gX4_181 C (SX.ext E92.1).k1 (SX.ext E92.1).f12 dX4_streetTold_83 ?_
        refine v_iload_n C 0 rfl rfl dX4_streetTold_86 ?_
        obtain ⟨o93, F⟩ := F
        obtain ⟨o94, F⟩ := F
        refine v_aald C 4 (by decide) (by decide) (SX.ext E92.1).k168 o93 (by rw [(SX.ext E92.1).l168]; exact o94) rfl dX4_streetTold_87 ?_
        obtain ⟨i95, o96, o97, F⟩ := F
        refine v_top o97 ?_
        refine mX4_59 C i95 o96 (d2 := 1) (kc2 := 0) (ks2 := 0) (by decide) (Nat.le_refl _) (Nat.le_refl _) (Nat.le_of_ble_eq_true rfl) dX4_streetTold_88 (Ct.mono (jLen i95 o96 _) ?_)
        intro _ _ z; rw [z.1, z.2]
        refine v_iadd C dX4_streetTold_91 ?_
        obtain ⟨o98, F⟩ := F
        refine pX4_42 C (S_x0.ext E92.1).k (okI_i rfl o98) dX4_streetTold_92 ?_
        obtain ⟨h99, eh99⟩ : ∃ m : Mem, m = up h90 x0 2 (h84 x0 2 + (sL i95 : Int)) := ⟨_, rfl⟩
        have B100 : EX h0 h99 := by rw [eh99]; exact EX_up B91 (S_x0.ext E92.1).k (by decide) rfl (by decide) (okI_i rfl o98)
        have E101 : EX h h99 := by rw [eh99]; exact EX_up E92 (S_x0.ext E92.1).k (by decide) rfl (by decide) (okI_i rfl o98)
        refine v_mem eh99 ?_
        have F := F h99 eh99
        refine v_aload_n C 2 rfl rfl dX4_streetTold_95 ?_
        refine v_iload_n C 0 rfl rfl dX4_streetTold_96 ?_
        refine tX4_191 C N (S_x0.ext E101.1).k (d2 := 3) (kc2 := 0) (ks2 := 0) (by decide) (Nat.le_refl _) (Nat.le_refl _) (Nat.le_of_ble_eq_true rfl) dX4_streetTold_97 (CtX.mono (F g11) ?_ ?_)
        · rintro r102 h103 ⟨e104, F⟩
          have F := F e104
          have B106 := B100.tr e104
          have E107 := E101.tr e104
          refine v_aload_n C 2 rfl rfl dX4_streetTold_100 ?_
          refine v_bipush C rfl dX4_streetTold_101 ?_
          refine mX4_195 C (S_x0.ext E107.1).k (d2 := 1) (kc2 := 0) (ks2 := 0) (by decide) (Nat.le_refl _) (Nat.le_refl _) (Nat.le_of_ble_eq_true rfl) dX4_streetTold_103 (Ct.mono (F ⟨by decide, by decide⟩) ?_)
          rintro r108 h109 ⟨e110, g111, F⟩
          have F := F e110
          have B112 := B106.tr e110
          have E113 := E107.tr e110
          refine v_if_ne C 15 (bR g111) dX4_streetTold_106 (by decide) (fun c114 => ?_) (fun c114 => ?_)
          · have F := F.1 (c114)
            refine v_sub (lv2 := [(0, rf x0)]) [2] rfl ?_
            exact F B112
          · have F := F.2 (c114)
            refine v_aload_n C 2 rfl rfl dX4_streetTold_109 ?_
            refine tX4_198 C N (S_x0.ext E113.1).k (d2 := 1) (kc2 := 0) (ks2 := 0) (by decide) (Nat.le_refl _) (Nat.le_refl _) (Nat.le_of_ble_eq_true rfl) dX4_streetTold_110 (CtX.mono (F) ?_ ?_)
            · rintro r115 h116 ⟨e117, F⟩
              have F := F e117
              have B119 := B112.tr e117
              have E120 := E113.tr e117
              refine v_aload_n C 2 rfl rfl dX4_streetTold_113 ?_
              refine gX4_26 C (S_x0.ext E120.1).k (S_x0.ext E120.1).f1 dX4_streetTold_114 ?_
              refine mX4_201 C ((SX.ext E120.1).t129).k (d2 := 1) (kc2 := 0) (ks2 := 0) (by decide) (Nat.le_refl _) (Nat.le_refl _) (Nat.le_of_ble_eq_true rfl) dX4_streetTold_117 (Ct.mono (F) ?_)
              rintro r121 h122 ⟨e123, F⟩
              have F := F e123
              have B125 := B119.tr e123
              have E126 := E120.tr e123
              refine v_aload_n C 2 rfl rfl dX4_streetTold_120 ?_
              refine gX4_26 C (S_x0.ext E126.1).k (S_x0.ext E126.1).f1 dX4_streetTold_121 ?_
              refine V.toX ?_
              exact v_aret C (Nat.le_refl _) (Nat.le_refl _) dX4_streetTold_124 ⟨B125, F⟩
            · exact fun h9 F9 => ⟨B112.tr F9.1, F9.2⟩
        · exact fun h9 F9 => ⟨B100.tr F9.1, F9.2⟩
      · exact fun h9 F9 => ⟨B81.tr F9.1, F9.2⟩
    · exact fun h9 F9 => ⟨B12.tr F9.1, F9.2⟩
set_option maxHeartbeats 1000000 in
theorem eX4_streetTold {G : GT} {l : Launch} {x0 : Int} {h : Mem} {P : Int → Mem → Prop} {PX : Mem → Prop} (F : ∀ X : MX, Cx G X cX4_streetTold 3 RX4 6 0 0 (some (.object "LatestCoat$Town")) "streetTold" → NoH X → X.2.1 = l → (EX h h) →
    TextS h x0 ∧ XS h ∧ kX1_copies G X.2.1 129 147 h (fun r1 h2 => EX h h2 → r1 = 129 ∧ (EX h h2 → V G X 3 0 0 (QX G X 2 0 0 (PR h P) (PE h PX)) 15 [(0, rf x0)] [] h2))) :
    kX4_streetTold G l x0 h P PX := by
  refine ct_ofX (by decide +kernel) (Nat.le_of_ble_eq_true rfl) fun X C N e => ?_
  refine v_okz fun O => ?_
  exact wX4_streetTold_0 C N (EX.rf O) (F X C N e (EX.rf O))
set_option maxHeartbeats 4000000 in
theorem wX4_value_0 {G : GT} {X : MX} {h0 h : Mem} {P : Int → Mem → Prop} {PX : Mem → Prop} {kc ks uc us : Nat} {x0 : Int} (C : Cx G X cX4_value 3 RX4 6 kc ks (some (.object "LatestCoat$Value")) "value") (N : NoH X) (B0 : EX h0 h)
    (F : TextS h x0 ∧ XS h ∧ kX4_see G X.2.1 x0 h (fun r1 h2 => EX h h2 → ∀ y7 : Int, y7 = h2 x0 2 → kX4_isDigit G X.2.1 x0 y7 h2 (fun r8 h9 => EX h2 h9 → ((r8 = 0 → kX4_oneOf G X.2.1 x0 170 h9 (fun r15 h16 => EX h9 h16 → ((r15 = (-1) → kX4_demand G X.2.1 x0 0 0 y7 h16 (fun _ h23 => EX h16 h23 → kX4_makes G X.2.1 x0 y7 h23 (fun _ h29 => EX h23 h29 → 0 ≤ r15 ∧ r15 < 13 ∧ ∃ i36 : Nat, i36 < 45 ∧ h29 170 r15 = sK i36 ∧ R32 (h29 x0 2 + (sL i36 : Int)) ∧ ∀ h40 : Mem, h40 = up h29 x0 2 (h29 x0 2 + (sL i36 : Int)) → 0 + 1 ≤ kc ∧ 0 + 1 ≤ ks ∧ ∀ h45 : Mem, h45 = alloc h40 9 0 → ∀ a46 : Int, a46 = h40 0 0 → kX9_init G X.2.1 a46 r15 h45 (fun _ h50 => BX a46 h45 h50 → P a46 h50)) PX) PX) ∧ (r15 ≠ (-1) → kX4_demand G X.2.1 x0 1 0 y7 h16 (fun _ h56 => EX h16 h56 → kX4_makes G X.2.1 x0 y7 h56 (fun _ h62 => EX h56 h62 → 0 ≤ r15 ∧ r15 < 13 ∧ ∃ i69 : Nat, i69 < 45 ∧ h62 170 r15 = sK i69 ∧ R32 (h62 x0 2 + (sL i69 : Int)) ∧ ∀ h73 : Mem, h73 = up h62 x0 2 (h62 x0 2 + (sL i69 : Int)) → 0 + 1 ≤ kc ∧ 0 + 1 ≤ ks ∧ ∀ h78 : Mem, h78 = alloc h73 9 0 → ∀ a79 : Int, a79 = h73 0 0 → kX9_init G X.2.1 a79 r15 h78 (fun _ h83 => BX a79 h78 h83 → P a79 h83)) PX) PX)))) ∧ (r8 ≠ 0 → kX4_number G X.2.1 x0 0 99999 h9 (fun r88 h89 => EX h9 h89 → kX4_makes G X.2.1 x0 y7 h89 (fun _ h95 => EX h89 h95 → 0 + 1 ≤ kc ∧ 0 + 1 ≤ ks ∧ ∀ h102 : Mem, h102 = alloc h95 8 0 → ∀ a103 : Int, a103 = h95 0 0 → kX8_init G X.2.1 a103 r88 h102 (fun _ h107 => BX a103 h102 h107 → P a103 h107)) PX) PX))))) :
    V G X 3 0 0 (QX G X 2 kc ks (PR h0 P) (PE h0 PX)) 0 [(0, rf x0)] [] h := by
  have B := B0
  have E : EX h h := EX.rf B.2
  obtain ⟨S_x0, F⟩ := F
  obtain ⟨SX, F⟩ := F
  refine v_aload_n C 0 rfl rfl dX4_value_0 ?_
  refine mX4_52 C (S_x0.ext E.1).k (d2 := 0) (kc2 := 0) (ks2 := 0) (by decide) (Nat.zero_le _) (Nat.zero_le _) (Nat.le_of_ble_eq_true rfl) dX4_value_1 (Ct.mono (F) ?_)
  rintro r1 h2 ⟨e3, g4, F⟩
  have F := F e3
  have B5 := B.tr e3
  have E6 := E.tr e3
  refine v_pop C (iv_n1 _) dX4_value_4 ?_
  refine v_aload_n C 0 rfl rfl dX4_value_5 ?_
  refine gX4_42 C (S_x0.ext E6.1).k rfl dX4_value_6 ?_
  obtain ⟨y7, ey7⟩ : ∃ z : Int, z = h2 x0 2 := ⟨_, rfl⟩
  have F := F y7 ey7
  have Ry7 : R32 y7 := by rw [ey7]; exact (EX.rI B5 (j := 2) (S_x0.ext E6.1).k rfl)
  refine v_istore_n C rfl (by decide) dX4_value_9 (lv2 := [(1, iv y7), (0, rf x0)]) (by rw [ey7]; rfl) ?_
  refine v_aload_n C 1 rfl rfl dX4_value_10 ?_
  refine v_iload_n C 0 rfl rfl dX4_value_11 ?_
  refine mX4_72 C (S_x0.ext E6.1).k (d2 := 0) (kc2 := 0) (ks2 := 0) (by decide) (Nat.zero_le _) (Nat.zero_le _) (Nat.le_of_ble_eq_true rfl) dX4_value_12 (Ct.mono (F Ry7) ?_)
  rintro r8 h9 ⟨e10, g11, F⟩
  have F := F e10
  have B12 := B5.tr e10
  have E13 := E6.tr e10
  refine v_if_eq C 42 (bR g11) dX4_value_15 (by decide) (fun c14 => ?_) (fun c14 => ?_)
  · have F := F.1 (c14)
    refine v_aload_n C 1 rfl rfl dX4_value_42 ?_
    refine v_aload_n C 1 rfl rfl dX4_value_43 ?_
    refine gX4_19 C (S_x0.ext E13.1).k (S_x0.ext E13.1).f0 dX4_value_44 ?_
    refine mX4_184 C (S_x0.ext E13.1).k (d2 := 5) (kc2 := 0) (ks2 := 0) (by decide) (Nat.zero_le _) (Nat.zero_le _) (Nat.le_of_ble_eq_true rfl) dX4_value_47 (Ct.mono (F) ?_)
    rintro r15 h16 ⟨e17, g18, F⟩
    have F := F e17
    have B19 := B12.tr e17
    have E20 := E13.tr e17
    refine v_istore_n C rfl (by decide) dX4_value_50 (lv2 := [(2, iv r15), (1, iv y7), (0, rf x0)]) rfl ?_
    refine v_aload_n C 2 rfl rfl dX4_value_51 ?_
    refine v_iload_n C 0 rfl rfl dX4_value_52 ?_
    refine v_iconst C dX4_value_53 ?_
    refine v_icmp_eq C 61 g18 ⟨by decide, by decide⟩ dX4_value_54 (by decide) (fun c21 => ?_) (fun c21 => ?_)
    · have F := F.1 (c21)
      refine v_iconst C dX4_value_61 ?_
      refine v_iconst C dX4_value_62 ?_
      refine v_iload_n C 1 rfl rfl dX4_value_63 ?_
      refine tX4_76 C N (S_x0.ext E20.1).k (d2 := 0) (kc2 := 0) (ks2 := 0) (by decide) (Nat.zero_le _) (Nat.zero_le _) (Nat.le_of_ble_eq_true rfl) dX4_value_64 (CtX.mono (F ⟨by decide, by decide⟩ ⟨by decide, by decide⟩ Ry7) ?_ ?_)
      · rintro r22 h23 ⟨e24, F⟩
        have F := F e24
        have B26 := B19.tr e24
        have E27 := E20.tr e24
        refine v_aload_n C 2 rfl rfl dX4_value_67 ?_
        refine v_iload_n C 1 rfl rfl dX4_value_68 ?_
        refine tX4_270 C N (S_x0.ext E27.1).k (d2 := 1) (kc2 := 0) (ks2 := 0) (by decide) (Nat.zero_le _) (Nat.zero_le _) (Nat.le_of_ble_eq_true rfl) dX4_value_69 (CtX.mono (F Ry7) ?_ ?_)
        · rintro r28 h29 ⟨e30, F⟩
          have F := F e30
          have B32 := B26.tr e30
          have E33 := E27.tr e30
          refine v_aload_n C 2 rfl rfl dX4_value_72 ?_
          refine v_dup C (rf_n1 _) dX4_value_73 ?_
          refine gX4_42 C (S_x0.ext E33.1).k rfl dX4_value_74 ?_
          refine v_aload_n C 2 rfl rfl dX4_value_77 ?_
          refine gX4_19 C (S_x0.ext E33.1).k (S_x0.ext E33.1).f0 dX4_value_78 ?_
          refine v_iload_n C 0 rfl rfl dX4_value_81 ?_
          obtain ⟨o34, F⟩ := F
          obtain ⟨o35, F⟩ := F
          refine v_aald C 4 (by decide) (by decide) (SX.ext E33.1).k170 o34 (by rw [(SX.ext E33.1).l170]; exact o35) rfl dX4_value_82 ?_
          obtain ⟨i36, o37, o38, F⟩ := F
          refine v_top o38 ?_
          refine mX4_59 C i36 o37 (d2 := 1) (kc2 := 0) (ks2 := 0) (by decide) (Nat.zero_le _) (Nat.zero_le _) (Nat.le_of_ble_eq_true rfl) dX4_value_83 (Ct.mono (jLen i36 o37 _) ?_)
          intro _ _ z; rw [z.1, z.2]
          refine v_iadd C dX4_value_86 ?_
          obtain ⟨o39, F⟩ := F
          refine pX4_42 C (S_x0.ext E33.1).k (okI_i rfl o39) dX4_value_87 ?_
          obtain ⟨h40, eh40⟩ : ∃ m : Mem, m = up h29 x0 2 (h29 x0 2 + (sL i36 : Int)) := ⟨_, rfl⟩
          have B41 : EX h0 h40 := by rw [eh40]; exact EX_up B32 (S_x0.ext E33.1).k (by decide) rfl (by decide) (okI_i rfl o39)
          have E42 : EX h h40 := by rw [eh40]; exact EX_up E33 (S_x0.ext E33.1).k (by decide) rfl (by decide) (okI_i rfl o39)
          refine v_mem eh40 ?_
          have F := F h40 eh40
          obtain ⟨o43, o44, F⟩ := F
          refine nX4_293 C o43 o44 dX4_value_90 ?_
          obtain ⟨h45, eh45⟩ : ∃ m : Mem, m = alloc h40 9 0 := ⟨_, rfl⟩
          obtain ⟨a46, ea46⟩ : ∃ z : Int, z = h40 0 0 := ⟨_, rfl⟩
          have La46 : h0 0 0 ≤ a46 := by rw [ea46]; exact B41.1.1
          have Ma46 : h 0 0 ≤ a46 := by rw [ea46]; exact E42.1.1
          have Na46 : a46 ≠ 0 := by have z := B41.pos; rw [ea46]; omega
          have B47 : EX h0 h45 := by rw [eh45]; exact EX_alloc B41 (by decide) (by decide) (by decide) (by decide)
          have E48 : EX h h45 := by rw [eh45]; exact EX_alloc E42 (by decide) (by decide) (by decide) (by decide)
          refine v_mem eh45 ?_
          refine v_topi ea46.symm ?_
          have F := F h45 eh45 a46 ea46
          refine v_dup C (rf_n1 _) dX4_value_93 ?_
          refine v_iload_n C 0 rfl rfl dX4_value_94 ?_
          refine mX4_295 C Na46 (d2 := 2) (kc2 := 0) (ks2 := 0) (by decide) o43 o44 (Nat.le_of_ble_eq_true rfl) dX4_value_95 (Ct.mono (F g18) ?_)
          rintro r49 h50 ⟨e51, F⟩
          have F := F e51
          have B53 := e51.2 _ B47 La46
          have E54 := e51.2 _ E48 Ma46
          refine V.toX ?_
          exact v_aret C o43 o44 dX4_value_98 ⟨B53, F⟩
        · exact fun h9 F9 => ⟨B26.tr F9.1, F9.2⟩
      · exact fun h9 F9 => ⟨B19.tr F9.1, F9.2⟩
    · have F := F.2 (c21)
      refine v_iconst C dX4_value_57 ?_
      refine v_goto C 62 dX4_value_58 (by decide) ?_
      refine v_iconst C dX4_value_62 ?_
      refine v_iload_n C 1 rfl rfl dX4_value_63 ?_
      refine tX4_76 C N (S_x0.ext E20.1).k (d2 := 0) (kc2 := 0) (ks2 := 0) (by decide) (Nat.zero_le _) (Nat.zero_le _) (Nat.le_of_ble_eq_true rfl) dX4_value_64 (CtX.mono (F ⟨by decide, by decide⟩ ⟨by decide, by decide⟩ Ry7) ?_ ?_)
      · rintro r55 h56 ⟨e57, F⟩
        have F := F e57
        have B59 := B19.tr e57
        have E60 := E20.tr e57
        refine v_aload_n C 2 rfl rfl dX4_value_67 ?_
        refine v_iload_n C 1 rfl rfl dX4_value_68 ?_
        refine tX4_270 C N (S_x0.ext E60.1).k (d2 := 1) (kc2 := 0) (ks2 := 0) (by decide) (Nat.zero_le _) (Nat.zero_le _) (Nat.le_of_ble_eq_true rfl) dX4_value_69 (CtX.mono (F Ry7) ?_ ?_)
        · rintro r61 h62 ⟨e63, F⟩
          have F := F e63
          have B65 := B59.tr e63
          have E66 := E60.tr e63
          refine v_aload_n C 2 rfl rfl dX4_value_72 ?_
          refine v_dup C (rf_n1 _) dX4_value_73 ?_
          refine gX4_42 C (S_x0.ext E66.1).k rfl dX4_value_74 ?_
          refine v_aload_n C 2 rfl rfl dX4_value_77 ?_
          refine gX4_19 C (S_x0.ext E66.1).k (S_x0.ext E66.1).f0 dX4_value_78 ?_
          refine v_iload_n C 0 rfl rfl dX4_value_81 ?_
          obtain ⟨o67, F⟩ := F
          obtain ⟨o68, F⟩ := F
          refine v_aald C 4 (by decide) (by decide) (SX.ext E66.1).k170 o67 (by rw [(SX.ext E66.1).l170]; exact o68) rfl dX4_value_82 ?_
          obtain ⟨i69, o70, o71, F⟩ := F
          refine v_top o71 ?_
          refine mX4_59 C i69 o70 (d2 := 1) (kc2 := 0) (ks2 := 0) (by decide) (Nat.zero_le _) (Nat.zero_le _) (Nat.le_of_ble_eq_true rfl) dX4_value_83 (Ct.mono (jLen i69 o70 _) ?_)
          intro _ _ z; rw [z.1, z.2]
          refine v_iadd C dX4_value_86 ?_
          obtain ⟨o72, F⟩ := F
          refine pX4_42 C (S_x0.ext E66.1).k (okI_i rfl o72) dX4_value_87 ?_
          obtain ⟨h73, eh73⟩ : ∃ m : Mem, m = up h62 x0 2 (h62 x0 2 + (sL i69 : Int)) := ⟨_, rfl⟩
          have B74 : EX h0 h73 := by rw [eh73]; exact EX_up B65 (S_x0.ext E66.1).k (by decide) rfl (by decide) (okI_i rfl o72)
          have E75 : EX h h73 := by rw [eh73]; exact EX_up E66 (S_x0.ext E66.1).k (by decide) rfl (by decide) (okI_i rfl o72)
          refine v_mem eh73 ?_
          have F := F h73 eh73
          obtain ⟨o76, o77, F⟩ := F
          refine nX4_293 C o76 o77 dX4_value_90 ?_
          obtain ⟨h78, eh78⟩ : ∃ m : Mem, m = alloc h73 9 0 := ⟨_, rfl⟩
          obtain ⟨a79, ea79⟩ : ∃ z : Int, z = h73 0 0 := ⟨_, rfl⟩
          have La79 : h0 0 0 ≤ a79 := by rw [ea79]; exact B74.1.1
          have Ma79 : h 0 0 ≤ a79 := by rw [ea79]; exact E75.1.1
          have Na79 : a79 ≠ 0 := by have z := B74.pos; rw [ea79]; omega
          have B80 : EX h0 h78 := by rw [eh78]; exact EX_alloc B74 (by decide) (by decide) (by decide) (by decide)
          have E81 : EX h h78 := by rw [eh78]; exact EX_alloc E75 (by decide) (by decide) (by decide) (by decide)
          refine v_mem eh78 ?_
          refine v_topi ea79.symm ?_
          have F := F h78 eh78 a79 ea79
          refine v_dup C (rf_n1 _) dX4_value_93 ?_
          refine v_iload_n C 0 rfl rfl dX4_value_94 ?_
          refine mX4_295 C Na79 (d2 := 2) (kc2 := 0) (ks2 := 0) (by decide) o76 o77 (Nat.le_of_ble_eq_true rfl) dX4_value_95 (Ct.mono (F g18) ?_)
          rintro r82 h83 ⟨e84, F⟩
          have F := F e84
          have B86 := e84.2 _ B80 La79
          have E87 := e84.2 _ E81 Ma79
          refine V.toX ?_
          exact v_aret C o76 o77 dX4_value_98 ⟨B86, F⟩
        · exact fun h9 F9 => ⟨B59.tr F9.1, F9.2⟩
      · exact fun h9 F9 => ⟨B19.tr F9.1, F9.2⟩
  · have F := F.2 (c14)
    refine v_aload_n C 1 rfl rfl dX4_value_18 ?_
    refine v_iconst C dX4_value_19 ?_
    refine v_ldcw C (x := 99999) q724 dX4_value_20 ?_
    refine tX4_110 C N (S_x0.ext E13.1).k (d2 := 1) (kc2 := 0) (ks2 := 0) (by decide) (Nat.zero_le _) (Nat.zero_le _) (Nat.le_of_ble_eq_true rfl) dX4_value_23 (CtX.mono (F ⟨by decide, by decide⟩ ⟨by decide, by decide⟩) ?_ ?_)
    · rintro r88 h89 ⟨e90, g91, F⟩
      have F := F e90
      have B92 := B12.tr e90
      have E93 := E13.tr e90
      refine v_istore_n C rfl (by decide) dX4_value_26 (lv2 := [(2, iv r88), (1, iv y7), (0, rf x0)]) rfl ?_
      refine v_aload_n C 2 rfl rfl dX4_value_27 ?_
      refine v_iload_n C 1 rfl rfl dX4_value_28 ?_
      refine tX4_270 C N (S_x0.ext E93.1).k (d2 := 1) (kc2 := 0) (ks2 := 0) (by decide) (Nat.zero_le _) (Nat.zero_le _) (Nat.le_of_ble_eq_true rfl) dX4_value_29 (CtX.mono (F Ry7) ?_ ?_)
      · rintro r94 h95 ⟨e96, F⟩
        have F := F e96
        have B98 := B92.tr e96
        have E99 := E93.tr e96
        obtain ⟨o100, o101, F⟩ := F
        refine nX4_288 C o100 o101 dX4_value_32 ?_
        obtain ⟨h102, eh102⟩ : ∃ m : Mem, m = alloc h95 8 0 := ⟨_, rfl⟩
        obtain ⟨a103, ea103⟩ : ∃ z : Int, z = h95 0 0 := ⟨_, rfl⟩
        have La103 : h0 0 0 ≤ a103 := by rw [ea103]; exact B98.1.1
        have Ma103 : h 0 0 ≤ a103 := by rw [ea103]; exact E99.1.1
        have Na103 : a103 ≠ 0 := by have z := B98.pos; rw [ea103]; omega
        have B104 : EX h0 h102 := by rw [eh102]; exact EX_alloc B98 (by decide) (by decide) (by decide) (by decide)
        have E105 : EX h h102 := by rw [eh102]; exact EX_alloc E99 (by decide) (by decide) (by decide) (by decide)
        refine v_mem eh102 ?_
        refine v_topi ea103.symm ?_
        have F := F h102 eh102 a103 ea103
        refine v_dup C (rf_n1 _) dX4_value_35 ?_
        refine v_iload_n C 0 rfl rfl dX4_value_36 ?_
        refine v_i2l C g91 dX4_value_37 ?_
        refine mX4_290 C Na103 (d2 := 2) (kc2 := 0) (ks2 := 0) (by decide) o100 o101 (Nat.le_of_ble_eq_true rfl) dX4_value_38 (Ct.mono (F (R32.l g91)) ?_)
        rintro r106 h107 ⟨e108, F⟩
        have F := F e108
        have B110 := e108.2 _ B104 La103
        have E111 := e108.2 _ E105 Ma103
        refine V.toX ?_
        exact v_aret C o100 o101 dX4_value_41 ⟨B110, F⟩
      · exact fun h9 F9 => ⟨B92.tr F9.1, F9.2⟩
    · exact fun h9 F9 => ⟨B12.tr F9.1, F9.2⟩
set_option maxHeartbeats 1000000 in
theorem eX4_value {G : GT} {l : Launch} {kc ks : Nat} {x0 : Int} {h : Mem} {P : Int → Mem → Prop} {PX : Mem → Prop} (F : ∀ X : MX, Cx G X cX4_value 3 RX4 6 kc ks (some (.object "LatestCoat$Value")) "value" → NoH X → X.2.1 = l → (EX h h) →
    TextS h x0 ∧ XS h ∧ kX4_see G X.2.1 x0 h (fun r1 h2 => EX h h2 → ∀ y7 : Int, y7 = h2 x0 2 → kX4_isDigit G X.2.1 x0 y7 h2 (fun r8 h9 => EX h2 h9 → ((r8 = 0 → kX4_oneOf G X.2.1 x0 170 h9 (fun r15 h16 => EX h9 h16 → ((r15 = (-1) → kX4_demand G X.2.1 x0 0 0 y7 h16 (fun _ h23 => EX h16 h23 → kX4_makes G X.2.1 x0 y7 h23 (fun _ h29 => EX h23 h29 → 0 ≤ r15 ∧ r15 < 13 ∧ ∃ i36 : Nat, i36 < 45 ∧ h29 170 r15 = sK i36 ∧ R32 (h29 x0 2 + (sL i36 : Int)) ∧ ∀ h40 : Mem, h40 = up h29 x0 2 (h29 x0 2 + (sL i36 : Int)) → 0 + 1 ≤ kc ∧ 0 + 1 ≤ ks ∧ ∀ h45 : Mem, h45 = alloc h40 9 0 → ∀ a46 : Int, a46 = h40 0 0 → kX9_init G X.2.1 a46 r15 h45 (fun _ h50 => BX a46 h45 h50 → P a46 h50)) PX) PX) ∧ (r15 ≠ (-1) → kX4_demand G X.2.1 x0 1 0 y7 h16 (fun _ h56 => EX h16 h56 → kX4_makes G X.2.1 x0 y7 h56 (fun _ h62 => EX h56 h62 → 0 ≤ r15 ∧ r15 < 13 ∧ ∃ i69 : Nat, i69 < 45 ∧ h62 170 r15 = sK i69 ∧ R32 (h62 x0 2 + (sL i69 : Int)) ∧ ∀ h73 : Mem, h73 = up h62 x0 2 (h62 x0 2 + (sL i69 : Int)) → 0 + 1 ≤ kc ∧ 0 + 1 ≤ ks ∧ ∀ h78 : Mem, h78 = alloc h73 9 0 → ∀ a79 : Int, a79 = h73 0 0 → kX9_init G X.2.1 a79 r15 h78 (fun _ h83 => BX a79 h78 h83 → P a79 h83)) PX) PX)))) ∧ (r8 ≠ 0 → kX4_number G X.2.1 x0 0 99999 h9 (fun r88 h89 => EX h9 h89 → kX4_makes G X.2.1 x0 y7 h89 (fun _ h95 => EX h89 h95 → 0 + 1 ≤ kc ∧ 0 + 1 ≤ ks ∧ ∀ h102 : Mem, h102 = alloc h95 8 0 → ∀ a103 : Int, a103 = h95 0 0 → kX8_init G X.2.1 a103 r88 h102 (fun _ h107 => BX a103 h102 h107 → P a103 h107)) PX) PX))))) :
    kX4_value G l kc ks x0 h P PX := by
  refine ct_ofX (by decide +kernel) (Nat.le_of_ble_eq_true rfl) fun X C N e => ?_
  refine v_okz fun O => ?_
  exact wX4_value_0 (uc := 0) (us := 0) C N (EX.rf O) (F X C N e (EX.rf O))
set_option maxHeartbeats 4000000 in
theorem wX4_term_0 {G : GT} {X : MX} {h0 h : Mem} {P : Int → Mem → Prop} {PX : Mem → Prop} {kc ks uc us : Nat} {x0 : Int} (C : Cx G X cX4_term 3 RX4 7 kc ks (some (.object "LatestCoat$Value")) "term") (N : NoH X) (B0 : EX h0 h)
    (F : TextS h x0 ∧ ∃ c1 s2 : Nat, 0 + c1 ≤ kc ∧ 0 + s2 ≤ ks ∧ kX4_value G X.2.1 c1 s2 x0 h (fun r5 h6 => EX h h6 → (EX h0 h6 ∧ 0 + c1 ≤ kc ∧ 0 + s2 ≤ ks → V G X 3 (0 + c1) (0 + s2) (QX G X 2 kc ks (PR h0 P) (PE h0 PX)) 5 [(0, rf x0), (1, rf r5)] [] h6)) PX) :
    V G X 3 0 0 (QX G X 2 kc ks (PR h0 P) (PE h0 PX)) 0 [(0, rf x0)] [] h := by
  have B := B0
  have E : EX h h := EX.rf B.2
  obtain ⟨S_x0, F⟩ := F
  refine v_aload_n C 0 rfl rfl dX4_term_0 ?_
  obtain ⟨c1, s2, o3, o4, F⟩ := F
  refine tX4_284 C N (S_x0.ext E.1).k (d2 := 6) (kc2 := c1) (ks2 := s2) (by decide) o3 o4 (Nat.le_of_ble_eq_true rfl) dX4_term_1 (CtX.mono (F) ?_ ?_)
  · rintro r5 h6 ⟨e7, F⟩
    have F := F e7
    have B9 := B.tr e7
    have E10 := E.tr e7
    refine v_astore_n C rfl (by decide) dX4_term_4 (lv2 := [(1, rf r5), (0, rf x0)]) rfl ?_
    refine v_sub (lv2 := [(0, rf x0), (1, rf r5)]) [1, 0] rfl ?_
    exact F ⟨B9, o3, o4⟩
  · exact fun h9 F9 => ⟨B.tr F9.1, F9.2⟩
set_option maxHeartbeats 4000000 in
theorem wX4_term_L5 {G : GT} {X : MX} {h0 h : Mem} {P : Int → Mem → Prop} {PX : Mem → Prop} {kc ks uc us : Nat} {x0 x1 : Int} (C : Cx G X cX4_term 3 RX4 7 kc ks (some (.object "LatestCoat$Value")) "term") (N : NoH X) (B0 : EX h0 h ∧ uc ≤ kc ∧ us ≤ ks)
    (F : TextS h x0 ∧ XS h ∧ kX4_see G X.2.1 x0 h (fun r1 h2 => EX h h2 → ((r1 = 42 → 0 ≤ h2 x0 2 ∧ h2 x0 2 < 400 ∧ ∀ y10 : Int, y10 = h2 167 (h2 x0 2) → R32 (h2 x0 2 + 1) ∧ ∀ h12 : Mem, h12 = up h2 x0 2 (h2 x0 2 + 1) → uc + 1 ≤ kc ∧ us + 3 ≤ ks ∧ ∀ h17 : Mem, h17 = alloc h12 10 0 → ∀ a18 : Int, a18 = h12 0 0 → ∃ c21 s22 : Nat, uc + 1 + c21 ≤ kc ∧ us + 3 + s22 ≤ ks ∧ kX4_value G X.2.1 c21 s22 x0 h17 (fun r25 h26 => EX h17 h26 → kX10_init G X.2.1 a18 x1 y10 r25 h26 (fun _ h32 => BX a18 h26 h32 → (EX h0 h32 ∧ uc + 1 + c21 ≤ kc ∧ us + 3 + s22 ≤ ks → V G X 3 (uc + 1 + c21) (us + 3 + s22) (QX G X 2 kc ks (PR h0 P) (PE h0 PX)) 5 [(0, rf x0), (1, rf a18)] [] h32))) PX) ∧ (r1 ≠ 42 → kX4_see G X.2.1 x0 h2 (fun r37 h38 => EX h2 h38 → ((r37 = 47 → 0 ≤ h38 x0 2 ∧ h38 x0 2 < 400 ∧ ∀ y46 : Int, y46 = h38 167 (h38 x0 2) → R32 (h38 x0 2 + 1) ∧ ∀ h48 : Mem, h48 = up h38 x0 2 (h38 x0 2 + 1) → uc + 1 ≤ kc ∧ us + 3 ≤ ks ∧ ∀ h53 : Mem, h53 = alloc h48 10 0 → ∀ a54 : Int, a54 = h48 0 0 → ∃ c57 s58 : Nat, uc + 1 + c57 ≤ kc ∧ us + 3 + s58 ≤ ks ∧ kX4_value G X.2.1 c57 s58 x0 h53 (fun r61 h62 => EX h53 h62 → kX10_init G X.2.1 a54 x1 y46 r61 h62 (fun _ h68 => BX a54 h62 h68 → (EX h0 h68 ∧ uc + 1 + c57 ≤ kc ∧ us + 3 + s58 ≤ ks → V G X 3 (uc + 1 + c57) (us + 3 + s58) (QX G X 2 kc ks (PR h0 P) (PE h0 PX)) 5 [(0, rf x0), (1, rf a54)] [] h68))) PX) ∧ (r37 ≠ 47 → kX4_see G X.2.1 x0 h38 (fun r73 h74 => EX h38 h74 → ((r73 ≠ 37 → P x1 h74) ∧ (r73 = 37 → 0 ≤ h74 x0 2 ∧ h74 x0 2 < 400 ∧ ∀ y82 : Int, y82 = h74 167 (h74 x0 2) → R32 (h74 x0 2 + 1) ∧ ∀ h84 : Mem, h84 = up h74 x0 2 (h74 x0 2 + 1) → uc + 1 ≤ kc ∧ us + 3 ≤ ks ∧ ∀ h89 : Mem, h89 = alloc h84 10 0 → ∀ a90 : Int, a90 = h84 0 0 → ∃ c93 s94 : Nat, uc + 1 + c93 ≤ kc ∧ us + 3 + s94 ≤ ks ∧ kX4_value G X.2.1 c93 s94 x0 h89 (fun r97 h98 => EX h89 h98 → kX10_init G X.2.1 a90 x1 y82 r97 h98 (fun _ h104 => BX a90 h98 h104 → (EX h0 h104 ∧ uc + 1 + c93 ≤ kc ∧ us + 3 + s94 ≤ ks → V G X 3 (uc + 1 + c93) (us + 3 + s94) (QX G X 2 kc ks (PR h0 P) (PE h0 PX)) 5 [(0, rf x0), (1, rf a90)] [] h104))) PX)))))))))) :
    V G X 3 uc us (QX G X 2 kc ks (PR h0 P) (PE h0 PX)) 5 [(0, rf x0), (1, rf x1)] [] h := by
  obtain ⟨B, U1, U2⟩ := B0
  have E : EX h h := EX.rf B.2
  obtain ⟨S_x0, F⟩ := F
  obtain ⟨SX, F⟩ := F
  refine v_aload_n C 0 rfl rfl dX4_term_5 ?_
  refine mX4_52 C (S_x0.ext E.1).k (d2 := 0) (kc2 := 0) (ks2 := 0) (by decide) U1 U2 (Nat.le_of_ble_eq_true rfl) dX4_term_6 (Ct.mono (F) ?_)
  rintro r1 h2 ⟨e3, g4, F⟩
  have F := F e3
  have B5 := B.tr e3
  have E6 := E.tr e3
  refine v_bipush C rfl dX4_term_9 ?_
  refine v_icmp_eq C 32 g4 ⟨by decide, by decide⟩ dX4_term_11 (by decide) (fun c7 => ?_) (fun c7 => ?_)
  · have F := F.1 (c7)
    refine v_aload_n C 0 rfl rfl dX4_term_32 ?_
    refine gX4_3 C (S_x0.ext E6.1).k (S_x0.ext E6.1).f6 dX4_term_33 ?_
    refine gX4_48 C (SX.ext E6.1).k1 (SX.ext E6.1).f10 dX4_term_36 ?_
    refine v_aload_n C 0 rfl rfl dX4_term_39 ?_
    refine gX4_42 C (S_x0.ext E6.1).k rfl dX4_term_40 ?_
    obtain ⟨o8, F⟩ := F
    obtain ⟨o9, F⟩ := F
    refine v_bald C (SX.ext E6.1).k167 o8 (by rw [(SX.ext E6.1).l167]; exact o9) rfl dX4_term_43 ?_
    obtain ⟨y10, ey10⟩ : ∃ z : Int, z = h2 167 (h2 x0 2) := ⟨_, rfl⟩
    have F := F y10 ey10
    have Ry10 : R32 y10 := by rw [ey10]; exact (EX.rI B5 (j := h2 x0 2) (SX.ext E6.1).k167 rfl)
    refine v_istore_n C rfl (by decide) dX4_term_44 (lv2 := [(2, iv y10), (0, rf x0), (1, rf x1)]) (by rw [ey10]; rfl) ?_
    refine v_aload_n C 1 rfl rfl dX4_term_45 ?_
    refine v_dup C (rf_n1 _) dX4_term_46 ?_
    refine gX4_42 C (S_x0.ext E6.1).k rfl dX4_term_47 ?_
    refine v_iconst C dX4_term_50 ?_
    refine v_iadd C dX4_term_51 ?_
    obtain ⟨o11, F⟩ := F
    refine pX4_42 C (S_x0.ext E6.1).k (okI_i rfl o11) dX4_term_52 ?_
    obtain ⟨h12, eh12⟩ : ∃ m : Mem, m = up h2 x0 2 (h2 x0 2 + 1) := ⟨_, rfl⟩
    have B13 : EX h0 h12 := by rw [eh12]; exact EX_up B5 (S_x0.ext E6.1).k (by decide) rfl (by decide) (okI_i rfl o11)
    have E14 : EX h h12 := by rw [eh12]; exact EX_up E6 (S_x0.ext E6.1).k (by decide) rfl (by decide) (okI_i rfl o11)
    refine v_mem eh12 ?_
    have F := F h12 eh12
    obtain ⟨o15, o16, F⟩ := F
    refine nX4_281 C o15 o16 dX4_term_55 ?_
    obtain ⟨h17, eh17⟩ : ∃ m : Mem, m = alloc h12 10 0 := ⟨_, rfl⟩
    obtain ⟨a18, ea18⟩ : ∃ z : Int, z = h12 0 0 := ⟨_, rfl⟩
    have La18 : h0 0 0 ≤ a18 := by rw [ea18]; exact B13.1.1
    have Ma18 : h 0 0 ≤ a18 := by rw [ea18]; exact E14.1.1
    have Na18 : a18 ≠ 0 := by have z := B13.pos; rw [ea18]; omega
    have B19 : EX h0 h17 := by rw [eh17]; exact EX_alloc B13 (by decide) (by decide) (by decide) (by decide)
    have E20 : EX h h17 := by rw [eh17]; exact EX_alloc E14 (by decide) (by decide) (by decide) (by decide)
    refine v_mem eh17 ?_
    refine v_topi ea18.symm ?_
    have F := F h17 eh17 a18 ea18
    refine v_dup C (rf_n1 _) dX4_term_58 ?_
    refine v_aload_n C 2 rfl rfl dX4_term_59 ?_
    refine v_iload_n C 0 rfl rfl dX4_term_60 ?_
    refine v_aload_n C 1 rfl rfl dX4_term_61 ?_
    obtain ⟨c21, s22, o23, o24, F⟩ := F
    refine tX4_284 C N (S_x0.ext E20.1).k (d2 := 6) (kc2 := c21) (ks2 := s22) (by decide) o23 o24 (Nat.le_of_ble_eq_true rfl) dX4_term_62 (CtX.mono (F) ?_ ?_)
    · rintro r25 h26 ⟨e27, F⟩
      have F := F e27
      have B29 := B19.tr e27
      have E30 := E20.tr e27
      refine mX4_283 C Na18 (d2 := 2) (kc2 := 0) (ks2 := 0) (by decide) o23 o24 (Nat.le_of_ble_eq_true rfl) dX4_term_65 (Ct.mono (F Ry10) ?_)
      rintro r31 h32 ⟨e33, F⟩
      have F := F e33
      have B35 := e33.2 _ B29 La18
      have E36 := e33.2 _ E30 Ma18
      refine v_astore_n C rfl (by decide) dX4_term_68 (lv2 := [(1, rf a18), (2, iv y10), (0, rf x0)]) rfl ?_
      refine v_goto C 5 dX4_term_69 (by decide) ?_
      refine v_sub (lv2 := [(0, rf x0), (1, rf a18)]) [2, 0] rfl ?_
      exact F ⟨B35, o23, o24⟩
    · exact fun h9 F9 => ⟨B19.tr F9.1, F9.2⟩
  · have F := F.2 (c7)
    refine v_aload_n C 0 rfl rfl dX4_term_14 ?_
    refine mX4_52 C (S_x0.ext E6.1).k (d2 := 0) (kc2 := 0) (ks2 := 0) (by decide) U1 U2 (Nat.le_of_ble_eq_true rfl) dX4_term_15 (Ct.mono (F) ?_)
    rintro r37 h38 ⟨e39, g40, F⟩
    have F := F e39
    have B41 := B5.tr e39
    have E42 := E6.tr e39
    refine v_bipush C rfl dX4_term_18 ?_
    refine v_icmp_eq C 32 g40 ⟨by decide, by decide⟩ dX4_term_20 (by decide) (fun c43 => ?_) (fun c43 => ?_)
    · have F := F.1 (c43)
      refine v_aload_n C 0 rfl rfl dX4_term_32 ?_
      refine gX4_3 C (S_x0.ext E42.1).k (S_x0.ext E42.1).f6 dX4_term_33 ?_
      refine gX4_48 C (SX.ext E42.1).k1 (SX.ext E42.1).f10 dX4_term_36 ?_
      refine v_aload_n C 0 rfl rfl dX4_term_39 ?_
      refine gX4_42 C (S_x0.ext E42.1).k rfl dX4_term_40 ?_
      obtain ⟨o44, F⟩ := F
      obtain ⟨o45, F⟩ := F
      refine v_bald C (SX.ext E42.1).k167 o44 (by rw [(SX.ext E42.1).l167]; exact o45) rfl dX4_term_43 ?_
      obtain ⟨y46, ey46⟩ : ∃ z : Int, z = h38 167 (h38 x0 2) := ⟨_, rfl⟩
      have F := F y46 ey46
      have Ry46 : R32 y46 := by rw [ey46]; exact (EX.rI B41 (j := h38 x0 2) (SX.ext E42.1).k167 rfl)
      refine v_istore_n C rfl (by decide) dX4_term_44 (lv2 := [(2, iv y46), (0, rf x0), (1, rf x1)]) (by rw [ey46]; rfl) ?_
      refine v_aload_n C 1 rfl rfl dX4_term_45 ?_
      refine v_dup C (rf_n1 _) dX4_term_46 ?_
      refine gX4_42 C (S_x0.ext E42.1).k rfl dX4_term_47 ?_
      refine v_iconst C dX4_term_50 ?_
      refine v_iadd C dX4_term_51 ?_
      obtain ⟨o47, F⟩ := F
      refine pX4_42 C (S_x0.ext E42.1).k (okI_i rfl o47) dX4_term_52 ?_
      obtain ⟨h48, eh48⟩ : ∃ m : Mem, m = up h38 x0 2 (h38 x0 2 + 1) := ⟨_, rfl⟩
      have B49 : EX h0 h48 := by rw [eh48]; exact EX_up B41 (S_x0.ext E42.1).k (by decide) rfl (by decide) (okI_i rfl o47)
      have E50 : EX h h48 := by rw [eh48]; exact EX_up E42 (S_x0.ext E42.1).k (by decide) rfl (by decide) (okI_i rfl o47)
      refine v_mem eh48 ?_
      have F := F h48 eh48
      obtain ⟨o51, o52, F⟩ := F
      refine nX4_281 C o51 o52 dX4_term_55 ?_
      obtain ⟨h53, eh53⟩ : ∃ m : Mem, m = alloc h48 10 0 := ⟨_, rfl⟩
      obtain ⟨a54, ea54⟩ : ∃ z : Int, z = h48 0 0 := ⟨_, rfl⟩
      have La54 : h0 0 0 ≤ a54 := by rw [ea54]; exact B49.1.1
      have Ma54 : h 0 0 ≤ a54 := by rw [ea54]; exact E50.1.1
      have Na54 : a54 ≠ 0 := by have z := B49.pos; rw [ea54]; omega
      have B55 : EX h0 h53 := by rw [eh53]; exact EX_alloc B49 (by decide) (by decide) (by decide) (by decide)
      have E56 : EX h h53 := by rw [eh53]; exact EX_alloc E50 (by decide) (by decide) (by decide) (by decide)
      refine v_mem eh53 ?_
      refine v_topi ea54.symm ?_
      have F := F h53 eh53 a54 ea54
      refine v_dup C (rf_n1 _) dX4_term_58 ?_
      refine v_aload_n C 2 rfl rfl dX4_term_59 ?_
      refine v_iload_n C 0 rfl rfl dX4_term_60 ?_
      refine v_aload_n C 1 rfl rfl dX4_term_61 ?_
      obtain ⟨c57, s58, o59, o60, F⟩ := F
      refine tX4_284 C N (S_x0.ext E56.1).k (d2 := 6) (kc2 := c57) (ks2 := s58) (by decide) o59 o60 (Nat.le_of_ble_eq_true rfl) dX4_term_62 (CtX.mono (F) ?_ ?_)
      · rintro r61 h62 ⟨e63, F⟩
        have F := F e63
        have B65 := B55.tr e63
        have E66 := E56.tr e63
        refine mX4_283 C Na54 (d2 := 2) (kc2 := 0) (ks2 := 0) (by decide) o59 o60 (Nat.le_of_ble_eq_true rfl) dX4_term_65 (Ct.mono (F Ry46) ?_)
        rintro r67 h68 ⟨e69, F⟩
        have F := F e69
        have B71 := e69.2 _ B65 La54
        have E72 := e69.2 _ E66 Ma54
        refine v_astore_n C rfl (by decide) dX4_term_68 (lv2 := [(1, rf a54), (2, iv y46), (0, rf x0)]) rfl ?_
        refine v_goto C 5 dX4_term_69 (by decide) ?_
        refine v_sub (lv2 := [(0, rf x0), (1, rf a54)]) [2, 0] rfl ?_
        exact F ⟨B71, o59, o60⟩
      · exact fun h9 F9 => ⟨B55.tr F9.1, F9.2⟩
    · have F := F.2 (c43)
      refine v_aload_n C 0 rfl rfl dX4_term_23 ?_
      refine mX4_52 C (S_x0.ext E42.1).k (d2 := 0) (kc2 := 0) (ks2 := 0) (by decide) U1 U2 (Nat.le_of_ble_eq_true rfl) dX4_term_24 (Ct.mono (F) ?_)
      rintro r73 h74 ⟨e75, g76, F⟩
      have F := F e75
      have B77 := B41.tr e75
      have E78 := E42.tr e75
      refine v_bipush C rfl dX4_term_27 ?_
      refine v_icmp_ne C 72 g76 ⟨by decide, by decide⟩ dX4_term_29 (by decide) (fun c79 => ?_) (fun c79 => ?_)
      · have F := F.1 (c79)
        refine v_aload_n C 1 rfl rfl dX4_term_72 ?_
        refine V.toX ?_
        exact v_aret C U1 U2 dX4_term_73 ⟨B77, F⟩
      · have F := F.2 (c79)
        refine v_aload_n C 0 rfl rfl dX4_term_32 ?_
        refine gX4_3 C (S_x0.ext E78.1).k (S_x0.ext E78.1).f6 dX4_term_33 ?_
        refine gX4_48 C (SX.ext E78.1).k1 (SX.ext E78.1).f10 dX4_term_36 ?_
        refine v_aload_n C 0 rfl rfl dX4_term_39 ?_
        refine gX4_42 C (S_x0.ext E78.1).k rfl dX4_term_40 ?_
        obtain ⟨o80, F⟩ := F
        obtain ⟨o81, F⟩ := F
        refine v_bald C (SX.ext E78.1).k167 o80 (by rw [(SX.ext E78.1).l167]; exact o81) rfl dX4_term_43 ?_
        obtain ⟨y82, ey82⟩ : ∃ z : Int, z = h74 167 (h74 x0 2) := ⟨_, rfl⟩
        have F := F y82 ey82
        have Ry82 : R32 y82 := by rw [ey82]; exact (EX.rI B77 (j := h74 x0 2) (SX.ext E78.1).k167 rfl)
        refine v_istore_n C rfl (by decide) dX4_term_44 (lv2 := [(2, iv y82), (0, rf x0), (1, rf x1)]) (by rw [ey82]; rfl) ?_
        refine v_aload_n C 1 rfl rfl dX4_term_45 ?_
        refine v_dup C (rf_n1 _) dX4_term_46 ?_
        refine gX4_42 C (S_x0.ext E78.1).k rfl dX4_term_47 ?_
        refine v_iconst C dX4_term_50 ?_
        refine v_iadd C dX4_term_51 ?_
        obtain ⟨o83, F⟩ := F
        refine pX4_42 C (S_x0.ext E78.1).k (okI_i rfl o83) dX4_term_52 ?_
        obtain ⟨h84, eh84⟩ : ∃ m : Mem, m = up h74 x0 2 (h74 x0 2 + 1) := ⟨_, rfl⟩
        have B85 : EX h0 h84 := by rw [eh84]; exact EX_up B77 (S_x0.ext E78.1).k (by decide) rfl (by decide) (okI_i rfl o83)
        have E86 : EX h h84 := by rw [eh84]; exact EX_up E78 (S_x0.ext E78.1).k (by decide) rfl (by decide) (okI_i rfl o83)
        refine v_mem eh84 ?_
        have F := F h84 eh84
        obtain ⟨o87, o88, F⟩ := F
        refine nX4_281 C o87 o88 dX4_term_55 ?_
        obtain ⟨h89, eh89⟩ : ∃ m : Mem, m = alloc h84 10 0 := ⟨_, rfl⟩
        obtain ⟨a90, ea90⟩ : ∃ z : Int, z = h84 0 0 := ⟨_, rfl⟩
        have La90 : h0 0 0 ≤ a90 := by rw [ea90]; exact B85.1.1
        have Ma90 : h 0 0 ≤ a90 := by rw [ea90]; exact E86.1.1
        have Na90 : a90 ≠ 0 := by have z := B85.pos; rw [ea90]; omega
        have B91 : EX h0 h89 := by rw [eh89]; exact EX_alloc B85 (by decide) (by decide) (by decide) (by decide)
        have E92 : EX h h89 := by rw [eh89]; exact EX_alloc E86 (by decide) (by decide) (by decide) (by decide)
        refine v_mem eh89 ?_
        refine v_topi ea90.symm ?_
        have F := F h89 eh89 a90 ea90
        refine v_dup C (rf_n1 _) dX4_term_58 ?_
        refine v_aload_n C 2 rfl rfl dX4_term_59 ?_
        refine v_iload_n C 0 rfl rfl dX4_term_60 ?_
        refine v_aload_n C 1 rfl rfl dX4_term_61 ?_
        obtain ⟨c93, s94, o95, o96, F⟩ := F
        refine tX4_284 C N (S_x0.ext E92.1).k (d2 := 6) (kc2 := c93) (ks2 := s94) (by decide) o95 o96 (Nat.le_of_ble_eq_true rfl) dX4_term_62 (CtX.mono (F) ?_ ?_)
        · rintro r97 h98 ⟨e99, F⟩
          have F := F e99
          have B101 := B91.tr e99
          have E102 := E92.tr e99
          refine mX4_283 C Na90 (d2 := 2) (kc2 := 0) (ks2 := 0) (by decide) o95 o96 (Nat.le_of_ble_eq_true rfl) dX4_term_65 (Ct.mono (F Ry82) ?_)
          rintro r103 h104 ⟨e105, F⟩
          have F := F e105
          have B107 := e105.2 _ B101 La90
          have E108 := e105.2 _ E102 Ma90
          refine v_astore_n C rfl (by decide) dX4_term_68 (lv2 := [(1, rf a90), (2, iv y82), (0, rf x0)]) rfl ?_
          refine v_goto C 5 dX4_term_69 (by decide) ?_
          refine v_sub (lv2 := [(0, rf x0), (1, rf a90)]) [2, 0] rfl ?_
          exact F ⟨B107, o95, o96⟩
        · exact fun h9 F9 => ⟨B91.tr F9.1, F9.2⟩
set_option maxHeartbeats 1000000 in
theorem eX4_term {G : GT} {l : Launch} {kc ks : Nat} {x0 : Int} {h : Mem} {P : Int → Mem → Prop} {PX : Mem → Prop} (F : ∀ X : MX, Cx G X cX4_term 3 RX4 7 kc ks (some (.object "LatestCoat$Value")) "term" → NoH X → X.2.1 = l → (EX h h) →
    TextS h x0 ∧ ∃ c1 s2 : Nat, 0 + c1 ≤ kc ∧ 0 + s2 ≤ ks ∧ kX4_value G X.2.1 c1 s2 x0 h (fun r5 h6 => EX h h6 → (EX h h6 ∧ 0 + c1 ≤ kc ∧ 0 + s2 ≤ ks → V G X 3 (0 + c1) (0 + s2) (QX G X 2 kc ks (PR h P) (PE h PX)) 5 [(0, rf x0), (1, rf r5)] [] h6)) PX) :
    kX4_term G l kc ks x0 h P PX := by
  refine ct_ofX (by decide +kernel) (Nat.le_of_ble_eq_true rfl) fun X C N e => ?_
  refine v_okz fun O => ?_
  exact wX4_term_0 (uc := 0) (us := 0) C N (EX.rf O) (F X C N e (EX.rf O))
set_option maxHeartbeats 4000000 in
theorem wX4_sum_0 {G : GT} {X : MX} {h0 h : Mem} {P : Int → Mem → Prop} {PX : Mem → Prop} {kc ks uc us : Nat} {x0 : Int} (C : Cx G X cX4_sum 3 RX4 8 kc ks (some (.object "LatestCoat$Value")) "sum") (N : NoH X) (B0 : EX h0 h)
    (F : TextS h x0 ∧ ∃ c1 s2 : Nat, 0 + c1 ≤ kc ∧ 0 + s2 ≤ ks ∧ kX4_term G X.2.1 c1 s2 x0 h (fun r5 h6 => EX h h6 → (EX h0 h6 ∧ 0 + c1 ≤ kc ∧ 0 + s2 ≤ ks → V G X 3 (0 + c1) (0 + s2) (QX G X 2 kc ks (PR h0 P) (PE h0 PX)) 5 [(0, rf x0), (1, rf r5)] [] h6)) PX) :
    V G X 3 0 0 (QX G X 2 kc ks (PR h0 P) (PE h0 PX)) 0 [(0, rf x0)] [] h := by
  have B := B0
  have E : EX h h := EX.rf B.2
  obtain ⟨S_x0, F⟩ := F
  refine v_aload_n C 0 rfl rfl dX4_sum_0 ?_
  obtain ⟨c1, s2, o3, o4, F⟩ := F
  refine tX4_278 C N (S_x0.ext E.1).k (d2 := 7) (kc2 := c1) (ks2 := s2) (by decide) o3 o4 (Nat.le_of_ble_eq_true rfl) dX4_sum_1 (CtX.mono (F) ?_ ?_)
  · rintro r5 h6 ⟨e7, F⟩
    have F := F e7
    have B9 := B.tr e7
    have E10 := E.tr e7
    refine v_astore_n C rfl (by decide) dX4_sum_4 (lv2 := [(1, rf r5), (0, rf x0)]) rfl ?_
    refine v_sub (lv2 := [(0, rf x0), (1, rf r5)]) [1, 0] rfl ?_
    exact F ⟨B9, o3, o4⟩
  · exact fun h9 F9 => ⟨B.tr F9.1, F9.2⟩
set_option maxHeartbeats 4000000 in
theorem wX4_sum_L5 {G : GT} {X : MX} {h0 h : Mem} {P : Int → Mem → Prop} {PX : Mem → Prop} {kc ks uc us : Nat} {x0 x1 : Int} (C : Cx G X cX4_sum 3 RX4 8 kc ks (some (.object "LatestCoat$Value")) "sum") (N : NoH X) (B0 : EX h0 h ∧ uc ≤ kc ∧ us ≤ ks)
    (F : TextS h x0 ∧ XS h ∧ kX4_see G X.2.1 x0 h (fun r1 h2 => EX h h2 → ((r1 = 43 → 0 ≤ h2 x0 2 ∧ h2 x0 2 < 400 ∧ ∀ y10 : Int, y10 = h2 167 (h2 x0 2) → R32 (h2 x0 2 + 1) ∧ ∀ h12 : Mem, h12 = up h2 x0 2 (h2 x0 2 + 1) → uc + 1 ≤ kc ∧ us + 3 ≤ ks ∧ ∀ h17 : Mem, h17 = alloc h12 10 0 → ∀ a18 : Int, a18 = h12 0 0 → ∃ c21 s22 : Nat, uc + 1 + c21 ≤ kc ∧ us + 3 + s22 ≤ ks ∧ kX4_term G X.2.1 c21 s22 x0 h17 (fun r25 h26 => EX h17 h26 → kX10_init G X.2.1 a18 x1 y10 r25 h26 (fun _ h32 => BX a18 h26 h32 → (EX h0 h32 ∧ uc + 1 + c21 ≤ kc ∧ us + 3 + s22 ≤ ks → V G X 3 (uc + 1 + c21) (us + 3 + s22) (QX G X 2 kc ks (PR h0 P) (PE h0 PX)) 5 [(0, rf x0), (1, rf a18)] [] h32))) PX) ∧ (r1 ≠ 43 → kX4_see G X.2.1 x0 h2 (fun r37 h38 => EX h2 h38 → ((r37 ≠ 45 → P x1 h38) ∧ (r37 = 45 → 0 ≤ h38 x0 2 ∧ h38 x0 2 < 400 ∧ ∀ y46 : Int, y46 = h38 167 (h38 x0 2) → R32 (h38 x0 2 + 1) ∧ ∀ h48 : Mem, h48 = up h38 x0 2 (h38 x0 2 + 1) → uc + 1 ≤ kc ∧ us + 3 ≤ ks ∧ ∀ h53 : Mem, h53 = alloc h48 10 0 → ∀ a54 : Int, a54 = h48 0 0 → ∃ c57 s58 : Nat, uc + 1 + c57 ≤ kc ∧ us + 3 + s58 ≤ ks ∧ kX4_term G X.2.1 c57 s58 x0 h53 (fun r61 h62 => EX h53 h62 → kX10_init G X.2.1 a54 x1 y46 r61 h62 (fun _ h68 => BX a54 h62 h68 → (EX h0 h68 ∧ uc + 1 + c57 ≤ kc ∧ us + 3 + s58 ≤ ks → V G X 3 (uc + 1 + c57) (us + 3 + s58) (QX G X 2 kc ks (PR h0 P) (PE h0 PX)) 5 [(0, rf x0), (1, rf a54)] [] h68))) PX))))))) :
    V G X 3 uc us (QX G X 2 kc ks (PR h0 P) (PE h0 PX)) 5 [(0, rf x0), (1, rf x1)] [] h := by
  obtain ⟨B, U1, U2⟩ := B0
  have E : EX h h := EX.rf B.2
  obtain ⟨S_x0, F⟩ := F
  obtain ⟨SX, F⟩ := F
  refine v_aload_n C 0 rfl rfl dX4_sum_5 ?_
  refine mX4_52 C (S_x0.ext E.1).k (d2 := 0) (kc2 := 0) (ks2 := 0) (by decide) U1 U2 (Nat.le_of_ble_eq_true rfl) dX4_sum_6 (Ct.mono (F) ?_)
  rintro r1 h2 ⟨e3, g4, F⟩
  have F := F e3
  have B5 := B.tr e3
  have E6 := E.tr e3
  refine v_bipush C rfl dX4_sum_9 ?_
  refine v_icmp_eq C 23 g4 ⟨by decide, by decide⟩ dX4_sum_11 (by decide) (fun c7 => ?_) (fun c7 => ?_)
  · have F := F.1 (c7)
    refine v_aload_n C 0 rfl rfl dX4_sum_23 ?_
    refine gX4_3 C (S_x0.ext E6.1).k (S_x0.ext E6.1).f6 dX4_sum_24 ?_
    refine gX4_48 C (SX.ext E6.1).k1 (SX.ext E6.1).f10 dX4_sum_27 ?_
    refine v_aload_n C 0 rfl rfl dX4_sum_30 ?_
    refine gX4_42 C (S_x0.ext E6.1).k rfl dX4_sum_31 ?_
    obtain ⟨o8, F⟩ := F
    obtain ⟨o9, F⟩ := F
    refine v_bald C (SX.ext E6.1).k167 o8 (by rw [(SX.ext E6.1).l167]; exact o9) rfl dX4_sum_34 ?_
    obtain ⟨y10, ey10⟩ : ∃ z : Int, z = h2 167 (h2 x0 2) := ⟨_, rfl⟩
    have F := F y10 ey10
    have Ry10 : R32 y10 := by rw [ey10]; exact (EX.rI B5 (j := h2 x0 2) (SX.ext E6.1).k167 rfl)
    refine v_istore_n C rfl (by decide) dX4_sum_35 (lv2 := [(2, iv y10), (0, rf x0), (1, rf x1)]) (by rw [ey10]; rfl) ?_
    refine v_aload_n C 1 rfl rfl dX4_sum_36 ?_
    refine v_dup C (rf_n1 _) dX4_sum_37 ?_
    refine gX4_42 C (S_x0.ext E6.1).k rfl dX4_sum_38 ?_
    refine v_iconst C dX4_sum_41 ?_
    refine v_iadd C dX4_sum_42 ?_
    obtain ⟨o11, F⟩ := F
    refine pX4_42 C (S_x0.ext E6.1).k (okI_i rfl o11) dX4_sum_43 ?_
    obtain ⟨h12, eh12⟩ : ∃ m : Mem, m = up h2 x0 2 (h2 x0 2 + 1) := ⟨_, rfl⟩
    have B13 : EX h0 h12 := by rw [eh12]; exact EX_up B5 (S_x0.ext E6.1).k (by decide) rfl (by decide) (okI_i rfl o11)
    have E14 : EX h h12 := by rw [eh12]; exact EX_up E6 (S_x0.ext E6.1).k (by decide) rfl (by decide) (okI_i rfl o11)
    refine v_mem eh12 ?_
    have F := F h12 eh12
    obtain ⟨o15, o16, F⟩ := F
    refine nX4_281 C o15 o16 dX4_sum_46 ?_
    obtain ⟨h17, eh17⟩ : ∃ m : Mem, m = alloc h12 10 0 := ⟨_, rfl⟩
    obtain ⟨a18, ea18⟩ : ∃ z : Int, z = h12 0 0 := ⟨_, rfl⟩
    have La18 : h0 0 0 ≤ a18 := by rw [ea18]; exact B13.1.1
    have Ma18 : h 0 0 ≤ a18 := by rw [ea18]; exact E14.1.1
    have Na18 : a18 ≠ 0 := by have z := B13.pos; rw [ea18]; omega
    have B19 : EX h0 h17 := by rw [eh17]; exact EX_alloc B13 (by decide) (by decide) (by decide) (by decide)
    have E20 : EX h h17 := by rw [eh17]; exact EX_alloc E14 (by decide) (by decide) (by decide) (by decide)
    refine v_mem eh17 ?_
    refine v_topi ea18.symm ?_
    have F := F h17 eh17 a18 ea18
    refine v_dup C (rf_n1 _) dX4_sum_49 ?_
    refine v_aload_n C 2 rfl rfl dX4_sum_50 ?_
    refine v_iload_n C 0 rfl rfl dX4_sum_51 ?_
    refine v_aload_n C 1 rfl rfl dX4_sum_52 ?_
    obtain ⟨c21, s22, o23, o24, F⟩ := F
    refine tX4_278 C N (S_x0.ext E20.1).k (d2 := 7) (kc2 := c21) (ks2 := s22) (by decide) o23 o24 (Nat.le_of_ble_eq_true rfl) dX4_sum_53 (CtX.mono (F) ?_ ?_)
    · rintro r25 h26 ⟨e27, F⟩
      have F := F e27
      have B29 := B19.tr e27
      have E30 := E20.tr e27
      refine mX4_283 C Na18 (d2 := 2) (kc2 := 0) (ks2 := 0) (by decide) o23 o24 (Nat.le_of_ble_eq_true rfl) dX4_sum_56 (Ct.mono (F Ry10) ?_)
      rintro r31 h32 ⟨e33, F⟩
      have F := F e33
      have B35 := e33.2 _ B29 La18
      have E36 := e33.2 _ E30 Ma18
      refine v_astore_n C rfl (by decide) dX4_sum_59 (lv2 := [(1, rf a18), (2, iv y10), (0, rf x0)]) rfl ?_
      refine v_goto C 5 dX4_sum_60 (by decide) ?_
      refine v_sub (lv2 := [(0, rf x0), (1, rf a18)]) [2, 0] rfl ?_
      exact F ⟨B35, o23, o24⟩
    · exact fun h9 F9 => ⟨B19.tr F9.1, F9.2⟩
  · have F := F.2 (c7)
    refine v_aload_n C 0 rfl rfl dX4_sum_14 ?_
    refine mX4_52 C (S_x0.ext E6.1).k (d2 := 0) (kc2 := 0) (ks2 := 0) (by decide) U1 U2 (Nat.le_of_ble_eq_true rfl) dX4_sum_15 (Ct.mono (F) ?_)
    rintro r37 h38 ⟨e39, g40, F⟩
    have F := F e39
    have B41 := B5.tr e39
    have E42 := E6.tr e39
    refine v_bipush C rfl dX4_sum_18 ?_
    refine v_icmp_ne C 63 g40 ⟨by decide, by decide⟩ dX4_sum_20 (by decide) (fun c43 => ?_) (fun c43 => ?_)
    · have F := F.1 (c43)
      refine v_aload_n C 1 rfl rfl dX4_sum_63 ?_
      refine V.toX ?_
      exact v_aret C U1 U2 dX4_sum_64 ⟨B41, F⟩
    · have F := F.2 (c43)
      refine v_aload_n C 0 rfl rfl dX4_sum_23 ?_
      refine gX4_3 C (S_x0.ext E42.1).k (S_x0.ext E42.1).f6 dX4_sum_24 ?_
      refine gX4_48 C (SX.ext E42.1).k1 (SX.ext E42.1).f10 dX4_sum_27 ?_
      refine v_aload_n C 0 rfl rfl dX4_sum_30 ?_
      refine gX4_42 C (S_x0.ext E42.1).k rfl dX4_sum_31 ?_
      obtain ⟨o44, F⟩ := F
      obtain ⟨o45, F⟩ := F
      refine v_bald C (SX.ext E42.1).k167 o44 (by rw [(SX.ext E42.1).l167]; exact o45) rfl dX4_sum_34 ?_
      obtain ⟨y46, ey46⟩ : ∃ z : Int, z = h38 167 (h38 x0 2) := ⟨_, rfl⟩
      have F := F y46 ey46
      have Ry46 : R32 y46 := by rw [ey46]; exact (EX.rI B41 (j := h38 x0 2) (SX.ext E42.1).k167 rfl)
      refine v_istore_n C rfl (by decide) dX4_sum_35 (lv2 := [(2, iv y46), (0, rf x0), (1, rf x1)]) (by rw [ey46]; rfl) ?_
      refine v_aload_n C 1 rfl rfl dX4_sum_36 ?_
      refine v_dup C (rf_n1 _) dX4_sum_37 ?_
      refine gX4_42 C (S_x0.ext E42.1).k rfl dX4_sum_38 ?_
      refine v_iconst C dX4_sum_41 ?_
      refine v_iadd C dX4_sum_42 ?_
      obtain ⟨o47, F⟩ := F
      refine pX4_42 C (S_x0.ext E42.1).k (okI_i rfl o47) dX4_sum_43 ?_
      obtain ⟨h48, eh48⟩ : ∃ m : Mem, m = up h38 x0 2 (h38 x0 2 + 1) := ⟨_, rfl⟩
      have B49 : EX h0 h48 := by rw [eh48]; exact EX_up B41 (S_x0.ext E42.1).k (by decide) rfl (by decide) (okI_i rfl o47)
      have E50 : EX h h48 := by rw [eh48]; exact EX_up E42 (S_x0.ext E42.1).k (by decide) rfl (by decide) (okI_i rfl o47)
      refine v_mem eh48 ?_
      have F := F h48 eh48
      obtain ⟨o51, o52, F⟩ := F
      refine nX4_281 C o51 o52 dX4_sum_46 ?_
      obtain ⟨h53, eh53⟩ : ∃ m : Mem, m = alloc h48 10 0 := ⟨_, rfl⟩
      obtain ⟨a54, ea54⟩ : ∃ z : Int, z = h48 0 0 := ⟨_, rfl⟩
      have La54 : h0 0 0 ≤ a54 := by rw [ea54]; exact B49.1.1
      have Ma54 : h 0 0 ≤ a54 := by rw [ea54]; exact E50.1.1
      have Na54 : a54 ≠ 0 := by have z := B49.pos; rw [ea54]; omega
      have B55 : EX h0 h53 := by rw [eh53]; exact EX_alloc B49 (by decide) (by decide) (by decide) (by decide)
      have E56 : EX h h53 := by rw [eh53]; exact EX_alloc E50 (by decide) (by decide) (by decide) (by decide)
      refine v_mem eh53 ?_
      refine v_topi ea54.symm ?_
      have F := F h53 eh53 a54 ea54
      refine v_dup C (rf_n1 _) dX4_sum_49 ?_
      refine v_aload_n C 2 rfl rfl dX4_sum_50 ?_
      refine v_iload_n C 0 rfl rfl dX4_sum_51 ?_
      refine v_aload_n C 1 rfl rfl dX4_sum_52 ?_
      obtain ⟨c57, s58, o59, o60, F⟩ := F
      refine tX4_278 C N (S_x0.ext E56.1).k (d2 := 7) (kc2 := c57) (ks2 := s58) (by decide) o59 o60 (Nat.le_of_ble_eq_true rfl) dX4_sum_53 (CtX.mono (F) ?_ ?_)
      · rintro r61 h62 ⟨e63, F⟩
        have F := F e63
        have B65 := B55.tr e63
        have E66 := E56.tr e63
        refine mX4_283 C Na54 (d2 := 2) (kc2 := 0) (ks2 := 0) (by decide) o59 o60 (Nat.le_of_ble_eq_true rfl) dX4_sum_56 (Ct.mono (F Ry46) ?_)
        rintro r67 h68 ⟨e69, F⟩
        have F := F e69
        have B71 := e69.2 _ B65 La54
        have E72 := e69.2 _ E66 Ma54
        refine v_astore_n C rfl (by decide) dX4_sum_59 (lv2 := [(1, rf a54), (2, iv y46), (0, rf x0)]) rfl ?_
        refine v_goto C 5 dX4_sum_60 (by decide) ?_
        refine v_sub (lv2 := [(0, rf x0), (1, rf a54)]) [2, 0] rfl ?_
        exact F ⟨B71, o59, o60⟩
      · exact fun h9 F9 => ⟨B55.tr F9.1, F9.2⟩
set_option maxHeartbeats 1000000 in
theorem eX4_sum {G : GT} {l : Launch} {kc ks : Nat} {x0 : Int} {h : Mem} {P : Int → Mem → Prop} {PX : Mem → Prop} (F : ∀ X : MX, Cx G X cX4_sum 3 RX4 8 kc ks (some (.object "LatestCoat$Value")) "sum" → NoH X → X.2.1 = l → (EX h h) →
    TextS h x0 ∧ ∃ c1 s2 : Nat, 0 + c1 ≤ kc ∧ 0 + s2 ≤ ks ∧ kX4_term G X.2.1 c1 s2 x0 h (fun r5 h6 => EX h h6 → (EX h h6 ∧ 0 + c1 ≤ kc ∧ 0 + s2 ≤ ks → V G X 3 (0 + c1) (0 + s2) (QX G X 2 kc ks (PR h P) (PE h PX)) 5 [(0, rf x0), (1, rf r5)] [] h6)) PX) :
    kX4_sum G l kc ks x0 h P PX := by
  refine ct_ofX (by decide +kernel) (Nat.le_of_ble_eq_true rfl) fun X C N e => ?_
  refine v_okz fun O => ?_
  exact wX4_sum_0 (uc := 0) (us := 0) C N (EX.rf O) (F X C N e (EX.rf O))
set_option maxHeartbeats 4000000 in
theorem wX4_fact_0 {G : GT} {X : MX} {h0 h : Mem} {P : Int → Mem → Prop} {PX : Mem → Prop} {d0 : Nat} {kc ks uc us : Nat} {x0 : Int} (C : Cx G X cX4_fact 6 RX4 (3 * (d0 + 1) + 9) kc ks (some (.object "LatestCoat$Test")) "fact") (N : NoH X) (B0 : EX h0 h)
    (F : TextS h x0 ∧ kX4_see G X.2.1 x0 h (fun r1 h2 => EX h h2 → ∀ y7 : Int, y7 = h2 x0 2 → kX4_isWord G X.2.1 x0 (-42) h2 (fun r8 h9 => EX h2 h9 → ((r8 = 0 → ((r1 ≠ 91 → ∃ c16 s17 : Nat, 0 + c16 ≤ kc ∧ 0 + s17 ≤ ks ∧ kX4_sum G X.2.1 c16 s17 x0 h9 (fun r20 h21 => EX h9 h21 → kX4_see G X.2.1 x0 h21 (fun r26 h27 => EX h21 h27 → ∀ y32 : Int, y32 = h27 x0 2 → kX4_sign G X.2.1 x0 h27 (fun r33 h34 => EX h27 h34 → kX4_makes G X.2.1 x0 y32 h34 (fun _ h40 => EX h34 h40 → 0 + c16 + 1 ≤ kc ∧ 0 + s17 + 3 ≤ ks ∧ ∀ h47 : Mem, h47 = alloc h40 12 0 → ∀ a48 : Int, a48 = h40 0 0 → ∃ c51 s52 : Nat, 0 + c16 + 1 + c51 ≤ kc ∧ 0 + s17 + 3 + s52 ≤ ks ∧ kX4_sum G X.2.1 c51 s52 x0 h47 (fun r55 h56 => EX h47 h56 → kX13_init G X.2.1 a48 r20 r33 r55 h56 (fun _ h62 => BX a48 h56 h62 → P a48 h62)) PX) PX) PX)) PX) ∧ (r1 = 91 → kX4_opens G X.2.1 x0 y7 h9 (fun _ h68 => EX h9 h68 → R32 (h68 x0 2 + 1) ∧ ∀ h74 : Mem, h74 = up h68 x0 2 (h68 x0 2 + 1) → ∃ c77 s78 : Nat, 0 + c77 ≤ kc ∧ 0 + s78 ≤ ks ∧ kX4_tested G X.2.1 d0 c77 s78 x0 h74 (fun r81 h82 => EX h74 h82 → kX4_takesSign G X.2.1 x0 93 h82 (fun r87 h88 => EX h82 h88 → kX4_demand G X.2.1 x0 r87 0 (h88 x0 2) h88 (fun _ h94 => EX h88 h94 → R32 (h94 x0 3 - 1) ∧ ∀ h100 : Mem, h100 = up h94 x0 3 (h94 x0 3 - 1) → P r81 h100) PX)) PX) PX))) ∧ (r8 ≠ 0 → kX4_opens G X.2.1 x0 y7 h9 (fun _ h104 => EX h9 h104 → R32 (h104 x0 2 + 3) ∧ ∀ h110 : Mem, h110 = up h104 x0 2 (h104 x0 2 + 3) → 0 + 1 ≤ kc ∧ 0 + 1 ≤ ks ∧ ∀ h115 : Mem, h115 = alloc h110 11 0 → ∀ a116 : Int, a116 = h110 0 0 → ∃ c119 s120 : Nat, 0 + 1 + c119 ≤ kc ∧ 0 + 1 + s120 ≤ ks ∧ kX4_fact G X.2.1 d0 c119 s120 x0 h115 (fun r123 h124 => EX h115 h124 → kX12_init G X.2.1 a116 r123 h124 (fun _ h130 => BX a116 h124 h130 → R32 (h130 x0 3 - 1) ∧ ∀ h136 : Mem, h136 = up h130 x0 3 (h130 x0 3 - 1) → P a116 h136)) PX) PX))))) :
    V G X 6 0 0 (QX G X 2 kc ks (PR h0 P) (PE h0 PX)) 0 [(0, rf x0)] [] h := by
  have B := B0
  have E : EX h h := EX.rf B.2
  obtain ⟨S_x0, F⟩ := F
  refine v_aload_n C 0 rfl rfl dX4_fact_0 ?_
  refine mX4_52 C (S_x0.ext E.1).k (d2 := 0) (kc2 := 0) (ks2 := 0) (by omega) (Nat.zero_le _) (Nat.zero_le _) (Nat.le_of_ble_eq_true rfl) dX4_fact_1 (Ct.mono (F) ?_)
  rintro r1 h2 ⟨e3, g4, F⟩
  have F := F e3
  have B5 := B.tr e3
  have E6 := E.tr e3
  refine v_istore_n C rfl (by decide) dX4_fact_4 (lv2 := [(1, iv r1), (0, rf x0)]) rfl ?_
  refine v_aload_n C 1 rfl rfl dX4_fact_5 ?_
  refine gX4_42 C (S_x0.ext E6.1).k rfl dX4_fact_6 ?_
  obtain ⟨y7, ey7⟩ : ∃ z : Int, z = h2 x0 2 := ⟨_, rfl⟩
  have F := F y7 ey7
  have Ry7 : R32 y7 := by rw [ey7]; exact (EX.rI B5 (j := 2) (S_x0.ext E6.1).k rfl)
  refine v_istore_n C rfl (by decide) dX4_fact_9 (lv2 := [(2, iv y7), (1, iv r1), (0, rf x0)]) (by rw [ey7]; rfl) ?_
  refine v_aload_n C 2 rfl rfl dX4_fact_10 ?_
  refine v_ldcSw C 20 (by decide) rfl dX4_fact_11 ?_
  refine mX4_68 C (S_x0.ext E6.1).k (d2 := 4) (kc2 := 0) (ks2 := 0) (by omega) (Nat.zero_le _) (Nat.zero_le _) (Nat.le_of_ble_eq_true rfl) dX4_fact_14 (Ct.mono (F) ?_)
  rintro r8 h9 ⟨e10, g11, F⟩
  have F := F e10
  have B12 := B5.tr e10
  have E13 := E6.tr e10
  refine v_if_eq C 59 (bR g11) dX4_fact_17 (by decide) (fun c14 => ?_) (fun c14 => ?_)
  · have F := F.1 (c14)
    refine v_iload_n C 1 rfl rfl dX4_fact_59 ?_
    refine v_bipush C rfl dX4_fact_60 ?_
    refine v_icmp_ne C 112 g4 ⟨by decide, by decide⟩ dX4_fact_62 (by decide) (fun c15 => ?_) (fun c15 => ?_)
    · have F := F.1 (c15)
      refine v_aload_n C 2 rfl rfl dX4_fact_112 ?_
      obtain ⟨c16, s17, o18, o19, F⟩ := F
      refine tX4_207 C N (S_x0.ext E13.1).k (d2 := 8) (kc2 := c16) (ks2 := s17) (by omega) o18 o19 (Nat.le_of_ble_eq_true rfl) dX4_fact_113 (CtX.mono (F) ?_ ?_)
      · rintro r20 h21 ⟨e22, F⟩
        have F := F e22
        have B24 := B12.tr e22
        have E25 := E13.tr e22
        refine v_astore_n C rfl (by decide) dX4_fact_116 (lv2 := [(3, rf r20), (2, iv y7), (1, iv r1), (0, rf x0)]) rfl ?_
        refine v_aload_n C 3 rfl rfl dX4_fact_117 ?_
        refine mX4_52 C (S_x0.ext E25.1).k (d2 := 0) (kc2 := 0) (ks2 := 0) (by omega) o18 o19 (Nat.le_of_ble_eq_true rfl) dX4_fact_118 (Ct.mono (F) ?_)
        rintro r26 h27 ⟨e28, g29, F⟩
        have F := F e28
        have B30 := B24.tr e28
        have E31 := E25.tr e28
        refine v_pop C (iv_n1 _) dX4_fact_121 ?_
        refine v_aload_n C 3 rfl rfl dX4_fact_122 ?_
        refine gX4_42 C (S_x0.ext E31.1).k rfl dX4_fact_123 ?_
        obtain ⟨y32, ey32⟩ : ∃ z : Int, z = h27 x0 2 := ⟨_, rfl⟩
        have F := F y32 ey32
        have Ry32 : R32 y32 := by rw [ey32]; exact (EX.rI B30 (j := 2) (S_x0.ext E31.1).k rfl)
        refine v_istore C (by decide) dX4_fact_126 (lv2 := [(4, iv y32), (3, rf r20), (2, iv y7), (1, iv r1), (0, rf x0)]) (by rw [ey32]; rfl) ?_
        refine v_aload_n C 4 rfl rfl dX4_fact_128 ?_
        refine tX4_267 C N (S_x0.ext E31.1).k (d2 := 1) (kc2 := 0) (ks2 := 0) (by omega) o18 o19 (Nat.le_of_ble_eq_true rfl) dX4_fact_129 (CtX.mono (F) ?_ ?_)
        · rintro r33 h34 ⟨e35, g36, F⟩
          have F := F e35
          have B37 := B30.tr e35
          have E38 := E31.tr e35
          refine v_istore C (by decide) dX4_fact_132 (lv2 := [(5, iv r33), (4, iv y32), (3, rf r20), (2, iv y7), (1, iv r1), (0, rf x0)]) rfl ?_
          refine v_aload_n C 5 rfl rfl dX4_fact_134 ?_
          refine v_iload C 1 rfl dX4_fact_135 ?_
          refine tX4_270 C N (S_x0.ext E38.1).k (d2 := 1) (kc2 := 0) (ks2 := 0) (by omega) o18 o19 (Nat.le_of_ble_eq_true rfl) dX4_fact_137 (CtX.mono (F Ry32) ?_ ?_)
          · rintro r39 h40 ⟨e41, F⟩
            have F := F e41
            have B43 := B37.tr e41
            have E44 := E38.tr e41
            obtain ⟨o45, o46, F⟩ := F
            refine nX4_273 C o45 o46 dX4_fact_140 ?_
            obtain ⟨h47, eh47⟩ : ∃ m : Mem, m = alloc h40 12 0 := ⟨_, rfl⟩
            obtain ⟨a48, ea48⟩ : ∃ z : Int, z = h40 0 0 := ⟨_, rfl⟩
            have La48 : h0 0 0 ≤ a48 := by rw [ea48]; exact B43.1.1
            have Ma48 : h 0 0 ≤ a48 := by rw [ea48]; exact E44.1.1
            have Na48 : a48 ≠ 0 := by have z := B43.pos; rw [ea48]; omega
            have B49 : EX h0 h47 := by rw [eh47]; exact EX_alloc B43 (by decide) (by decide) (by decide) (by decide)
            have E50 : EX h h47 := by rw [eh47]; exact EX_alloc E44 (by decide) (by decide) (by decide) (by decide)
            refine v_mem eh47 ?_
            refine v_topi ea48.symm ?_
            have F := F h47 eh47 a48 ea48
            refine v_dup C (rf_n1 _) dX4_fact_143 ?_
            refine v_aload_n C 2 rfl rfl dX4_fact_144 ?_
            refine v_iload C 0 rfl dX4_fact_145 ?_
            refine v_aload_n C 5 rfl rfl dX4_fact_147 ?_
            obtain ⟨c51, s52, o53, o54, F⟩ := F
            refine tX4_207 C N (S_x0.ext E50.1).k (d2 := 8) (kc2 := c51) (ks2 := s52) (by omega) o53 o54 (Nat.le_of_ble_eq_true rfl) dX4_fact_148 (CtX.mono (F) ?_ ?_)
            · rintro r55 h56 ⟨e57, F⟩
              have F := F e57
              have B59 := B49.tr e57
              have E60 := E50.tr e57
              refine mX4_275 C Na48 (d2 := 2) (kc2 := 0) (ks2 := 0) (by omega) o53 o54 (Nat.le_of_ble_eq_true rfl) dX4_fact_151 (Ct.mono (F g36) ?_)
              rintro r61 h62 ⟨e63, F⟩
              have F := F e63
              have B65 := e63.2 _ B59 La48
              have E66 := e63.2 _ E60 Ma48
              refine V.toX ?_
              exact v_aret C o53 o54 dX4_fact_154 ⟨B65, F⟩
            · exact fun h9 F9 => ⟨B49.tr F9.1, F9.2⟩
          · exact fun h9 F9 => ⟨B37.tr F9.1, F9.2⟩
        · exact fun h9 F9 => ⟨B30.tr F9.1, F9.2⟩
      · exact fun h9 F9 => ⟨B12.tr F9.1, F9.2⟩
    · have F := F.2 (c15)
      refine v_aload_n C 2 rfl rfl dX4_fact_65 ?_
      refine v_iload_n C 0 rfl rfl dX4_fact_66 ?_
      refine tX4_259 C N (S_x0.ext E13.1).k (d2 := 1) (kc2 := 0) (ks2 := 0) (by omega) (Nat.zero_le _) (Nat.zero_le _) (Nat.le_of_ble_eq_true rfl) dX4_fact_67 (CtX.mono (F Ry7) ?_ ?_)
      · rintro r67 h68 ⟨e69, F⟩
        have F := F e69
        have B71 := B12.tr e69
        have E72 := E13.tr e69
        refine v_aload_n C 2 rfl rfl dX4_fact_70 ?_
        refine v_dup C (rf_n1 _) dX4_fact_71 ?_
        refine gX4_42 C (S_x0.ext E72.1).k rfl dX4_fact_72 ?_
        refine v_iconst C dX4_fact_75 ?_
        refine v_iadd C dX4_fact_76 ?_
        obtain ⟨o73, F⟩ := F
        refine pX4_42 C (S_x0.ext E72.1).k (okI_i rfl o73) dX4_fact_77 ?_
        obtain ⟨h74, eh74⟩ : ∃ m : Mem, m = up h68 x0 2 (h68 x0 2 + 1) := ⟨_, rfl⟩
        have B75 : EX h0 h74 := by rw [eh74]; exact EX_up B71 (S_x0.ext E72.1).k (by decide) rfl (by decide) (okI_i rfl o73)
        have E76 : EX h h74 := by rw [eh74]; exact EX_up E72 (S_x0.ext E72.1).k (by decide) rfl (by decide) (okI_i rfl o73)
        refine v_mem eh74 ?_
        have F := F h74 eh74
        refine v_aload_n C 2 rfl rfl dX4_fact_80 ?_
        obtain ⟨c77, s78, o79, o80, F⟩ := F
        refine tX4_219 C N (S_x0.ext E76.1).k (d2 := (3 * d0 + 11)) (kc2 := c77) (ks2 := s78) (by omega) o79 o80 (Nat.le_of_ble_eq_true rfl) dX4_fact_81 (CtX.mono (F) ?_ ?_)
        · rintro r81 h82 ⟨e83, F⟩
          have F := F e83
          have B85 := B75.tr e83
          have E86 := E76.tr e83
          refine v_astore_n C rfl (by decide) dX4_fact_84 (lv2 := [(3, rf r81), (2, iv y7), (1, iv r1), (0, rf x0)]) rfl ?_
          refine v_aload_n C 3 rfl rfl dX4_fact_85 ?_
          refine v_aload_n C 3 rfl rfl dX4_fact_86 ?_
          refine v_bipush C rfl dX4_fact_87 ?_
          refine mX4_195 C (S_x0.ext E86.1).k (d2 := 1) (kc2 := 0) (ks2 := 0) (by omega) o79 o80 (Nat.le_of_ble_eq_true rfl) dX4_fact_89 (Ct.mono (F ⟨by decide, by decide⟩) ?_)
          rintro r87 h88 ⟨e89, g90, F⟩
          have F := F e89
          have B91 := B85.tr e89
          have E92 := E86.tr e89
          refine v_iconst C dX4_fact_92 ?_
          refine v_aload_n C 3 rfl rfl dX4_fact_93 ?_
          refine gX4_42 C (S_x0.ext E92.1).k rfl dX4_fact_94 ?_
          refine tX4_76 C N (S_x0.ext E92.1).k (d2 := 0) (kc2 := 0) (ks2 := 0) (by omega) o79 o80 (Nat.le_of_ble_eq_true rfl) dX4_fact_97 (CtX.mono (F (bR g90) ⟨by decide, by decide⟩ (EX.rI B91 (j := 2) (S_x0.ext E92.1).k rfl)) ?_ ?_)
          · rintro r93 h94 ⟨e95, F⟩
            have F := F e95
            have B97 := B91.tr e95
            have E98 := E92.tr e95
            refine v_aload_n C 3 rfl rfl dX4_fact_100 ?_
            refine v_dup C (rf_n1 _) dX4_fact_101 ?_
            refine gX4_87 C (S_x0.ext E98.1).k rfl dX4_fact_102 ?_
            refine v_iconst C dX4_fact_105 ?_
            refine v_isub C dX4_fact_106 ?_
            obtain ⟨o99, F⟩ := F
            refine pX4_87 C (S_x0.ext E98.1).k (okI_i rfl o99) dX4_fact_107 ?_
            obtain ⟨h100, eh100⟩ : ∃ m : Mem, m = up h94 x0 3 (h94 x0 3 - 1) := ⟨_, rfl⟩
            have B101 : EX h0 h100 := by rw [eh100]; exact EX_up B97 (S_x0.ext E98.1).k (by decide) rfl (by decide) (okI_i rfl o99)
            have E102 : EX h h100 := by rw [eh100]; exact EX_up E98 (S_x0.ext E98.1).k (by decide) rfl (by decide) (okI_i rfl o99)
            refine v_mem eh100 ?_
            have F := F h100 eh100
            refine v_aload_n C 0 rfl rfl dX4_fact_110 ?_
            refine V.toX ?_
            exact v_aret C o79 o80 dX4_fact_111 ⟨B101, F⟩
          · exact fun h9 F9 => ⟨B91.tr F9.1, F9.2⟩
        · exact fun h9 F9 => ⟨B75.tr F9.1, F9.2⟩
      · exact fun h9 F9 => ⟨B12.tr F9.1, F9.2⟩
  · have F := F.2 (c14)
    refine v_aload_n C 2 rfl rfl dX4_fact_20 ?_
    refine v_iload_n C 0 rfl rfl dX4_fact_21 ?_
    refine tX4_259 C N (S_x0.ext E13.1).k (d2 := 1) (kc2 := 0) (ks2 := 0) (by omega) (Nat.zero_le _) (Nat.zero_le _) (Nat.le_of_ble_eq_true rfl) dX4_fact_22 (CtX.mono (F Ry7) ?_ ?_)
    · rintro r103 h104 ⟨e105, F⟩
      have F := F e105
      have B107 := B12.tr e105
      have E108 := E13.tr e105
      refine v_aload_n C 2 rfl rfl dX4_fact_25 ?_
      refine v_dup C (rf_n1 _) dX4_fact_26 ?_
      refine gX4_42 C (S_x0.ext E108.1).k rfl dX4_fact_27 ?_
      refine v_iconst C dX4_fact_30 ?_
      refine v_iadd C dX4_fact_31 ?_
      obtain ⟨o109, F⟩ := F
      refine pX4_42 C (S_x0.ext E108.1).k (okI_i rfl o109) dX4_fact_32 ?_
      obtain ⟨h110, eh110⟩ : ∃ m : Mem, m = up h104 x0 2 (h104 x0 2 + 3) := ⟨_, rfl⟩
      have B111 : EX h0 h110 := by rw [eh110]; exact EX_up B107 (S_x0.ext E108.1).k (by decide) rfl (by decide) (okI_i rfl o109)
      have E112 : EX h h110 := by rw [eh110]; exact EX_up E108 (S_x0.ext E108.1).k (by decide) rfl (by decide) (okI_i rfl o109)
      refine v_mem eh110 ?_
      have F := F h110 eh110
      obtain ⟨o113, o114, F⟩ := F
      refine nX4_262 C o113 o114 dX4_fact_35 ?_
      obtain ⟨h115, eh115⟩ : ∃ m : Mem, m = alloc h110 11 0 := ⟨_, rfl⟩
      obtain ⟨a116, ea116⟩ : ∃ z : Int, z = h110 0 0 := ⟨_, rfl⟩
      have La116 : h0 0 0 ≤ a116 := by rw [ea116]; exact B111.1.1
      have Ma116 : h 0 0 ≤ a116 := by rw [ea116]; exact E112.1.1
      have Na116 : a116 ≠ 0 := by have z := B111.pos; rw [ea116]; omega
      have B117 : EX h0 h115 := by rw [eh115]; exact EX_alloc B111 (by decide) (by decide) (by decide) (by decide)
      have E118 : EX h h115 := by rw [eh115]; exact EX_alloc E112 (by decide) (by decide) (by decide) (by decide)
      refine v_mem eh115 ?_
      refine v_topi ea116.symm ?_
      have F := F h115 eh115 a116 ea116
      refine v_dup C (rf_n1 _) dX4_fact_38 ?_
      refine v_aload_n C 2 rfl rfl dX4_fact_39 ?_
      obtain ⟨c119, s120, o121, o122, F⟩ := F
      refine tX4_252 C N (S_x0.ext E118.1).k (d2 := (3 * d0 + 9)) (kc2 := c119) (ks2 := s120) (by omega) o121 o122 (Nat.le_of_ble_eq_true rfl) dX4_fact_40 (CtX.mono (F) ?_ ?_)
      · rintro r123 h124 ⟨e125, F⟩
        have F := F e125
        have B127 := B117.tr e125
        have E128 := E118.tr e125
        refine mX4_264 C Na116 (d2 := 2) (kc2 := 0) (ks2 := 0) (by omega) o121 o122 (Nat.le_of_ble_eq_true rfl) dX4_fact_43 (Ct.mono (F) ?_)
        rintro r129 h130 ⟨e131, F⟩
        have F := F e131
        have B133 := e131.2 _ B127 La116
        have E134 := e131.2 _ E128 Ma116
        refine v_astore_n C rfl (by decide) dX4_fact_46 (lv2 := [(3, rf a116), (2, iv y7), (1, iv r1), (0, rf x0)]) rfl ?_
        refine v_aload_n C 3 rfl rfl dX4_fact_47 ?_
        refine v_dup C (rf_n1 _) dX4_fact_48 ?_
        refine gX4_87 C (S_x0.ext E134.1).k rfl dX4_fact_49 ?_
        refine v_iconst C dX4_fact_52 ?_
        refine v_isub C dX4_fact_53 ?_
        obtain ⟨o135, F⟩ := F
        refine pX4_87 C (S_x0.ext E134.1).k (okI_i rfl o135) dX4_fact_54 ?_
        obtain ⟨h136, eh136⟩ : ∃ m : Mem, m = up h130 x0 3 (h130 x0 3 - 1) := ⟨_, rfl⟩
        have B137 : EX h0 h136 := by rw [eh136]; exact EX_up B133 (S_x0.ext E134.1).k (by decide) rfl (by decide) (okI_i rfl o135)
        have E138 : EX h h136 := by rw [eh136]; exact EX_up E134 (S_x0.ext E134.1).k (by decide) rfl (by decide) (okI_i rfl o135)
        refine v_mem eh136 ?_
        have F := F h136 eh136
        refine v_aload_n C 0 rfl rfl dX4_fact_57 ?_
        refine V.toX ?_
        exact v_aret C o121 o122 dX4_fact_58 ⟨B137, F⟩
      · exact fun h9 F9 => ⟨B117.tr F9.1, F9.2⟩
    · exact fun h9 F9 => ⟨B12.tr F9.1, F9.2⟩
set_option maxHeartbeats 1000000 in
theorem eX4_fact {G : GT} {l : Launch} {d0 : Nat} {kc ks : Nat} {x0 : Int} {h : Mem} {P : Int → Mem → Prop} {PX : Mem → Prop} (F : ∀ X : MX, Cx G X cX4_fact 6 RX4 (3 * (d0 + 1) + 9) kc ks (some (.object "LatestCoat$Test")) "fact" → NoH X → X.2.1 = l → (EX h h) →
    TextS h x0 ∧ kX4_see G X.2.1 x0 h (fun r1 h2 => EX h h2 → ∀ y7 : Int, y7 = h2 x0 2 → kX4_isWord G X.2.1 x0 (-42) h2 (fun r8 h9 => EX h2 h9 → ((r8 = 0 → ((r1 ≠ 91 → ∃ c16 s17 : Nat, 0 + c16 ≤ kc ∧ 0 + s17 ≤ ks ∧ kX4_sum G X.2.1 c16 s17 x0 h9 (fun r20 h21 => EX h9 h21 → kX4_see G X.2.1 x0 h21 (fun r26 h27 => EX h21 h27 → ∀ y32 : Int, y32 = h27 x0 2 → kX4_sign G X.2.1 x0 h27 (fun r33 h34 => EX h27 h34 → kX4_makes G X.2.1 x0 y32 h34 (fun _ h40 => EX h34 h40 → 0 + c16 + 1 ≤ kc ∧ 0 + s17 + 3 ≤ ks ∧ ∀ h47 : Mem, h47 = alloc h40 12 0 → ∀ a48 : Int, a48 = h40 0 0 → ∃ c51 s52 : Nat, 0 + c16 + 1 + c51 ≤ kc ∧ 0 + s17 + 3 + s52 ≤ ks ∧ kX4_sum G X.2.1 c51 s52 x0 h47 (fun r55 h56 => EX h47 h56 → kX13_init G X.2.1 a48 r20 r33 r55 h56 (fun _ h62 => BX a48 h56 h62 → P a48 h62)) PX) PX) PX)) PX) ∧ (r1 = 91 → kX4_opens G X.2.1 x0 y7 h9 (fun _ h68 => EX h9 h68 → R32 (h68 x0 2 + 1) ∧ ∀ h74 : Mem, h74 = up h68 x0 2 (h68 x0 2 + 1) → ∃ c77 s78 : Nat, 0 + c77 ≤ kc ∧ 0 + s78 ≤ ks ∧ kX4_tested G X.2.1 d0 c77 s78 x0 h74 (fun r81 h82 => EX h74 h82 → kX4_takesSign G X.2.1 x0 93 h82 (fun r87 h88 => EX h82 h88 → kX4_demand G X.2.1 x0 r87 0 (h88 x0 2) h88 (fun _ h94 => EX h88 h94 → R32 (h94 x0 3 - 1) ∧ ∀ h100 : Mem, h100 = up h94 x0 3 (h94 x0 3 - 1) → P r81 h100) PX)) PX) PX))) ∧ (r8 ≠ 0 → kX4_opens G X.2.1 x0 y7 h9 (fun _ h104 => EX h9 h104 → R32 (h104 x0 2 + 3) ∧ ∀ h110 : Mem, h110 = up h104 x0 2 (h104 x0 2 + 3) → 0 + 1 ≤ kc ∧ 0 + 1 ≤ ks ∧ ∀ h115 : Mem, h115 = alloc h110 11 0 → ∀ a116 : Int, a116 = h110 0 0 → ∃ c119 s120 : Nat, 0 + 1 + c119 ≤ kc ∧ 0 + 1 + s120 ≤ ks ∧ kX4_fact G X.2.1 d0 c119 s120 x0 h115 (fun r123 h124 => EX h115 h124 → kX12_init G X.2.1 a116 r123 h124 (fun _ h130 => BX a116 h124 h130 → R32 (h130 x0 3 - 1) ∧ ∀ h136 : Mem, h136 = up h130 x0 3 (h130 x0 3 - 1) → P a116 h136)) PX) PX))))) :
    kX4_fact G l (d0 + 1) kc ks x0 h P PX := by
  refine ct_ofX (by decide +kernel) (Nat.le_of_ble_eq_true rfl) fun X C N e => ?_
  refine v_okz fun O => ?_
  exact wX4_fact_0 (uc := 0) (us := 0) C N (EX.rf O) (F X C N e (EX.rf O))
set_option maxHeartbeats 4000000 in
theorem wX4_parted_0 {G : GT} {X : MX} {h0 h : Mem} {P : Int → Mem → Prop} {PX : Mem → Prop} {d0 : Nat} {kc ks uc us : Nat} {x0 : Int} (C : Cx G X cX4_parted 2 RX4 (3 * d0 + 10) kc ks (some (.object "LatestCoat$Test")) "parted") (N : NoH X) (B0 : EX h0 h)
    (F : TextS h x0 ∧ ∃ c1 s2 : Nat, 0 + c1 ≤ kc ∧ 0 + s2 ≤ ks ∧ kX4_fact G X.2.1 d0 c1 s2 x0 h (fun r5 h6 => EX h h6 → (EX h0 h6 ∧ 0 + c1 ≤ kc ∧ 0 + s2 ≤ ks → V G X 2 (0 + c1) (0 + s2) (QX G X 2 kc ks (PR h0 P) (PE h0 PX)) 5 [(0, rf x0), (1, rf r5)] [] h6)) PX) :
    V G X 2 0 0 (QX G X 2 kc ks (PR h0 P) (PE h0 PX)) 0 [(0, rf x0)] [] h := by
  have B := B0
  have E : EX h h := EX.rf B.2
  obtain ⟨S_x0, F⟩ := F
  refine v_aload_n C 0 rfl rfl dX4_parted_0 ?_
  obtain ⟨c1, s2, o3, o4, F⟩ := F
  refine tX4_252 C N (S_x0.ext E.1).k (d2 := (3 * d0 + 9)) (kc2 := c1) (ks2 := s2) (by omega) o3 o4 (Nat.le_of_ble_eq_true rfl) dX4_parted_1 (CtX.mono (F) ?_ ?_)
  · rintro r5 h6 ⟨e7, F⟩
    have F := F e7
    have B9 := B.tr e7
    have E10 := E.tr e7
    refine v_astore_n C rfl (by decide) dX4_parted_4 (lv2 := [(1, rf r5), (0, rf x0)]) rfl ?_
    refine v_sub (lv2 := [(0, rf x0), (1, rf r5)]) [1, 0] rfl ?_
    exact F ⟨B9, o3, o4⟩
  · exact fun h9 F9 => ⟨B.tr F9.1, F9.2⟩
set_option maxHeartbeats 4000000 in
theorem wX4_parted_L5 {G : GT} {X : MX} {h0 h : Mem} {P : Int → Mem → Prop} {PX : Mem → Prop} {d0 : Nat} {kc ks uc us : Nat} {x0 x1 : Int} (C : Cx G X cX4_parted 2 RX4 (3 * d0 + 10) kc ks (some (.object "LatestCoat$Test")) "parted") (N : NoH X) (B0 : EX h0 h ∧ uc ≤ kc ∧ us ≤ ks)
    (F : TextS h x0 ∧ kX4_takesWord G X.2.1 x0 (-44) h (fun r1 h2 => EX h h2 → ((r1 = 0 → P x1 h2) ∧ (r1 ≠ 0 → uc + 1 ≤ kc ∧ us + 3 ≤ ks ∧ ∀ h10 : Mem, h10 = alloc h2 13 0 → ∀ a11 : Int, a11 = h2 0 0 → ∃ c14 s15 : Nat, uc + 1 + c14 ≤ kc ∧ us + 3 + s15 ≤ ks ∧ kX4_fact G X.2.1 d0 c14 s15 x0 h10 (fun r18 h19 => EX h10 h19 → kX14_init G X.2.1 a11 x1 1 r18 h19 (fun _ h25 => BX a11 h19 h25 → (EX h0 h25 ∧ uc + 1 + c14 ≤ kc ∧ us + 3 + s15 ≤ ks → V G X 2 (uc + 1 + c14) (us + 3 + s15) (QX G X 2 kc ks (PR h0 P) (PE h0 PX)) 5 [(0, rf x0), (1, rf a11)] [] h25))) PX)))) :
    V G X 2 uc us (QX G X 2 kc ks (PR h0 P) (PE h0 PX)) 5 [(0, rf x0), (1, rf x1)] [] h := by
  obtain ⟨B, U1, U2⟩ := B0
  have E : EX h h := EX.rf B.2
  obtain ⟨S_x0, F⟩ := F
  refine v_aload_n C 0 rfl rfl dX4_parted_5 ?_
  refine v_ldcS C 21 (by decide) rfl dX4_parted_6 ?_
  refine mX4_216 C (S_x0.ext E.1).k (d2 := 5) (kc2 := 0) (ks2 := 0) (by omega) U1 U2 (Nat.le_of_ble_eq_true rfl) dX4_parted_8 (Ct.mono (F) ?_)
  rintro r1 h2 ⟨e3, g4, F⟩
  have F := F e3
  have B5 := B.tr e3
  have E6 := E.tr e3
  refine v_if_eq C 31 (bR g4) dX4_parted_11 (by decide) (fun c7 => ?_) (fun c7 => ?_)
  · have F := F.1 (c7)
    refine v_aload_n C 1 rfl rfl dX4_parted_31 ?_
    refine V.toX ?_
    exact v_aret C U1 U2 dX4_parted_32 ⟨B5, F⟩
  · have F := F.2 (c7)
    obtain ⟨o8, o9, F⟩ := F
    refine nX4_247 C o8 o9 dX4_parted_14 ?_
    obtain ⟨h10, eh10⟩ : ∃ m : Mem, m = alloc h2 13 0 := ⟨_, rfl⟩
    obtain ⟨a11, ea11⟩ : ∃ z : Int, z = h2 0 0 := ⟨_, rfl⟩
    have La11 : h0 0 0 ≤ a11 := by rw [ea11]; exact B5.1.1
    have Ma11 : h 0 0 ≤ a11 := by rw [ea11]; exact E6.1.1
    have Na11 : a11 ≠ 0 := by have z := B5.pos; rw [ea11]; omega
    have B12 : EX h0 h10 := by rw [eh10]; exact EX_alloc B5 (by decide) (by decide) (by decide) (by decide)
    have E13 : EX h h10 := by rw [eh10]; exact EX_alloc E6 (by decide) (by decide) (by decide) (by decide)
    refine v_mem eh10 ?_
    refine v_topi ea11.symm ?_
    have F := F h10 eh10 a11 ea11
    refine v_dup C (rf_n1 _) dX4_parted_17 ?_
    refine v_aload_n C 1 rfl rfl dX4_parted_18 ?_
    refine v_iconst C dX4_parted_19 ?_
    refine v_aload_n C 0 rfl rfl dX4_parted_20 ?_
    obtain ⟨c14, s15, o16, o17, F⟩ := F
    refine tX4_252 C N (S_x0.ext E13.1).k (d2 := (3 * d0 + 9)) (kc2 := c14) (ks2 := s15) (by omega) o16 o17 (Nat.le_of_ble_eq_true rfl) dX4_parted_21 (CtX.mono (F) ?_ ?_)
    · rintro r18 h19 ⟨e20, F⟩
      have F := F e20
      have B22 := B12.tr e20
      have E23 := E13.tr e20
      refine mX4_249 C Na11 (d2 := 2) (kc2 := 0) (ks2 := 0) (by omega) o16 o17 (Nat.le_of_ble_eq_true rfl) dX4_parted_24 (Ct.mono (F ⟨by decide, by decide⟩) ?_)
      rintro r24 h25 ⟨e26, F⟩
      have F := F e26
      have B28 := e26.2 _ B22 La11
      have E29 := e26.2 _ E23 Ma11
      refine v_astore_n C rfl (by decide) dX4_parted_27 (lv2 := [(1, rf a11), (0, rf x0)]) rfl ?_
      refine v_goto C 5 dX4_parted_28 (by decide) ?_
      refine v_sub (lv2 := [(0, rf x0), (1, rf a11)]) [1, 0] rfl ?_
      exact F ⟨B28, o16, o17⟩
    · exact fun h9 F9 => ⟨B12.tr F9.1, F9.2⟩
set_option maxHeartbeats 1000000 in
theorem eX4_parted {G : GT} {l : Launch} {d0 : Nat} {kc ks : Nat} {x0 : Int} {h : Mem} {P : Int → Mem → Prop} {PX : Mem → Prop} (F : ∀ X : MX, Cx G X cX4_parted 2 RX4 (3 * d0 + 10) kc ks (some (.object "LatestCoat$Test")) "parted" → NoH X → X.2.1 = l → (EX h h) →
    TextS h x0 ∧ ∃ c1 s2 : Nat, 0 + c1 ≤ kc ∧ 0 + s2 ≤ ks ∧ kX4_fact G X.2.1 d0 c1 s2 x0 h (fun r5 h6 => EX h h6 → (EX h h6 ∧ 0 + c1 ≤ kc ∧ 0 + s2 ≤ ks → V G X 2 (0 + c1) (0 + s2) (QX G X 2 kc ks (PR h P) (PE h PX)) 5 [(0, rf x0), (1, rf r5)] [] h6)) PX) :
    kX4_parted G l d0 kc ks x0 h P PX := by
  refine ct_ofX (by decide +kernel) (Nat.le_of_ble_eq_true rfl) fun X C N e => ?_
  refine v_okz fun O => ?_
  exact wX4_parted_0 (uc := 0) (us := 0) C N (EX.rf O) (F X C N e (EX.rf O))
set_option maxHeartbeats 4000000 in
theorem wX4_tested_0 {G : GT} {X : MX} {h0 h : Mem} {P : Int → Mem → Prop} {PX : Mem → Prop} {d0 : Nat} {kc ks uc us : Nat} {x0 : Int} (C : Cx G X cX4_tested 2 RX4 (3 * d0 + 11) kc ks (some (.object "LatestCoat$Test")) "tested") (N : NoH X) (B0 : EX h0 h)
    (F : TextS h x0 ∧ ∃ c1 s2 : Nat, 0 + c1 ≤ kc ∧ 0 + s2 ≤ ks ∧ kX4_parted G X.2.1 d0 c1 s2 x0 h (fun r5 h6 => EX h h6 → (EX h0 h6 ∧ 0 + c1 ≤ kc ∧ 0 + s2 ≤ ks → V G X 2 (0 + c1) (0 + s2) (QX G X 2 kc ks (PR h0 P) (PE h0 PX)) 5 [(0, rf x0), (1, rf r5)] [] h6)) PX) :
    V G X 2 0 0 (QX G X 2 kc ks (PR h0 P) (PE h0 PX)) 0 [(0, rf x0)] [] h := by
  have B := B0
  have E : EX h h := EX.rf B.2
  obtain ⟨S_x0, F⟩ := F
  refine v_aload_n C 0 rfl rfl dX4_tested_0 ?_
  obtain ⟨c1, s2, o3, o4, F⟩ := F
  refine tX4_242 C N (S_x0.ext E.1).k (d2 := (3 * d0 + 10)) (kc2 := c1) (ks2 := s2) (by omega) o3 o4 (Nat.le_of_ble_eq_true rfl) dX4_tested_1 (CtX.mono (F) ?_ ?_)
  · rintro r5 h6 ⟨e7, F⟩
    have F := F e7
    have B9 := B.tr e7
    have E10 := E.tr e7
    refine v_astore_n C rfl (by decide) dX4_tested_4 (lv2 := [(1, rf r5), (0, rf x0)]) rfl ?_
    refine v_sub (lv2 := [(0, rf x0), (1, rf r5)]) [1, 0] rfl ?_
    exact F ⟨B9, o3, o4⟩
  · exact fun h9 F9 => ⟨B.tr F9.1, F9.2⟩
set_option maxHeartbeats 4000000 in
theorem wX4_tested_L5 {G : GT} {X : MX} {h0 h : Mem} {P : Int → Mem → Prop} {PX : Mem → Prop} {d0 : Nat} {kc ks uc us : Nat} {x0 x1 : Int} (C : Cx G X cX4_tested 2 RX4 (3 * d0 + 11) kc ks (some (.object "LatestCoat$Test")) "tested") (N : NoH X) (B0 : EX h0 h ∧ uc ≤ kc ∧ us ≤ ks)
    (F : TextS h x0 ∧ kX4_takesWord G X.2.1 x0 (-46) h (fun r1 h2 => EX h h2 → ((r1 = 0 → P x1 h2) ∧ (r1 ≠ 0 → uc + 1 ≤ kc ∧ us + 3 ≤ ks ∧ ∀ h10 : Mem, h10 = alloc h2 13 0 → ∀ a11 : Int, a11 = h2 0 0 → ∃ c14 s15 : Nat, uc + 1 + c14 ≤ kc ∧ us + 3 + s15 ≤ ks ∧ kX4_parted G X.2.1 d0 c14 s15 x0 h10 (fun r18 h19 => EX h10 h19 → kX14_init G X.2.1 a11 x1 0 r18 h19 (fun _ h25 => BX a11 h19 h25 → (EX h0 h25 ∧ uc + 1 + c14 ≤ kc ∧ us + 3 + s15 ≤ ks → V G X 2 (uc + 1 + c14) (us + 3 + s15) (QX G X 2 kc ks (PR h0 P) (PE h0 PX)) 5 [(0, rf x0), (1, rf a11)] [] h25))) PX)))) :
    V G X 2 uc us (QX G X 2 kc ks (PR h0 P) (PE h0 PX)) 5 [(0, rf x0), (1, rf x1)] [] h := by
  obtain ⟨B, U1, U2⟩ := B0
  have E : EX h h := EX.rf B.2
  obtain ⟨S_x0, F⟩ := F
  refine v_aload_n C 0 rfl rfl dX4_tested_5 ?_
  refine v_ldcS C 22 (by decide) rfl dX4_tested_6 ?_
  refine mX4_216 C (S_x0.ext E.1).k (d2 := 5) (kc2 := 0) (ks2 := 0) (by omega) U1 U2 (Nat.le_of_ble_eq_true rfl) dX4_tested_8 (Ct.mono (F) ?_)
  rintro r1 h2 ⟨e3, g4, F⟩
  have F := F e3
  have B5 := B.tr e3
  have E6 := E.tr e3
  refine v_if_eq C 31 (bR g4) dX4_tested_11 (by decide) (fun c7 => ?_) (fun c7 => ?_)
  · have F := F.1 (c7)
    refine v_aload_n C 1 rfl rfl dX4_tested_31 ?_
    refine V.toX ?_
    exact v_aret C U1 U2 dX4_tested_32 ⟨B5, F⟩
  · have F := F.2 (c7)
    obtain ⟨o8, o9, F⟩ := F
    refine nX4_247 C o8 o9 dX4_tested_14 ?_
    obtain ⟨h10, eh10⟩ : ∃ m : Mem, m = alloc h2 13 0 := ⟨_, rfl⟩
    obtain ⟨a11, ea11⟩ : ∃ z : Int, z = h2 0 0 := ⟨_, rfl⟩
    have La11 : h0 0 0 ≤ a11 := by rw [ea11]; exact B5.1.1
    have Ma11 : h 0 0 ≤ a11 := by rw [ea11]; exact E6.1.1
    have Na11 : a11 ≠ 0 := by have z := B5.pos; rw [ea11]; omega
    have B12 : EX h0 h10 := by rw [eh10]; exact EX_alloc B5 (by decide) (by decide) (by decide) (by decide)
    have E13 : EX h h10 := by rw [eh10]; exact EX_alloc E6 (by decide) (by decide) (by decide) (by decide)
    refine v_mem eh10 ?_
    refine v_topi ea11.symm ?_
    have F := F h10 eh10 a11 ea11
    refine v_dup C (rf_n1 _) dX4_tested_17 ?_
    refine v_aload_n C 1 rfl rfl dX4_tested_18 ?_
    refine v_iconst C dX4_tested_19 ?_
    refine v_aload_n C 0 rfl rfl dX4_tested_20 ?_
    obtain ⟨c14, s15, o16, o17, F⟩ := F
    refine tX4_242 C N (S_x0.ext E13.1).k (d2 := (3 * d0 + 10)) (kc2 := c14) (ks2 := s15) (by omega) o16 o17 (Nat.le_of_ble_eq_true rfl) dX4_tested_21 (CtX.mono (F) ?_ ?_)
    · rintro r18 h19 ⟨e20, F⟩
      have F := F e20
      have B22 := B12.tr e20
      have E23 := E13.tr e20
      refine mX4_249 C Na11 (d2 := 2) (kc2 := 0) (ks2 := 0) (by omega) o16 o17 (Nat.le_of_ble_eq_true rfl) dX4_tested_24 (Ct.mono (F ⟨by decide, by decide⟩) ?_)
      rintro r24 h25 ⟨e26, F⟩
      have F := F e26
      have B28 := e26.2 _ B22 La11
      have E29 := e26.2 _ E23 Ma11
      refine v_astore_n C rfl (by decide) dX4_tested_27 (lv2 := [(1, rf a11), (0, rf x0)]) rfl ?_
      refine v_goto C 5 dX4_tested_28 (by decide) ?_
      refine v_sub (lv2 := [(0, rf x0), (1, rf a11)]) [1, 0] rfl ?_
      exact F ⟨B28, o16, o17⟩
    · exact fun h9 F9 => ⟨B12.tr F9.1, F9.2⟩
set_option maxHeartbeats 1000000 in
theorem eX4_tested {G : GT} {l : Launch} {d0 : Nat} {kc ks : Nat} {x0 : Int} {h : Mem} {P : Int → Mem → Prop} {PX : Mem → Prop} (F : ∀ X : MX, Cx G X cX4_tested 2 RX4 (3 * d0 + 11) kc ks (some (.object "LatestCoat$Test")) "tested" → NoH X → X.2.1 = l → (EX h h) →
    TextS h x0 ∧ ∃ c1 s2 : Nat, 0 + c1 ≤ kc ∧ 0 + s2 ≤ ks ∧ kX4_parted G X.2.1 d0 c1 s2 x0 h (fun r5 h6 => EX h h6 → (EX h h6 ∧ 0 + c1 ≤ kc ∧ 0 + s2 ≤ ks → V G X 2 (0 + c1) (0 + s2) (QX G X 2 kc ks (PR h P) (PE h PX)) 5 [(0, rf x0), (1, rf r5)] [] h6)) PX) :
    kX4_tested G l d0 kc ks x0 h P PX := by
  refine ct_ofX (by decide +kernel) (Nat.le_of_ble_eq_true rfl) fun X C N e => ?_
  refine v_okz fun O => ?_
  exact wX4_tested_0 (uc := 0) (us := 0) C N (EX.rf O) (F X C N e (EX.rf O))
set_option maxHeartbeats 4000000 in
theorem wX4_clauseHere_0 {G : GT} {X : MX} {h0 h : Mem} {P : Int → Mem → Prop} {PX : Mem → Prop} {kc ks uc us : Nat} {x0 : Int} (C : Cx G X cX4_clauseHere 2 RX4 45 kc ks (some (.object "LatestCoat$Clause")) "clauseHere") (N : NoH X) (B0 : EX h0 h)
    (F : TextS h x0 ∧ 0 + 1 ≤ kc ∧ 0 + 2 ≤ ks ∧ ∀ h3 : Mem, h3 = alloc h 7 0 → ∀ a4 : Int, a4 = h 0 0 → kX6_init G X.2.1 a4 h3 (fun _ h8 => BX a4 h3 h8 → ∃ c13 s14 : Nat, 0 + 1 + c13 ≤ kc ∧ 0 + 2 + s14 ≤ ks ∧ kX4_sum G X.2.1 c13 s14 x0 h8 (fun r17 h18 => EX h8 h18 → h18 a4 (-1) = 7 ∧ ∀ h24 : Mem, h24 = up h18 a4 0 r17 → kX4_takesWord G X.2.1 x0 (-40) h24 (fun r27 h28 => EX h24 h28 → ((r27 = 0 → ∀ h34 : Mem, h34 = up h28 a4 1 0 → P a4 h34) ∧ (r27 ≠ 0 → ∃ c37 s38 : Nat, 0 + 1 + c13 + c37 ≤ kc ∧ 0 + 2 + s14 + s38 ≤ ks ∧ kX4_tested G X.2.1 11 c37 s38 x0 h28 (fun r41 h42 => EX h28 h42 → ∀ h47 : Mem, h47 = up h42 a4 1 r41 → P a4 h47) PX)))) PX)) :
    V G X 2 0 0 (QX G X 2 kc ks (PR h0 P) (PE h0 PX)) 0 [(0, rf x0)] [] h := by
  have B := B0
  have E : EX h h := EX.rf B.2
  obtain ⟨S_x0, F⟩ := F
  obtain ⟨o1, o2, F⟩ := F
  refine nX4_204 C o1 o2 dX4_clauseHere_0 ?_
  obtain ⟨h3, eh3⟩ : ∃ m : Mem, m = alloc h 7 0 := ⟨_, rfl⟩
  obtain ⟨a4, ea4⟩ : ∃ z : Int, z = h 0 0 := ⟨_, rfl⟩
  have La4 : h0 0 0 ≤ a4 := by rw [ea4]; exact B.1.1
  have Ma4 : h 0 0 ≤ a4 := by rw [ea4]; exact E.1.1
  have Na4 : a4 ≠ 0 := by have z := B.pos; rw [ea4]; omega
  have B5 : EX h0 h3 := by rw [eh3]; exact EX_alloc B (by decide) (by decide) (by decide) (by decide)
  have E6 : EX h h3 := by rw [eh3]; exact EX_alloc E (by decide) (by decide) (by decide) (by decide)
  refine v_mem eh3 ?_
  refine v_topi ea4.symm ?_
  have F := F h3 eh3 a4 ea4
  refine v_dup C (rf_n1 _) dX4_clauseHere_3 ?_
  refine mX4_206 C Na4 (d2 := 1) (kc2 := 0) (ks2 := 0) (by decide) o1 o2 (Nat.le_of_ble_eq_true rfl) dX4_clauseHere_4 (Ct.mono (F) ?_)
  rintro r7 h8 ⟨e9, F⟩
  have F := F e9
  have B11 := e9.2 _ B5 La4
  have E12 := e9.2 _ E6 Ma4
  refine v_astore_n C rfl (by decide) dX4_clauseHere_7 (lv2 := [(1, rf a4), (0, rf x0)]) rfl ?_
  refine v_aload_n C 0 rfl rfl dX4_clauseHere_8 ?_
  refine v_aload_n C 1 rfl rfl dX4_clauseHere_9 ?_
  obtain ⟨c13, s14, o15, o16, F⟩ := F
  refine tX4_207 C N (S_x0.ext E12.1).k (d2 := 8) (kc2 := c13) (ks2 := s14) (by decide) o15 o16 (Nat.le_of_ble_eq_true rfl) dX4_clauseHere_10 (CtX.mono (F) ?_ ?_)
  · rintro r17 h18 ⟨e19, F⟩
    have F := F e19
    have B21 := B11.tr e19
    have E22 := E12.tr e19
    obtain ⟨o23, F⟩ := F
    refine pX4_211 C o23 (okI_r rfl rfl) dX4_clauseHere_13 ?_
    obtain ⟨h24, eh24⟩ : ∃ m : Mem, m = up h18 a4 0 r17 := ⟨_, rfl⟩
    have B25 : EX h0 h24 := by rw [eh24]; exact EX_up B21 o23 (by decide) rfl (by decide) (okI_r rfl rfl)
    have E26 : EX h h24 := by rw [eh24]; exact EX_up E22 o23 (by decide) rfl (by decide) (okI_r rfl rfl)
    refine v_mem eh24 ?_
    have F := F h24 eh24
    refine v_aload_n C 0 rfl rfl dX4_clauseHere_16 ?_
    refine v_aload_n C 1 rfl rfl dX4_clauseHere_17 ?_
    refine v_ldcS C 19 (by decide) rfl dX4_clauseHere_18 ?_
    refine mX4_216 C (S_x0.ext E26.1).k (d2 := 5) (kc2 := 0) (ks2 := 0) (by decide) o15 o16 (Nat.le_of_ble_eq_true rfl) dX4_clauseHere_20 (Ct.mono (F) ?_)
    rintro r27 h28 ⟨e29, g30, F⟩
    have F := F e29
    have B31 := B25.tr e29
    have E32 := E26.tr e29
    refine v_if_eq C 33 (bR g30) dX4_clauseHere_23 (by decide) (fun c33 => ?_) (fun c33 => ?_)
    · have F := F.1 (c33)
      refine v_null C dX4_clauseHere_33 ?_
      refine pX4_223 C (ck_ex e29 B25.2 (by decide) (ck_up eh24 (by decide) o23)) (okI_r rfl rfl) dX4_clauseHere_34 ?_
      obtain ⟨h34, eh34⟩ : ∃ m : Mem, m = up h28 a4 1 0 := ⟨_, rfl⟩
      have B35 : EX h0 h34 := by rw [eh34]; exact EX_up B31 (ck_ex e29 B25.2 (by decide) (ck_up eh24 (by decide) o23)) (by decide) rfl (by decide) (okI_r rfl rfl)
      have E36 : EX h h34 := by rw [eh34]; exact EX_up E32 (ck_ex e29 B25.2 (by decide) (ck_up eh24 (by decide) o23)) (by decide) rfl (by decide) (okI_r rfl rfl)
      refine v_mem eh34 ?_
      have F := F h34 eh34
      refine v_aload_n C 0 rfl rfl dX4_clauseHere_37 ?_
      refine V.toX ?_
      exact v_aret C o15 o16 dX4_clauseHere_38 ⟨B35, F⟩
    · have F := F.2 (c33)
      refine v_aload_n C 1 rfl rfl dX4_clauseHere_26 ?_
      obtain ⟨c37, s38, o39, o40, F⟩ := F
      refine tX4_219 C N (S_x0.ext E32.1).k (d2 := (3 * 11 + 11)) (kc2 := c37) (ks2 := s38) (by decide) o39 o40 (Nat.le_of_ble_eq_true rfl) dX4_clauseHere_27 (CtX.mono (F) ?_ ?_)
      · rintro r41 h42 ⟨e43, F⟩
        have F := F e43
        have B45 := B31.tr e43
        have E46 := E32.tr e43
        refine v_goto C 34 dX4_clauseHere_30 (by decide) ?_
        refine pX4_223 C (ck_ex e43 B31.2 (by decide) (ck_ex e29 B25.2 (by decide) (ck_up eh24 (by decide) o23))) (okI_r rfl rfl) dX4_clauseHere_34 ?_
        obtain ⟨h47, eh47⟩ : ∃ m : Mem, m = up h42 a4 1 r41 := ⟨_, rfl⟩
        have B48 : EX h0 h47 := by rw [eh47]; exact EX_up B45 (ck_ex e43 B31.2 (by decide) (ck_ex e29 B25.2 (by decide) (ck_up eh24 (by decide) o23))) (by decide) rfl (by decide) (okI_r rfl rfl)
        have E49 : EX h h47 := by rw [eh47]; exact EX_up E46 (ck_ex e43 B31.2 (by decide) (ck_ex e29 B25.2 (by decide) (ck_up eh24 (by decide) o23))) (by decide) rfl (by decide) (okI_r rfl rfl)
        refine v_mem eh47 ?_
        have F := F h47 eh47
        refine v_aload_n C 0 rfl rfl dX4_clauseHere_37 ?_
        refine V.toX ?_
        exact v_aret C o39 o40 dX4_clauseHere_38 ⟨B48, F⟩
      · exact fun h9 F9 => ⟨B31.tr F9.1, F9.2⟩
  · exact fun h9 F9 => ⟨B11.tr F9.1, F9.2⟩
set_option maxHeartbeats 1000000 in
theorem eX4_clauseHere {G : GT} {l : Launch} {kc ks : Nat} {x0 : Int} {h : Mem} {P : Int → Mem → Prop} {PX : Mem → Prop} (F : ∀ X : MX, Cx G X cX4_clauseHere 2 RX4 45 kc ks (some (.object "LatestCoat$Clause")) "clauseHere" → NoH X → X.2.1 = l → (EX h h) →
    TextS h x0 ∧ 0 + 1 ≤ kc ∧ 0 + 2 ≤ ks ∧ ∀ h3 : Mem, h3 = alloc h 7 0 → ∀ a4 : Int, a4 = h 0 0 → kX6_init G X.2.1 a4 h3 (fun _ h8 => BX a4 h3 h8 → ∃ c13 s14 : Nat, 0 + 1 + c13 ≤ kc ∧ 0 + 2 + s14 ≤ ks ∧ kX4_sum G X.2.1 c13 s14 x0 h8 (fun r17 h18 => EX h8 h18 → h18 a4 (-1) = 7 ∧ ∀ h24 : Mem, h24 = up h18 a4 0 r17 → kX4_takesWord G X.2.1 x0 (-40) h24 (fun r27 h28 => EX h24 h28 → ((r27 = 0 → ∀ h34 : Mem, h34 = up h28 a4 1 0 → P a4 h34) ∧ (r27 ≠ 0 → ∃ c37 s38 : Nat, 0 + 1 + c13 + c37 ≤ kc ∧ 0 + 2 + s14 + s38 ≤ ks ∧ kX4_tested G X.2.1 11 c37 s38 x0 h28 (fun r41 h42 => EX h28 h42 → ∀ h47 : Mem, h47 = up h42 a4 1 r41 → P a4 h47) PX)))) PX)) :
    kX4_clauseHere G l kc ks x0 h P PX := by
  refine ct_ofX (by decide +kernel) (Nat.le_of_ble_eq_true rfl) fun X C N e => ?_
  refine v_okz fun O => ?_
  exact wX4_clauseHere_0 (uc := 0) (us := 0) C N (EX.rf O) (F X C N e (EX.rf O))
set_option maxHeartbeats 4000000 in
theorem wX4_ruleTold_0 {G : GT} {X : MX} {h0 h : Mem} {P : Int → Mem → Prop} {PX : Mem → Prop} {kc ks uc us : Nat} {x0 : Int} (C : Cx G X cX4_ruleTold 3 RX4 46 kc ks (some (.object "LatestCoat$Rule")) "ruleTold") (N : NoH X) (B0 : EX h0 h)
    (F : 0 + 1 ≤ kc ∧ 0 + 2 ≤ ks ∧ ∀ h3 : Mem, h3 = alloc h 6 0 → ∀ a4 : Int, a4 = h 0 0 → ∃ c7 s8 : Nat, 0 + 1 + c7 ≤ kc ∧ 0 + 2 + s8 ≤ ks ∧ kX5_init G X.2.1 c7 s8 a4 h3 (fun _ h12 => BX a4 h3 h12 → (EX h0 h12 ∧ 0 + 1 + c7 ≤ kc ∧ 0 + 2 + s8 ≤ ks → V G X 3 (0 + 1 + c7) (0 + 2 + s8) (QX G X 2 kc ks (PR h0 P) (PE h0 PX)) 8 [(0, rf x0), (1, rf a4)] [] h12))) :
    V G X 3 0 0 (QX G X 2 kc ks (PR h0 P) (PE h0 PX)) 0 [(0, rf x0)] [] h := by
  have B := B0
  have E : EX h h := EX.rf B.2
  obtain ⟨o1, o2, F⟩ := F
  refine nX4_227 C o1 o2 dX4_ruleTold_0 ?_
  obtain ⟨h3, eh3⟩ : ∃ m : Mem, m = alloc h 6 0 := ⟨_, rfl⟩
  obtain ⟨a4, ea4⟩ : ∃ z : Int, z = h 0 0 := ⟨_, rfl⟩
  have La4 : h0 0 0 ≤ a4 := by rw [ea4]; exact B.1.1
  have Ma4 : h 0 0 ≤ a4 := by rw [ea4]; exact E.1.1
  have Na4 : a4 ≠ 0 := by have z := B.pos; rw [ea4]; omega
  have B5 : EX h0 h3 := by rw [eh3]; exact EX_alloc B (by decide) (by decide) (by decide) (by decide)
  have E6 : EX h h3 := by rw [eh3]; exact EX_alloc E (by decide) (by decide) (by decide) (by decide)
  refine v_mem eh3 ?_
  refine v_topi ea4.symm ?_
  have F := F h3 eh3 a4 ea4
  refine v_dup C (rf_n1 _) dX4_ruleTold_3 ?_
  obtain ⟨c7, s8, o9, o10, F⟩ := F
  refine mX4_229 C Na4 (d2 := 1) (kc2 := c7) (ks2 := s8) (by decide) o9 o10 (Nat.le_of_ble_eq_true rfl) dX4_ruleTold_4 (Ct.mono (F) ?_)
  rintro r11 h12 ⟨e13, F⟩
  have F := F e13
  have B15 := e13.2 _ B5 La4
  have E16 := e13.2 _ E6 Ma4
  refine v_astore_n C rfl (by decide) dX4_ruleTold_7 (lv2 := [(1, rf a4), (0, rf x0)]) rfl ?_
  refine v_sub (lv2 := [(0, rf x0), (1, rf a4)]) [1, 0] rfl ?_
  exact F ⟨B15, o9, o10⟩
set_option maxHeartbeats 4000000 in
theorem wX4_ruleTold_L8 {G : GT} {X : MX} {h0 h : Mem} {P : Int → Mem → Prop} {PX : Mem → Prop} {kc ks uc us : Nat} {x0 x1 : Int} (C : Cx G X cX4_ruleTold 3 RX4 46 kc ks (some (.object "LatestCoat$Rule")) "ruleTold") (N : NoH X) (B0 : EX h0 h ∧ uc ≤ kc ∧ us ≤ ks)
    (F : TextS h x0 ∧ XS h ∧ RuleS h x1 ∧ kX4_see G X.2.1 x0 h (fun r1 h2 => EX h h2 → ∀ y7 : Int, y7 = h2 x0 2 → kX4_oneOf G X.2.1 x0 169 h2 (fun r8 h9 => EX h2 h9 → ((r8 ≠ 0 → kX4_demand G X.2.1 x0 0 0 y7 h9 (fun _ h16 => EX h9 h16 → ((h16 x0 5 ≥ 12 → kX4_demand G X.2.1 x0 0 4 y7 h16 (fun _ h23 => EX h16 h23 → R32 (h23 x0 5 + 1) ∧ ∀ h29 : Mem, h29 = up h23 x0 5 (h23 x0 5 + 1) → R32 (h23 x0 2 + 5) ∧ ∀ h33 : Mem, h33 = up h29 x0 2 (h23 x0 2 + 5) → ∃ c36 s37 : Nat, uc + c36 ≤ kc ∧ us + s37 ≤ ks ∧ kX4_clauseHere G X.2.1 c36 s37 x0 h33 (fun r40 h41 => EX h33 h41 → 0 ≤ h23 x1 1 ∧ h23 x1 1 < 12 ∧ h41 r40 (-1) = 7 ∧ ∀ h49 : Mem, h49 = up h41 (x1 + 1) (h23 x1 1) r40 → R32 (h41 x1 1 + 1) ∧ ∀ h53 : Mem, h53 = up h49 x1 1 (h41 x1 1 + 1) → kX4_takesSign G X.2.1 x0 59 h53 (fun r56 h57 => EX h53 h57 → ((r56 ≠ 0 → (EX h0 h57 ∧ uc + c36 ≤ kc ∧ us + s37 ≤ ks → V G X 3 (uc + c36) (us + s37) (QX G X 2 kc ks (PR h0 P) (PE h0 PX)) 8 [(0, rf x0), (1, rf x1)] [] h57)) ∧ (r56 = 0 → kX4_ends G X.2.1 x0 h57 (fun _ h64 => EX h57 h64 → P x1 h64) PX)))) PX) PX) ∧ (h16 x0 5 < 12 → kX4_demand G X.2.1 x0 1 4 y7 h16 (fun _ h70 => EX h16 h70 → R32 (h70 x0 5 + 1) ∧ ∀ h76 : Mem, h76 = up h70 x0 5 (h70 x0 5 + 1) → R32 (h70 x0 2 + 5) ∧ ∀ h80 : Mem, h80 = up h76 x0 2 (h70 x0 2 + 5) → ∃ c83 s84 : Nat, uc + c83 ≤ kc ∧ us + s84 ≤ ks ∧ kX4_clauseHere G X.2.1 c83 s84 x0 h80 (fun r87 h88 => EX h80 h88 → 0 ≤ h70 x1 1 ∧ h70 x1 1 < 12 ∧ h88 r87 (-1) = 7 ∧ ∀ h96 : Mem, h96 = up h88 (x1 + 1) (h70 x1 1) r87 → R32 (h88 x1 1 + 1) ∧ ∀ h100 : Mem, h100 = up h96 x1 1 (h88 x1 1 + 1) → kX4_takesSign G X.2.1 x0 59 h100 (fun r103 h104 => EX h100 h104 → ((r103 ≠ 0 → (EX h0 h104 ∧ uc + c83 ≤ kc ∧ us + s84 ≤ ks → V G X 3 (uc + c83) (us + s84) (QX G X 2 kc ks (PR h0 P) (PE h0 PX)) 8 [(0, rf x0), (1, rf x1)] [] h104)) ∧ (r103 = 0 → kX4_ends G X.2.1 x0 h104 (fun _ h111 => EX h104 h111 → P x1 h111) PX)))) PX) PX))) PX) ∧ (r8 = 0 → kX4_demand G X.2.1 x0 1 0 y7 h9 (fun _ h117 => EX h9 h117 → ((h117 x0 5 ≥ 12 → kX4_demand G X.2.1 x0 0 4 y7 h117 (fun _ h124 => EX h117 h124 → R32 (h124 x0 5 + 1) ∧ ∀ h130 : Mem, h130 = up h124 x0 5 (h124 x0 5 + 1) → R32 (h124 x0 2 + 5) ∧ ∀ h134 : Mem, h134 = up h130 x0 2 (h124 x0 2 + 5) → ∃ c137 s138 : Nat, uc + c137 ≤ kc ∧ us + s138 ≤ ks ∧ kX4_clauseHere G X.2.1 c137 s138 x0 h134 (fun r141 h142 => EX h134 h142 → 0 ≤ h124 x1 1 ∧ h124 x1 1 < 12 ∧ h142 r141 (-1) = 7 ∧ ∀ h150 : Mem, h150 = up h142 (x1 + 1) (h124 x1 1) r141 → R32 (h142 x1 1 + 1) ∧ ∀ h154 : Mem, h154 = up h150 x1 1 (h142 x1 1 + 1) → kX4_takesSign G X.2.1 x0 59 h154 (fun r157 h158 => EX h154 h158 → ((r157 ≠ 0 → (EX h0 h158 ∧ uc + c137 ≤ kc ∧ us + s138 ≤ ks → V G X 3 (uc + c137) (us + s138) (QX G X 2 kc ks (PR h0 P) (PE h0 PX)) 8 [(0, rf x0), (1, rf x1)] [] h158)) ∧ (r157 = 0 → kX4_ends G X.2.1 x0 h158 (fun _ h165 => EX h158 h165 → P x1 h165) PX)))) PX) PX) ∧ (h117 x0 5 < 12 → kX4_demand G X.2.1 x0 1 4 y7 h117 (fun _ h171 => EX h117 h171 → R32 (h171 x0 5 + 1) ∧ ∀ h177 : Mem, h177 = up h171 x0 5 (h171 x0 5 + 1) → R32 (h171 x0 2 + 5) ∧ ∀ h181 : Mem, h181 = up h177 x0 2 (h171 x0 2 + 5) → ∃ c184 s185 : Nat, uc + c184 ≤ kc ∧ us + s185 ≤ ks ∧ kX4_clauseHere G X.2.1 c184 s185 x0 h181 (fun r188 h189 => EX h181 h189 → 0 ≤ h171 x1 1 ∧ h171 x1 1 < 12 ∧ h189 r188 (-1) = 7 ∧ ∀ h197 : Mem, h197 = up h189 (x1 + 1) (h171 x1 1) r188 → R32 (h189 x1 1 + 1) ∧ ∀ h201 : Mem, h201 = up h197 x1 1 (h189 x1 1 + 1) → kX4_takesSign G X.2.1 x0 59 h201 (fun r204 h205 => EX h201 h205 → ((r204 ≠ 0 → (EX h0 h205 ∧ uc + c184 ≤ kc ∧ us + s185 ≤ ks → V G X 3 (uc + c184) (us + s185) (QX G X 2 kc ks (PR h0 P) (PE h0 PX)) 8 [(0, rf x0), (1, rf x1)] [] h205)) ∧ (r204 = 0 → kX4_ends G X.2.1 x0 h205 (fun _ h212 => EX h205 h212 → P x1 h212) PX)))) PX) PX))) PX))))) :
    V G X 3 uc us (QX G X 2 kc ks (PR h0 P) (PE h0 PX)) 8 [(0, rf x0), (1, rf x1)] [] h := by
  obtain ⟨B, U1, U2⟩ := B0
  have E : EX h h := EX.rf B.2
  obtain ⟨S_x0, F⟩ := F
  obtain ⟨SX, F⟩ := F
  obtain ⟨S_x1, F⟩ := F
  refine v_aload_n C 0 rfl rfl dX4_ruleTold_8 ?_
  refine mX4_52 C (S_x0.ext E.1).k (d2 := 0) (kc2 := 0) (ks2 := 0) (by decide) U1 U2 (Nat.le_of_ble_eq_true rfl) dX4_ruleTold_9 (Ct.mono (F) ?_)
  rintro r1 h2 ⟨e3, g4, F⟩
  have F := F e3
  have B5 := B.tr e3
  have E6 := E.tr e3
  refine v_pop C (iv_n1 _) dX4_ruleTold_12 ?_
  refine v_aload_n C 0 rfl rfl dX4_ruleTold_13 ?_
  refine gX4_42 C (S_x0.ext E6.1).k rfl dX4_ruleTold_14 ?_
  obtain ⟨y7, ey7⟩ : ∃ z : Int, z = h2 x0 2 := ⟨_, rfl⟩
  have F := F y7 ey7
  have Ry7 : R32 y7 := by rw [ey7]; exact (EX.rI B5 (j := 2) (S_x0.ext E6.1).k rfl)
  refine v_istore_n C rfl (by decide) dX4_ruleTold_17 (lv2 := [(2, iv y7), (0, rf x0), (1, rf x1)]) (by rw [ey7]; rfl) ?_
  refine v_aload_n C 1 rfl rfl dX4_ruleTold_18 ?_
  refine v_aload_n C 1 rfl rfl dX4_ruleTold_19 ?_
  refine v_aload_n C 1 rfl rfl dX4_ruleTold_20 ?_
  refine gX4_3 C (S_x0.ext E6.1).k (S_x0.ext E6.1).f6 dX4_ruleTold_21 ?_
  refine gX4_230 C (SX.ext E6.1).k1 (SX.ext E6.1).f13 dX4_ruleTold_24 ?_
  refine mX4_184 C (S_x0.ext E6.1).k (d2 := 5) (kc2 := 0) (ks2 := 0) (by decide) U1 U2 (Nat.le_of_ble_eq_true rfl) dX4_ruleTold_27 (Ct.mono (F) ?_)
  rintro r8 h9 ⟨e10, g11, F⟩
  have F := F e10
  have B12 := B5.tr e10
  have E13 := E6.tr e10
  refine v_if_ne C 37 g11 dX4_ruleTold_30 (by decide) (fun c14 => ?_) (fun c14 => ?_)
  · have F := F.1 (c14)
    refine v_iconst C dX4_ruleTold_37 ?_
    refine v_iconst C dX4_ruleTold_38 ?_
    refine v_iload_n C 0 rfl rfl dX4_ruleTold_39 ?_
    refine tX4_76 C N (S_x0.ext E13.1).k (d2 := 0) (kc2 := 0) (ks2 := 0) (by decide) U1 U2 (Nat.le_of_ble_eq_true rfl) dX4_ruleTold_40 (CtX.mono (F ⟨by decide, by decide⟩ ⟨by decide, by decide⟩ Ry7) ?_ ?_)
    · rintro r15 h16 ⟨e17, F⟩
      have F := F e17
      have B19 := B12.tr e17
      have E20 := E13.tr e17
      refine v_aload_n C 1 rfl rfl dX4_ruleTold_43 ?_
      refine v_aload_n C 1 rfl rfl dX4_ruleTold_44 ?_
      refine gX4_90 C (S_x0.ext E20.1).k rfl dX4_ruleTold_45 ?_
      refine v_bipush C rfl dX4_ruleTold_48 ?_
      refine v_icmp_ge C 57 (EX.rI B19 (j := 5) (S_x0.ext E20.1).k rfl) ⟨by decide, by decide⟩ dX4_ruleTold_50 (by decide) (fun c21 => ?_) (fun c21 => ?_)
      · have F := F.1 (c21)
        refine v_iconst C dX4_ruleTold_57 ?_
        refine v_iconst C dX4_ruleTold_58 ?_
        refine v_iload_n C 0 rfl rfl dX4_ruleTold_59 ?_
        refine tX4_76 C N (S_x0.ext E20.1).k (d2 := 0) (kc2 := 0) (ks2 := 0) (by decide) U1 U2 (Nat.le_of_ble_eq_true rfl) dX4_ruleTold_60 (CtX.mono (F ⟨by decide, by decide⟩ ⟨by decide, by decide⟩ Ry7) ?_ ?_)
        · rintro r22 h23 ⟨e24, F⟩
          have F := F e24
          have B26 := B19.tr e24
          have E27 := E20.tr e24
          refine v_aload_n C 1 rfl rfl dX4_ruleTold_63 ?_
          refine v_dup C (rf_n1 _) dX4_ruleTold_64 ?_
          refine gX4_90 C (S_x0.ext E27.1).k rfl dX4_ruleTold_65 ?_
          refine v_iconst C dX4_ruleTold_68 ?_
          refine v_iadd C dX4_ruleTold_69 ?_
          obtain ⟨o28, F⟩ := F
          refine pX4_90 C (S_x0.ext E27.1).k (okI_i rfl o28) dX4_ruleTold_70 ?_
          obtain ⟨h29, eh29⟩ : ∃ m : Mem, m = up h23 x0 5 (h23 x0 5 + 1) := ⟨_, rfl⟩
          have B30 : EX h0 h29 := by rw [eh29]; exact EX_up B26 (S_x0.ext E27.1).k (by decide) rfl (by decide) (okI_i rfl o28)
          have E31 : EX h h29 := by rw [eh29]; exact EX_up E27 (S_x0.ext E27.1).k (by decide) rfl (by decide) (okI_i rfl o28)
          refine v_mem eh29 ?_
          have F := F h29 eh29
          refine v_aload_n C 1 rfl rfl dX4_ruleTold_73 ?_
          refine v_dup C (rf_n1 _) dX4_ruleTold_74 ?_
          refine gX4_42 C (S_x0.ext E31.1).k (show h29 x0 2 = h23 x0 2 by rw [eh29, up_i (by decide)]) dX4_ruleTold_75 ?_
          refine v_iconst C dX4_ruleTold_78 ?_
          refine v_iadd C dX4_ruleTold_79 ?_
          obtain ⟨o32, F⟩ := F
          refine pX4_42 C (S_x0.ext E31.1).k (okI_i rfl o32) dX4_ruleTold_80 ?_
          obtain ⟨h33, eh33⟩ : ∃ m : Mem, m = up h29 x0 2 (h23 x0 2 + 5) := ⟨_, rfl⟩
          have B34 : EX h0 h33 := by rw [eh33]; exact EX_up B30 (S_x0.ext E31.1).k (by decide) rfl (by decide) (okI_i rfl o32)
          have E35 : EX h h33 := by rw [eh33]; exact EX_up E31 (S_x0.ext E31.1).k (by decide) rfl (by decide) (okI_i rfl o32)
          refine v_mem eh33 ?_
          have F := F h33 eh33
          refine v_aload_n C 2 rfl rfl dX4_ruleTold_83 ?_
          refine gX4_233 C (S_x1.ext E35.1).k (S_x1.ext E35.1).f0 dX4_ruleTold_84 ?_
          refine v_aload_n C 2 rfl rfl dX4_ruleTold_87 ?_
          refine gX4_237 C (S_x1.ext E35.1).k (show h33 x1 1 = h23 x1 1 by rw [eh33, up_i (by decide), eh29, up_i (by decide)]) dX4_ruleTold_88 ?_
          refine v_aload_n C 1 rfl rfl dX4_ruleTold_91 ?_
          obtain ⟨c36, s37, o38, o39, F⟩ := F
          refine tX4_238 C N (S_x0.ext E35.1).k (d2 := 45) (kc2 := c36) (ks2 := s37) (by decide) o38 o39 (Nat.le_of_ble_eq_true rfl) dX4_ruleTold_92 (CtX.mono (F) ?_ ?_)
          · rintro r40 h41 ⟨e42, F⟩
            have F := F e42
            have B44 := B34.tr e42
            have E45 := E35.tr e42
            obtain ⟨o46, F⟩ := F
            obtain ⟨o47, F⟩ := F
            obtain ⟨o48, F⟩ := F
            refine v_aast C 8 (ci := 6) rfl (by decide) (S_x1.ext E45.1).k0 o46 (by rw [(S_x1.ext E45.1).l0]; exact o47) rfl o48 dX4_ruleTold_95 ?_
            obtain ⟨h49, eh49⟩ : ∃ m : Mem, m = up h41 (x1 + 1) (h23 x1 1) r40 := ⟨_, rfl⟩
            have B50 : EX h0 h49 := by rw [eh49]; exact EX_up B44 (S_x1.ext E45.1).k0 (by decide) rfl o46 (okI_r rfl rfl)
            have E51 : EX h h49 := by rw [eh49]; exact EX_up E45 (S_x1.ext E45.1).k0 (by decide) rfl o46 (okI_r rfl rfl)
            refine v_mem eh49 ?_
            have F := F h49 eh49
            refine v_aload_n C 2 rfl rfl dX4_ruleTold_96 ?_
            refine v_dup C (rf_n1 _) dX4_ruleTold_97 ?_
            refine gX4_237 C (S_x1.ext E51.1).k (show h49 x1 1 = h41 x1 1 by rw [eh49, up_a (by omega)]) dX4_ruleTold_98 ?_
            refine v_iconst C dX4_ruleTold_101 ?_
            refine v_iadd C dX4_ruleTold_102 ?_
            obtain ⟨o52, F⟩ := F
            refine pX4_237 C (S_x1.ext E51.1).k (okI_i rfl o52) dX4_ruleTold_103 ?_
            obtain ⟨h53, eh53⟩ : ∃ m : Mem, m = up h49 x1 1 (h41 x1 1 + 1) := ⟨_, rfl⟩
            have B54 : EX h0 h53 := by rw [eh53]; exact EX_up B50 (S_x1.ext E51.1).k (by decide) rfl (by decide) (okI_i rfl o52)
            have E55 : EX h h53 := by rw [eh53]; exact EX_up E51 (S_x1.ext E51.1).k (by decide) rfl (by decide) (okI_i rfl o52)
            refine v_mem eh53 ?_
            have F := F h53 eh53
            refine v_aload_n C 1 rfl rfl dX4_ruleTold_106 ?_
            refine v_bipush C rfl dX4_ruleTold_107 ?_
            refine mX4_195 C (S_x0.ext E55.1).k (d2 := 1) (kc2 := 0) (ks2 := 0) (by decide) o38 o39 (Nat.le_of_ble_eq_true rfl) dX4_ruleTold_109 (Ct.mono (F ⟨by decide, by decide⟩) ?_)
            rintro r56 h57 ⟨e58, g59, F⟩
            have F := F e58
            have B60 := B54.tr e58
            have E61 := E55.tr e58
            refine v_if_ne C 8 (bR g59) dX4_ruleTold_112 (by decide) (fun c62 => ?_) (fun c62 => ?_)
            · have F := F.1 (c62)
              refine v_sub (lv2 := [(0, rf x0), (1, rf x1)]) [1, 2] rfl ?_
              exact F ⟨B60, o38, o39⟩
            · have F := F.2 (c62)
              refine v_aload_n C 1 rfl rfl dX4_ruleTold_115 ?_
              refine tX4_198 C N (S_x0.ext E61.1).k (d2 := 1) (kc2 := 0) (ks2 := 0) (by decide) o38 o39 (Nat.le_of_ble_eq_true rfl) dX4_ruleTold_116 (CtX.mono (F) ?_ ?_)
              · rintro r63 h64 ⟨e65, F⟩
                have F := F e65
                have B67 := B60.tr e65
                have E68 := E61.tr e65
                refine v_aload_n C 2 rfl rfl dX4_ruleTold_119 ?_
                refine V.toX ?_
                exact v_aret C o38 o39 dX4_ruleTold_120 ⟨B67, F⟩
              · exact fun h9 F9 => ⟨B60.tr F9.1, F9.2⟩
          · exact fun h9 F9 => ⟨B34.tr F9.1, F9.2⟩
        · exact fun h9 F9 => ⟨B19.tr F9.1, F9.2⟩
      · have F := F.2 (c21)
        refine v_iconst C dX4_ruleTold_53 ?_
        refine v_goto C 58 dX4_ruleTold_54 (by decide) ?_
        refine v_iconst C dX4_ruleTold_58 ?_
        refine v_iload_n C 0 rfl rfl dX4_ruleTold_59 ?_
        refine tX4_76 C N (S_x0.ext E20.1).k (d2 := 0) (kc2 := 0) (ks2 := 0) (by decide) U1 U2 (Nat.le_of_ble_eq_true rfl) dX4_ruleTold_60 (CtX.mono (F ⟨by decide, by decide⟩ ⟨by decide, by decide⟩ Ry7) ?_ ?_)
        · rintro r69 h70 ⟨e71, F⟩
          have F := F e71
          have B73 := B19.tr e71
          have E74 := E20.tr e71
          refine v_aload_n C 1 rfl rfl dX4_ruleTold_63 ?_
          refine v_dup C (rf_n1 _) dX4_ruleTold_64 ?_
          refine gX4_90 C (S_x0.ext E74.1).k rfl dX4_ruleTold_65 ?_
          refine v_iconst C dX4_ruleTold_68 ?_
          refine v_iadd C dX4_ruleTold_69 ?_
          obtain ⟨o75, F⟩ := F
          refine pX4_90 C (S_x0.ext E74.1).k (okI_i rfl o75) dX4_ruleTold_70 ?_
          obtain ⟨h76, eh76⟩ : ∃ m : Mem, m = up h70 x0 5 (h70 x0 5 + 1) := ⟨_, rfl⟩
          have B77 : EX h0 h76 := by rw [eh76]; exact EX_up B73 (S_x0.ext E74.1).k (by decide) rfl (by decide) (okI_i rfl o75)
          have E78 : EX h h76 := by rw [eh76]; exact EX_up E74 (S_x0.ext E74.1).k (by decide) rfl (by decide) (okI_i rfl o75)
          refine v_mem eh76 ?_
          have F := F h76 eh76
          refine v_aload_n C 1 rfl rfl dX4_ruleTold_73 ?_
          refine v_dup C (rf_n1 _) dX4_ruleTold_74 ?_
          refine gX4_42 C (S_x0.ext E78.1).k (show h76 x0 2 = h70 x0 2 by rw [eh76, up_i (by decide)]) dX4_ruleTold_75 ?_
          refine v_iconst C dX4_ruleTold_78 ?_
          refine v_iadd C dX4_ruleTold_79 ?_
          obtain ⟨o79, F⟩ := F
          refine pX4_42 C (S_x0.ext E78.1).k (okI_i rfl o79) dX4_ruleTold_80 ?_
          obtain ⟨h80, eh80⟩ : ∃ m : Mem, m = up h76 x0 2 (h70 x0 2 + 5) := ⟨_, rfl⟩
          have B81 : EX h0 h80 := by rw [eh80]; exact EX_up B77 (S_x0.ext E78.1).k (by decide) rfl (by decide) (okI_i rfl o79)
          have E82 : EX h h80 := by rw [eh80]; exact EX_up E78 (S_x0.ext E78.1).k (by decide) rfl (by decide) (okI_i rfl o79)
          refine v_mem eh80 ?_
          have F := F h80 eh80
          refine v_aload_n C 2 rfl rfl dX4_ruleTold_83 ?_
          refine gX4_233 C (S_x1.ext E82.1).k (S_x1.ext E82.1).f0 dX4_ruleTold_84 ?_
          refine v_aload_n C 2 rfl rfl dX4_ruleTold_87 ?_
          refine gX4_237 C (S_x1.ext E82.1).k (show h80 x1 1 = h70 x1 1 by rw [eh80, up_i (by decide), eh76, up_i (by decide)]) dX4_ruleTold_88 ?_
          refine v_aload_n C 1 rfl rfl dX4_ruleTold_91 ?_
          obtain ⟨c83, s84, o85, o86, F⟩ := F
          refine tX4_238 C N (S_x0.ext E82.1).k (d2 := 45) (kc2 := c83) (ks2 := s84) (by decide) o85 o86 (Nat.le_of_ble_eq_true rfl) dX4_ruleTold_92 (CtX.mono (F) ?_ ?_)
          · rintro r87 h88 ⟨e89, F⟩
            have F := F e89
            have B91 := B81.tr e89
            have E92 := E82.tr e89
            obtain ⟨o93, F⟩ := F
            obtain ⟨o94, F⟩ := F
            obtain ⟨o95, F⟩ := F
            refine v_aast C 8 (ci := 6) rfl (by decide) (S_x1.ext E92.1).k0 o93 (by rw [(S_x1.ext E92.1).l0]; exact o94) rfl o95 dX4_ruleTold_95 ?_
            obtain ⟨h96, eh96⟩ : ∃ m : Mem, m = up h88 (x1 + 1) (h70 x1 1) r87 := ⟨_, rfl⟩
            have B97 : EX h0 h96 := by rw [eh96]; exact EX_up B91 (S_x1.ext E92.1).k0 (by decide) rfl o93 (okI_r rfl rfl)
            have E98 : EX h h96 := by rw [eh96]; exact EX_up E92 (S_x1.ext E92.1).k0 (by decide) rfl o93 (okI_r rfl rfl)
            refine v_mem eh96 ?_
            have F := F h96 eh96
            refine v_aload_n C 2 rfl rfl dX4_ruleTold_96 ?_
            refine v_dup C (rf_n1 _) dX4_ruleTold_97 ?_
            refine gX4_237 C (S_x1.ext E98.1).k (show h96 x1 1 = h88 x1 1 by rw [eh96, up_a (by omega)]) dX4_ruleTold_98 ?_
            refine v_iconst C dX4_ruleTold_101 ?_
            refine v_iadd C dX4_ruleTold_102 ?_
            obtain ⟨o99, F⟩ := F
            refine pX4_237 C (S_x1.ext E98.1).k (okI_i rfl o99) dX4_ruleTold_103 ?_
            obtain ⟨h100, eh100⟩ : ∃ m : Mem, m = up h96 x1 1 (h88 x1 1 + 1) := ⟨_, rfl⟩
            have B101 : EX h0 h100 := by rw [eh100]; exact EX_up B97 (S_x1.ext E98.1).k (by decide) rfl (by decide) (okI_i rfl o99)
            have E102 : EX h h100 := by rw [eh100]; exact EX_up E98 (S_x1.ext E98.1).k (by decide) rfl (by decide) (okI_i rfl o99)
            refine v_mem eh100 ?_
            have F := F h100 eh100
            refine v_aload_n C 1 rfl rfl dX4_ruleTold_106 ?_
            refine v_bipush C rfl dX4_ruleTold_107 ?_
            refine mX4_195 C (S_x0.ext E102.1).k (d2 := 1) (kc2 := 0) (ks2 := 0) (by decide) o85 o86 (Nat.le_of_ble_eq_true rfl) dX4_ruleTold_109 (Ct.mono (F ⟨by decide, by decide⟩) ?_)
            rintro r103 h104 ⟨e105, g106, F⟩
            have F := F e105
            have B107 := B101.tr e105
            have E108 := E102.tr e105
            refine v_if_ne C 8 (bR g106) dX4_ruleTold_112 (by decide) (fun c109 => ?_) (fun c109 => ?_)
            · have F := F.1 (c109)
              refine v_sub (lv2 := [(0, rf x0), (1, rf x1)]) [1, 2] rfl ?_
              exact F ⟨B107, o85, o86⟩
            · have F := F.2 (c109)
              refine v_aload_n C 1 rfl rfl dX4_ruleTold_115 ?_
              refine tX4_198 C N (S_x0.ext E108.1).k (d2 := 1) (kc2 := 0) (ks2 := 0) (by decide) o85 o86 (Nat.le_of_ble_eq_true rfl) dX4_ruleTold_116 (CtX.mono (F) ?_ ?_)
              · rintro r110 h111 ⟨e112, F⟩
                have F := F e112
                have B114 := B107.tr e112
                have E115 := E108.tr e112
                refine v_aload_n C 2 rfl rfl dX4_ruleTold_119 ?_
                refine V.toX ?_
                exact v_aret C o85 o86 dX4_ruleTold_120 ⟨B114, F⟩
              · exact fun h9 F9 => ⟨B107.tr F9.1, F9.2⟩
          · exact fun h9 F9 => ⟨B81.tr F9.1, F9.2⟩
        · exact fun h9 F9 => ⟨B19.tr F9.1, F9.2⟩
    · exact fun h9 F9 => ⟨B12.tr F9.1, F9.2⟩
  · have F := F.2 (c14)
    refine v_iconst C dX4_ruleTold_33 ?_
    refine v_goto C 38 dX4_ruleTold_34 (by decide) ?_
    refine v_iconst C dX4_ruleTold_38 ?_
    refine v_iload_n C 0 rfl rfl dX4_ruleTold_39 ?_
    refine tX4_76 C N (S_x0.ext E13.1).k (d2 := 0) (kc2 := 0) (ks2 := 0) (by decide) U1 U2 (Nat.le_of_ble_eq_true rfl) dX4_ruleTold_40 (CtX.mono (F ⟨by decide, by decide⟩ ⟨by decide, by decide⟩ Ry7) ?_ ?_)
    · rintro r116 h117 ⟨e118, F⟩
      have F := F e118
      have B120 := B12.tr e118
      have E121 := E13.tr e118
      refine v_aload_n C 1 rfl rfl dX4_ruleTold_43 ?_
      refine v_aload_n C 1 rfl rfl dX4_ruleTold_44 ?_
      refine gX4_90 C (S_x0.ext E121.1).k rfl dX4_ruleTold_45 ?_
      refine v_bipush C rfl dX4_ruleTold_48 ?_
      refine v_icmp_ge C 57 (EX.rI B120 (j := 5) (S_x0.ext E121.1).k rfl) ⟨by decide, by decide⟩ dX4_ruleTold_50 (by decide) (fun c122 => ?_) (fun c122 => ?_)
      · have F := F.1 (c122)
        refine v_iconst C dX4_ruleTold_57 ?_
        refine v_iconst C dX4_ruleTold_58 ?_
        refine v_iload_n C 0 rfl rfl dX4_ruleTold_59 ?_
        refine tX4_76 C N (S_x0.ext E121.1).k (d2 := 0) (kc2 := 0) (ks2 := 0) (by decide) U1 U2 (Nat.le_of_ble_eq_true rfl) dX4_ruleTold_60 (CtX.mono (F ⟨by decide, by decide⟩ ⟨by decide, by decide⟩ Ry7) ?_ ?_)
        · rintro r123 h124 ⟨e125, F⟩
          have F := F e125
          have B127 := B120.tr e125
          have E128 := E121.tr e125
          refine v_aload_n C 1 rfl rfl dX4_ruleTold_63 ?_
          refine v_dup C (rf_n1 _) dX4_ruleTold_64 ?_
          refine gX4_90 C (S_x0.ext E128.1).k rfl dX4_ruleTold_65 ?_
          refine v_iconst C dX4_ruleTold_68 ?_
          refine v_iadd C dX4_ruleTold_69 ?_
          obtain ⟨o129, F⟩ := F
          refine pX4_90 C (S_x0.ext E128.1).k (okI_i rfl o129) dX4_ruleTold_70 ?_
          obtain ⟨h130, eh130⟩ : ∃ m : Mem, m = up h124 x0 5 (h124 x0 5 + 1) := ⟨_, rfl⟩
          have B131 : EX h0 h130 := by rw [eh130]; exact EX_up B127 (S_x0.ext E128.1).k (by decide) rfl (by decide) (okI_i rfl o129)
          have E132 : EX h h130 := by rw [eh130]; exact EX_up E128 (S_x0.ext E128.1).k (by decide) rfl (by decide) (okI_i rfl o129)
          refine v_mem eh130 ?_
          have F := F h130 eh130
          refine v_aload_n C 1 rfl rfl dX4_ruleTold_73 ?_
          refine v_dup C (rf_n1 _) dX4_ruleTold_74 ?_
          refine gX4_42 C (S_x0.ext E132.1).k (show h130 x0 2 = h124 x0 2 by rw [eh130, up_i (by decide)]) dX4_ruleTold_75 ?_
          refine v_iconst C dX4_ruleTold_78 ?_
          refine v_iadd C dX4_ruleTold_79 ?_
          obtain ⟨o133, F⟩ := F
          refine pX4_42 C (S_x0.ext E132.1).k (okI_i rfl o133) dX4_ruleTold_80 ?_
          obtain ⟨h134, eh134⟩ : ∃ m : Mem, m = up h130 x0 2 (h124 x0 2 + 5) := ⟨_, rfl⟩
          have B135 : EX h0 h134 := by rw [eh134]; exact EX_up B131 (S_x0.ext E132.1).k (by decide) rfl (by decide) (okI_i rfl o133)
          have E136 : EX h h134 := by rw [eh134]; exact EX_up E132 (S_x0.ext E132.1).k (by decide) rfl (by decide) (okI_i rfl o133)
          refine v_mem eh134 ?_
          have F := F h134 eh134
          refine v_aload_n C 2 rfl rfl dX4_ruleTold_83 ?_
          refine gX4_233 C (S_x1.ext E136.1).k (S_x1.ext E136.1).f0 dX4_ruleTold_84 ?_
          refine v_aload_n C 2 rfl rfl dX4_ruleTold_87 ?_
          refine gX4_237 C (S_x1.ext E136.1).k (show h134 x1 1 = h124 x1 1 by rw [eh134, up_i (by decide), eh130, up_i (by decide)]) dX4_ruleTold_88 ?_
          refine v_aload_n C 1 rfl rfl dX4_ruleTold_91 ?_
          obtain ⟨c137, s138, o139, o140, F⟩ := F
          refine tX4_238 C N (S_x0.ext E136.1).k (d2 := 45) (kc2 := c137) (ks2 := s138) (by decide) o139 o140 (Nat.le_of_ble_eq_true rfl) dX4_ruleTold_92 (CtX.mono (F) ?_ ?_)
          · rintro r141 h142 ⟨e143, F⟩
            have F := F e143
            have B145 := B135.tr e143
            have E146 := E136.tr e143
            obtain ⟨o147, F⟩ := F
            obtain ⟨o148, F⟩ := F
            obtain ⟨o149, F⟩ := F
            refine v_aast C 8 (ci := 6) rfl (by decide) (S_x1.ext E146.1).k0 o147 (by rw [(S_x1.ext E146.1).l0]; exact o148) rfl o149 dX4_ruleTold_95 ?_
            obtain ⟨h150, eh150⟩ : ∃ m : Mem, m = up h142 (x1 + 1) (h124 x1 1) r141 := ⟨_, rfl⟩
            have B151 : EX h0 h150 := by rw [eh150]; exact EX_up B145 (S_x1.ext E146.1).k0 (by decide) rfl o147 (okI_r rfl rfl)
            have E152 : EX h h150 := by rw [eh150]; exact EX_up E146 (S_x1.ext E146.1).k0 (by decide) rfl o147 (okI_r rfl rfl)
            refine v_mem eh150 ?_
            have F := F h150 eh150
            refine v_aload_n C 2 rfl rfl dX4_ruleTold_96 ?_
            refine v_dup C (rf_n1 _) dX4_ruleTold_97 ?_
            refine gX4_237 C (S_x1.ext E152.1).k (show h150 x1 1 = h142 x1 1 by rw [eh150, up_a (by omega)]) dX4_ruleTold_98 ?_
            refine v_iconst C dX4_ruleTold_101 ?_
            refine v_iadd C dX4_ruleTold_102 ?_
            obtain ⟨o153, F⟩ := F
            refine pX4_237 C (S_x1.ext E152.1).k (okI_i rfl o153) dX4_ruleTold_103 ?_
            obtain ⟨h154, eh154⟩ : ∃ m : Mem, m = up h150 x1 1 (h142 x1 1 + 1) := ⟨_, rfl⟩
            have B155 : EX h0 h154 := by rw [eh154]; exact EX_up B151 (S_x1.ext E152.1).k (by decide) rfl (by decide) (okI_i rfl o153)
            have E156 : EX h h154 := by rw [eh154]; exact EX_up E152 (S_x1.ext E152.1).k (by decide) rfl (by decide) (okI_i rfl o153)
            refine v_mem eh154 ?_
            have F := F h154 eh154
            refine v_aload_n C 1 rfl rfl dX4_ruleTold_106 ?_
            refine v_bipush C rfl dX4_ruleTold_107 ?_
            refine mX4_195 C (S_x0.ext E156.1).k (d2 := 1) (kc2 := 0) (ks2 := 0) (by decide) o139 o140 (Nat.le_of_ble_eq_true rfl) dX4_ruleTold_109 (Ct.mono (F ⟨by decide, by decide⟩) ?_)
            rintro r157 h158 ⟨e159, g160, F⟩
            have F := F e159
            have B161 := B155.tr e159
            have E162 := E156.tr e159
            refine v_if_ne C 8 (bR g160) dX4_ruleTold_112 (by decide) (fun c163 => ?_) (fun c163 => ?_)
            · have F := F.1 (c163)
              refine v_sub (lv2 := [(0, rf x0), (1, rf x1)]) [1, 2] rfl ?_
              exact F ⟨B161, o139, o140⟩
            · have F := F.2 (c163)
              refine v_aload_n C 1 rfl rfl dX4_ruleTold_115 ?_
              refine tX4_198 C N (S_x0.ext E162.1).k (d2 := 1) (kc2 := 0) (ks2 := 0) (by decide) o139 o140 (Nat.le_of_ble_eq_true rfl) dX4_ruleTold_116 (CtX.mono (F) ?_ ?_)
              · rintro r164 h165 ⟨e166, F⟩
                have F := F e166
                have B168 := B161.tr e166
                have E169 := E162.tr e166
                refine v_aload_n C 2 rfl rfl dX4_ruleTold_119 ?_
                refine V.toX ?_
                exact v_aret C o139 o140 dX4_ruleTold_120 ⟨B168, F⟩
              · exact fun h9 F9 => ⟨B161.tr F9.1, F9.2⟩
          · exact fun h9 F9 => ⟨B135.tr F9.1, F9.2⟩
        · exact fun h9 F9 => ⟨B120.tr F9.1, F9.2⟩
      · have F := F.2 (c122)
        refine v_iconst C dX4_ruleTold_53 ?_
        refine v_goto C 58 dX4_ruleTold_54 (by decide) ?_
        refine v_iconst C dX4_ruleTold_58 ?_
        refine v_iload_n C 0 rfl rfl dX4_ruleTold_59 ?_
        refine tX4_76 C N (S_x0.ext E121.1).k (d2 := 0) (kc2 := 0) (ks2 := 0) (by decide) U1 U2 (Nat.le_of_ble_eq_true rfl) dX4_ruleTold_60 (CtX.mono (F ⟨by decide, by decide⟩ ⟨by decide, by decide⟩ Ry7) ?_ ?_)
        · rintro r170 h171 ⟨e172, F⟩
          have F := F e172
          have B174 := B120.tr e172
          have E175 := E121.tr e172
          refine v_aload_n C 1 rfl rfl dX4_ruleTold_63 ?_
          refine v_dup C (rf_n1 _) dX4_ruleTold_64 ?_
          refine gX4_90 C (S_x0.ext E175.1).k rfl dX4_ruleTold_65 ?_
          refine v_iconst C dX4_ruleTold_68 ?_
          refine v_iadd C dX4_ruleTold_69 ?_
          obtain ⟨o176, F⟩ := F
          refine pX4_90 C (S_x0.ext E175.1).k (okI_i rfl o176) dX4_ruleTold_70 ?_
          obtain ⟨h177, eh177⟩ : ∃ m : Mem, m = up h171 x0 5 (h171 x0 5 + 1) := ⟨_, rfl⟩
          have B178 : EX h0 h177 := by rw [eh177]; exact EX_up B174 (S_x0.ext E175.1).k (by decide) rfl (by decide) (okI_i rfl o176)
          have E179 : EX h h177 := by rw [eh177]; exact EX_up E175 (S_x0.ext E175.1).k (by decide) rfl (by decide) (okI_i rfl o176)
          refine v_mem eh177 ?_
          have F := F h177 eh177
          refine v_aload_n C 1 rfl rfl dX4_ruleTold_73 ?_
          refine v_dup C (rf_n1 _) dX4_ruleTold_74 ?_
          refine gX4_42 C (S_x0.ext E179.1).k (show h177 x0 2 = h171 x0 2 by rw [eh177, up_i (by decide)]) dX4_ruleTold_75 ?_
          refine v_iconst C dX4_ruleTold_78 ?_
          refine v_iadd C dX4_ruleTold_79 ?_
          obtain ⟨o180, F⟩ := F
          refine pX4_42 C (S_x0.ext E179.1).k (okI_i rfl o180) dX4_ruleTold_80 ?_
          obtain ⟨h181, eh181⟩ : ∃ m : Mem, m = up h177 x0 2 (h171 x0 2 + 5) := ⟨_, rfl⟩
          have B182 : EX h0 h181 := by rw [eh181]; exact EX_up B178 (S_x0.ext E179.1).k (by decide) rfl (by decide) (okI_i rfl o180)
          have E183 : EX h h181 := by rw [eh181]; exact EX_up E179 (S_x0.ext E179.1).k (by decide) rfl (by decide) (okI_i rfl o180)
          refine v_mem eh181 ?_
          have F := F h181 eh181
          refine v_aload_n C 2 rfl rfl dX4_ruleTold_83 ?_
          refine gX4_233 C (S_x1.ext E183.1).k (S_x1.ext E183.1).f0 dX4_ruleTold_84 ?_
          refine v_aload_n C 2 rfl rfl dX4_ruleTold_87 ?_
          refine gX4_237 C (S_x1.ext E183.1).k (show h181 x1 1 = h171 x1 1 by rw [eh181, up_i (by decide), eh177, up_i (by decide)]) dX4_ruleTold_88 ?_
          refine v_aload_n C 1 rfl rfl dX4_ruleTold_91 ?_
          obtain ⟨c184, s185, o186, o187, F⟩ := F
          refine tX4_238 C N (S_x0.ext E183.1).k (d2 := 45) (kc2 := c184) (ks2 := s185) (by decide) o186 o187 (Nat.le_of_ble_eq_true rfl) dX4_ruleTold_92 (CtX.mono (F) ?_ ?_)
          · rintro r188 h189 ⟨e190, F⟩
            have F := F e190
            have B192 := B182.tr e190
            have E193 := E183.tr e190
            obtain ⟨o194, F⟩ := F
            obtain ⟨o195, F⟩ := F
            obtain ⟨o196, F⟩ := F
            refine v_aast C 8 (ci := 6) rfl (by decide) (S_x1.ext E193.1).k0 o194 (by rw [(S_x1.ext E193.1).l0]; exact o195) rfl o196 dX4_ruleTold_95 ?_
            obtain ⟨h197, eh197⟩ : ∃ m : Mem, m = up h189 (x1 + 1) (h171 x1 1) r188 := ⟨_, rfl⟩
            have B198 : EX h0 h197 := by rw [eh197]; exact EX_up B192 (S_x1.ext E193.1).k0 (by decide) rfl o194 (okI_r rfl rfl)
            have E199 : EX h h197 := by rw [eh197]; exact EX_up E193 (S_x1.ext E193.1).k0 (by decide) rfl o194 (okI_r rfl rfl)
            refine v_mem eh197 ?_
            have F := F h197 eh197
            refine v_aload_n C 2 rfl rfl dX4_ruleTold_96 ?_
            refine v_dup C (rf_n1 _) dX4_ruleTold_97 ?_
            refine gX4_237 C (S_x1.ext E199.1).k (show h197 x1 1 = h189 x1 1 by rw [eh197, up_a (by omega)]) dX4_ruleTold_98 ?_
            refine v_iconst C dX4_ruleTold_101 ?_
            refine v_iadd C dX4_ruleTold_102 ?_
            obtain ⟨o200, F⟩ := F
            refine pX4_237 C (S_x1.ext E199.1).k (okI_i rfl o200) dX4_ruleTold_103 ?_
            obtain ⟨h201, eh201⟩ : ∃ m : Mem, m = up h197 x1 1 (h189 x1 1 + 1) := ⟨_, rfl⟩
            have B202 : EX h0 h201 := by rw [eh201]; exact EX_up B198 (S_x1.ext E199.1).k (by decide) rfl (by decide) (okI_i rfl o200)
            have E203 : EX h h201 := by rw [eh201]; exact EX_up E199 (S_x1.ext E199.1).k (by decide) rfl (by decide) (okI_i rfl o200)
            refine v_mem eh201 ?_
            have F := F h201 eh201
            refine v_aload_n C 1 rfl rfl dX4_ruleTold_106 ?_
            refine v_bipush C rfl dX4_ruleTold_107 ?_
            refine mX4_195 C (S_x0.ext E203.1).k (d2 := 1) (kc2 := 0) (ks2 := 0) (by decide) o186 o187 (Nat.le_of_ble_eq_true rfl) dX4_ruleTold_109 (Ct.mono (F ⟨by decide, by decide⟩) ?_)
            rintro r204 h205 ⟨e206, g207, F⟩
            have F := F e206
            have B208 := B202.tr e206
            have E209 := E203.tr e206
            refine v_if_ne C 8 (bR g207) dX4_ruleTold_112 (by decide) (fun c210 => ?_) (fun c210 => ?_)
            · have F := F.1 (c210)
              refine v_sub (lv2 := [(0, rf x0), (1, rf x1)]) [1, 2] rfl ?_
              exact F ⟨B208, o186, o187⟩
            · have F := F.2 (c210)
              refine v_aload_n C 1 rfl rfl dX4_ruleTold_115 ?_
              refine tX4_198 C N (S_x0.ext E209.1).k (d2 := 1) (kc2 := 0) (ks2 := 0) (by decide) o186 o187 (Nat.le_of_ble_eq_true rfl) dX4_ruleTold_116 (CtX.mono (F) ?_ ?_)
              · rintro r211 h212 ⟨e213, F⟩
                have F := F e213
                have B215 := B208.tr e213
                have E216 := E209.tr e213
                refine v_aload_n C 2 rfl rfl dX4_ruleTold_119 ?_
                refine V.toX ?_
                exact v_aret C o186 o187 dX4_ruleTold_120 ⟨B215, F⟩
              · exact fun h9 F9 => ⟨B208.tr F9.1, F9.2⟩
          · exact fun h9 F9 => ⟨B182.tr F9.1, F9.2⟩
        · exact fun h9 F9 => ⟨B120.tr F9.1, F9.2⟩
    · exact fun h9 F9 => ⟨B12.tr F9.1, F9.2⟩
set_option maxHeartbeats 1000000 in
theorem eX4_ruleTold {G : GT} {l : Launch} {kc ks : Nat} {x0 : Int} {h : Mem} {P : Int → Mem → Prop} {PX : Mem → Prop} (F : ∀ X : MX, Cx G X cX4_ruleTold 3 RX4 46 kc ks (some (.object "LatestCoat$Rule")) "ruleTold" → NoH X → X.2.1 = l → (EX h h) →
    0 + 1 ≤ kc ∧ 0 + 2 ≤ ks ∧ ∀ h3 : Mem, h3 = alloc h 6 0 → ∀ a4 : Int, a4 = h 0 0 → ∃ c7 s8 : Nat, 0 + 1 + c7 ≤ kc ∧ 0 + 2 + s8 ≤ ks ∧ kX5_init G X.2.1 c7 s8 a4 h3 (fun _ h12 => BX a4 h3 h12 → (EX h h12 ∧ 0 + 1 + c7 ≤ kc ∧ 0 + 2 + s8 ≤ ks → V G X 3 (0 + 1 + c7) (0 + 2 + s8) (QX G X 2 kc ks (PR h P) (PE h PX)) 8 [(0, rf x0), (1, rf a4)] [] h12))) :
    kX4_ruleTold G l kc ks x0 h P PX := by
  refine ct_ofX (by decide +kernel) (Nat.le_of_ble_eq_true rfl) fun X C N e => ?_
  refine v_okz fun O => ?_
  exact wX4_ruleTold_0 (uc := 0) (us := 0) C N (EX.rf O) (F X C N e (EX.rf O))
