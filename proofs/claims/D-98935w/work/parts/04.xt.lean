/-! LatestCoat$Town -/
set_option maxRecDepth 100000
def RX1 : String := "LatestCoat$Town"
def TX1 : u_T := fun k => match k with
  | 0 => ("LatestCoat$Town", "dry", "I", false)
  | 1 => ("LatestCoat$Town", "part", "I", false)
  | 2 => ("LatestCoat$Town", "cost", "I", false)
  | 3 => ("LatestCoat$Town", "thingMany", "I", false)
  | 4 => ("LatestCoat$Town", "cellMany", "I", false)
  | 5 => ("LatestCoat$Town", "painterMany", "I", false)
  | 6 => ("LatestCoat$Town", "rainMany", "I", false)
  | 7 => ("LatestCoat$Town", "suit", "I", false)
  | 8 => ("LatestCoat$Town", "logMany", "I", false)
  | 9 => ("LatestCoat$Town", "undoMany", "I", false)
  | 10 => ("LatestCoat$Town", "toldBare", "I", false)
  | 11 => ("LatestCoat$Town", "now", "I", false)
  | 12 => ("LatestCoat$Town", "bare", "I", false)
  | 13 => ("LatestCoat$Town", "first", "[I", true)
  | 14 => ("LatestCoat$Town", "size", "[I", true)
  | 15 => ("LatestCoat$Town", "rent", "[I", true)
  | 16 => ("LatestCoat$Town", "thingOf", "[I", true)
  | 17 => ("LatestCoat$Town", "colour", "[I", true)
  | 18 => ("LatestCoat$Town", "toldPurse", "[I", true)
  | 19 => ("LatestCoat$Town", "toldMany", "[I", true)
  | 20 => ("LatestCoat$Town", "toldBy", "[I", true)
  | 21 => ("LatestCoat$Town", "rains", "[I", true)
  | 22 => ("LatestCoat$Town", "logs", "[I", true)
  | 23 => ("LatestCoat$Town", "many", "[I", true)
  | 24 => ("LatestCoat$Town", "by", "[I", true)
  | 25 => ("LatestCoat$Town", "when", "[I", true)
  | 26 => ("LatestCoat$Town", "purse", "[I", true)
  | 27 => ("LatestCoat$Town", "undo", "[I", true)
  | 28 => ("LatestCoat$Town", "words", "[J", true)
  | _ => ("LatestCoat$Town", "owns", "[I", true)
def tyX1 : Nat → FieldType := fun k => match k with
  | 0 => .int
  | 1 => .int
  | 2 => .int
  | 3 => .int
  | 4 => .int
  | 5 => .int
  | 6 => .int
  | 7 => .int
  | 8 => .int
  | 9 => .int
  | 10 => .int
  | 11 => .int
  | 12 => .int
  | 13 => .array .int
  | 14 => .array .int
  | 15 => .array .int
  | 16 => .array .int
  | 17 => .array .int
  | 18 => .array .int
  | 19 => .array .int
  | 20 => .array .int
  | 21 => .array .int
  | 22 => .array .int
  | 23 => .array .int
  | 24 => .array .int
  | 25 => .array .int
  | 26 => .array .int
  | 27 => .array .int
  | 28 => .array .long
  | _ => .array .int
abbrev wsX10 : List Cond := u_ws RX1 TX1 30
set_option maxRecDepth 100000 in
theorem nmX1 : ∀ a, a < 30 → ∀ b, b < 30 → a ≠ b → (TX1 a).2.1 ≠ (TX1 b).2.1 := by decide +kernel
set_option maxRecDepth 100000 in
theorem tyX1_ok : ∀ k, k < 30 → parseFieldDescriptor (TX1 k).2.2.1 = some (tyX1 k) := by decide +kernel
abbrev cX1_init : ByteArray := prog_13_method_1_code
def yX1_init : MethodName := ⟨RX1, "<init>", "()V"⟩
def dkwX1_init_5 : List UInt8 := [181, 0, 54, 42, 16, 13, 188, 11, 181, 0, 57, 42, 7, 188, 10, 181, 0, 61, 177]
abbrev dktX1_init_5 : List UInt8 := dkwX1_init_5 ++ []
def dkwX1_init_4 : List UInt8 := [181, 0, 45, 42, 16, 80, 188, 10, 181, 0, 48, 42, 7, 188, 10, 181, 0, 51, 42, 17, 14, 56, 188, 10]
abbrev dktX1_init_4 : List UInt8 := dkwX1_init_4 ++ dktX1_init_5
def dkwX1_init_3 : List UInt8 := [181, 0, 36, 42, 16, 30, 188, 10, 181, 0, 39, 42, 16, 16, 188, 10, 181, 0, 42, 42, 16, 80, 188, 10]
abbrev dktX1_init_3 : List UInt8 := dkwX1_init_3 ++ dktX1_init_4
def dkwX1_init_2 : List UInt8 := [181, 0, 27, 42, 16, 16, 188, 10, 181, 0, 30, 42, 16, 80, 188, 10, 181, 0, 33, 42, 16, 10, 188, 10]
abbrev dktX1_init_2 : List UInt8 := dkwX1_init_2 ++ dktX1_init_3
def dkwX1_init_1 : List UInt8 := [181, 0, 18, 42, 16, 16, 188, 10, 181, 0, 21, 42, 7, 188, 10, 181, 0, 24, 42, 7, 188, 10]
abbrev dktX1_init_1 : List UInt8 := dkwX1_init_1 ++ dktX1_init_2
def dkwX1_init_0 : List UInt8 := [42, 183, 0, 3, 42, 7, 188, 10, 181, 0, 9, 42, 7, 188, 10, 181, 0, 15, 42, 7, 188, 10]
abbrev dktX1_init_0 : List UInt8 := dkwX1_init_0 ++ dktX1_init_1
theorem dksX1_init_0 : cX1_init.data.toList.drop 0 = dktX1_init_0 := by decide +kernel
theorem dksX1_init_1 : cX1_init.data.toList.drop 22 = dktX1_init_1 := dk_seg dksX1_init_0 22 rfl rfl
theorem dksX1_init_2 : cX1_init.data.toList.drop 44 = dktX1_init_2 := dk_seg dksX1_init_1 22 rfl rfl
theorem dksX1_init_3 : cX1_init.data.toList.drop 68 = dktX1_init_3 := dk_seg dksX1_init_2 24 rfl rfl
theorem dksX1_init_4 : cX1_init.data.toList.drop 92 = dktX1_init_4 := dk_seg dksX1_init_3 24 rfl rfl
theorem dksX1_init_5 : cX1_init.data.toList.drop 116 = dktX1_init_5 := dk_seg dksX1_init_4 24 rfl rfl
theorem dX1_init_0 : decode cX1_init 0 = .ok (.aload_n 0, 1) := dk_42 (dk_at dksX1_init_0 0 rfl rfl)
theorem dX1_init_1 : decode cX1_init 1 = .ok (.invokespecial 3, 3) := dk_183 0 3 (dk_at dksX1_init_0 1 rfl rfl)
theorem dX1_init_4 : decode cX1_init 4 = .ok (.aload_n 0, 1) := dk_42 (dk_at dksX1_init_0 4 rfl rfl)
theorem dX1_init_5 : decode cX1_init 5 = .ok (.iconst 4, 1) := dk_7 (dk_at dksX1_init_0 5 rfl rfl)
theorem dX1_init_6 : decode cX1_init 6 = .ok (.newarray .int, 2) := dk_188_10 (dk_at dksX1_init_0 6 rfl rfl)
theorem dX1_init_8 : decode cX1_init 8 = .ok (.putfield 9, 3) := dk_181 0 9 (dk_at dksX1_init_0 8 rfl rfl)
theorem dX1_init_11 : decode cX1_init 11 = .ok (.aload_n 0, 1) := dk_42 (dk_at dksX1_init_0 11 rfl rfl)
theorem dX1_init_12 : decode cX1_init 12 = .ok (.iconst 4, 1) := dk_7 (dk_at dksX1_init_0 12 rfl rfl)
theorem dX1_init_13 : decode cX1_init 13 = .ok (.newarray .int, 2) := dk_188_10 (dk_at dksX1_init_0 13 rfl rfl)
theorem dX1_init_15 : decode cX1_init 15 = .ok (.putfield 15, 3) := dk_181 0 15 (dk_at dksX1_init_0 15 rfl rfl)
theorem dX1_init_18 : decode cX1_init 18 = .ok (.aload_n 0, 1) := dk_42 (dk_at dksX1_init_0 18 rfl rfl)
theorem dX1_init_19 : decode cX1_init 19 = .ok (.iconst 4, 1) := dk_7 (dk_at dksX1_init_0 19 rfl rfl)
theorem dX1_init_20 : decode cX1_init 20 = .ok (.newarray .int, 2) := dk_188_10 (dk_at dksX1_init_0 20 rfl rfl)
theorem dX1_init_22 : decode cX1_init 22 = .ok (.putfield 18, 3) := dk_181 0 18 (dk_at dksX1_init_1 0 rfl rfl)
theorem dX1_init_25 : decode cX1_init 25 = .ok (.aload_n 0, 1) := dk_42 (dk_at dksX1_init_1 3 rfl rfl)
theorem dX1_init_26 : decode cX1_init 26 = .ok (.bipush 16, 2) := dk_16 16 (dk_at dksX1_init_1 4 rfl rfl)
theorem dX1_init_28 : decode cX1_init 28 = .ok (.newarray .int, 2) := dk_188_10 (dk_at dksX1_init_1 6 rfl rfl)
theorem dX1_init_30 : decode cX1_init 30 = .ok (.putfield 21, 3) := dk_181 0 21 (dk_at dksX1_init_1 8 rfl rfl)
theorem dX1_init_33 : decode cX1_init 33 = .ok (.aload_n 0, 1) := dk_42 (dk_at dksX1_init_1 11 rfl rfl)
theorem dX1_init_34 : decode cX1_init 34 = .ok (.iconst 4, 1) := dk_7 (dk_at dksX1_init_1 12 rfl rfl)
theorem dX1_init_35 : decode cX1_init 35 = .ok (.newarray .int, 2) := dk_188_10 (dk_at dksX1_init_1 13 rfl rfl)
theorem dX1_init_37 : decode cX1_init 37 = .ok (.putfield 24, 3) := dk_181 0 24 (dk_at dksX1_init_1 15 rfl rfl)
theorem dX1_init_40 : decode cX1_init 40 = .ok (.aload_n 0, 1) := dk_42 (dk_at dksX1_init_1 18 rfl rfl)
theorem dX1_init_41 : decode cX1_init 41 = .ok (.iconst 4, 1) := dk_7 (dk_at dksX1_init_1 19 rfl rfl)
theorem dX1_init_42 : decode cX1_init 42 = .ok (.newarray .int, 2) := dk_188_10 (dk_at dksX1_init_1 20 rfl rfl)
theorem dX1_init_44 : decode cX1_init 44 = .ok (.putfield 27, 3) := dk_181 0 27 (dk_at dksX1_init_2 0 rfl rfl)
theorem dX1_init_47 : decode cX1_init 47 = .ok (.aload_n 0, 1) := dk_42 (dk_at dksX1_init_2 3 rfl rfl)
theorem dX1_init_48 : decode cX1_init 48 = .ok (.bipush 16, 2) := dk_16 16 (dk_at dksX1_init_2 4 rfl rfl)
theorem dX1_init_50 : decode cX1_init 50 = .ok (.newarray .int, 2) := dk_188_10 (dk_at dksX1_init_2 6 rfl rfl)
theorem dX1_init_52 : decode cX1_init 52 = .ok (.putfield 30, 3) := dk_181 0 30 (dk_at dksX1_init_2 8 rfl rfl)
theorem dX1_init_55 : decode cX1_init 55 = .ok (.aload_n 0, 1) := dk_42 (dk_at dksX1_init_2 11 rfl rfl)
theorem dX1_init_56 : decode cX1_init 56 = .ok (.bipush 80, 2) := dk_16 80 (dk_at dksX1_init_2 12 rfl rfl)
theorem dX1_init_58 : decode cX1_init 58 = .ok (.newarray .int, 2) := dk_188_10 (dk_at dksX1_init_2 14 rfl rfl)
theorem dX1_init_60 : decode cX1_init 60 = .ok (.putfield 33, 3) := dk_181 0 33 (dk_at dksX1_init_2 16 rfl rfl)
theorem dX1_init_63 : decode cX1_init 63 = .ok (.aload_n 0, 1) := dk_42 (dk_at dksX1_init_2 19 rfl rfl)
theorem dX1_init_64 : decode cX1_init 64 = .ok (.bipush 10, 2) := dk_16 10 (dk_at dksX1_init_2 20 rfl rfl)
theorem dX1_init_66 : decode cX1_init 66 = .ok (.newarray .int, 2) := dk_188_10 (dk_at dksX1_init_2 22 rfl rfl)
theorem dX1_init_68 : decode cX1_init 68 = .ok (.putfield 36, 3) := dk_181 0 36 (dk_at dksX1_init_3 0 rfl rfl)
theorem dX1_init_71 : decode cX1_init 71 = .ok (.aload_n 0, 1) := dk_42 (dk_at dksX1_init_3 3 rfl rfl)
theorem dX1_init_72 : decode cX1_init 72 = .ok (.bipush 30, 2) := dk_16 30 (dk_at dksX1_init_3 4 rfl rfl)
theorem dX1_init_74 : decode cX1_init 74 = .ok (.newarray .int, 2) := dk_188_10 (dk_at dksX1_init_3 6 rfl rfl)
theorem dX1_init_76 : decode cX1_init 76 = .ok (.putfield 39, 3) := dk_181 0 39 (dk_at dksX1_init_3 8 rfl rfl)
theorem dX1_init_79 : decode cX1_init 79 = .ok (.aload_n 0, 1) := dk_42 (dk_at dksX1_init_3 11 rfl rfl)
theorem dX1_init_80 : decode cX1_init 80 = .ok (.bipush 16, 2) := dk_16 16 (dk_at dksX1_init_3 12 rfl rfl)
theorem dX1_init_82 : decode cX1_init 82 = .ok (.newarray .int, 2) := dk_188_10 (dk_at dksX1_init_3 14 rfl rfl)
theorem dX1_init_84 : decode cX1_init 84 = .ok (.putfield 42, 3) := dk_181 0 42 (dk_at dksX1_init_3 16 rfl rfl)
theorem dX1_init_87 : decode cX1_init 87 = .ok (.aload_n 0, 1) := dk_42 (dk_at dksX1_init_3 19 rfl rfl)
theorem dX1_init_88 : decode cX1_init 88 = .ok (.bipush 80, 2) := dk_16 80 (dk_at dksX1_init_3 20 rfl rfl)
theorem dX1_init_90 : decode cX1_init 90 = .ok (.newarray .int, 2) := dk_188_10 (dk_at dksX1_init_3 22 rfl rfl)
theorem dX1_init_92 : decode cX1_init 92 = .ok (.putfield 45, 3) := dk_181 0 45 (dk_at dksX1_init_4 0 rfl rfl)
theorem dX1_init_95 : decode cX1_init 95 = .ok (.aload_n 0, 1) := dk_42 (dk_at dksX1_init_4 3 rfl rfl)
theorem dX1_init_96 : decode cX1_init 96 = .ok (.bipush 80, 2) := dk_16 80 (dk_at dksX1_init_4 4 rfl rfl)
theorem dX1_init_98 : decode cX1_init 98 = .ok (.newarray .int, 2) := dk_188_10 (dk_at dksX1_init_4 6 rfl rfl)
theorem dX1_init_100 : decode cX1_init 100 = .ok (.putfield 48, 3) := dk_181 0 48 (dk_at dksX1_init_4 8 rfl rfl)
theorem dX1_init_103 : decode cX1_init 103 = .ok (.aload_n 0, 1) := dk_42 (dk_at dksX1_init_4 11 rfl rfl)
theorem dX1_init_104 : decode cX1_init 104 = .ok (.iconst 4, 1) := dk_7 (dk_at dksX1_init_4 12 rfl rfl)
theorem dX1_init_105 : decode cX1_init 105 = .ok (.newarray .int, 2) := dk_188_10 (dk_at dksX1_init_4 13 rfl rfl)
theorem dX1_init_107 : decode cX1_init 107 = .ok (.putfield 51, 3) := dk_181 0 51 (dk_at dksX1_init_4 15 rfl rfl)
theorem dX1_init_110 : decode cX1_init 110 = .ok (.aload_n 0, 1) := dk_42 (dk_at dksX1_init_4 18 rfl rfl)
theorem dX1_init_111 : decode cX1_init 111 = .ok (.sipush 3640, 3) := dk_17 14 56 (dk_at dksX1_init_4 19 rfl rfl)
theorem dX1_init_114 : decode cX1_init 114 = .ok (.newarray .int, 2) := dk_188_10 (dk_at dksX1_init_4 22 rfl rfl)
theorem dX1_init_116 : decode cX1_init 116 = .ok (.putfield 54, 3) := dk_181 0 54 (dk_at dksX1_init_5 0 rfl rfl)
theorem dX1_init_119 : decode cX1_init 119 = .ok (.aload_n 0, 1) := dk_42 (dk_at dksX1_init_5 3 rfl rfl)
theorem dX1_init_120 : decode cX1_init 120 = .ok (.bipush 13, 2) := dk_16 13 (dk_at dksX1_init_5 4 rfl rfl)
theorem dX1_init_122 : decode cX1_init 122 = .ok (.newarray .long, 2) := dk_188_11 (dk_at dksX1_init_5 6 rfl rfl)
theorem dX1_init_124 : decode cX1_init 124 = .ok (.putfield 57, 3) := dk_181 0 57 (dk_at dksX1_init_5 8 rfl rfl)
theorem dX1_init_127 : decode cX1_init 127 = .ok (.aload_n 0, 1) := dk_42 (dk_at dksX1_init_5 11 rfl rfl)
theorem dX1_init_128 : decode cX1_init 128 = .ok (.iconst 4, 1) := dk_7 (dk_at dksX1_init_5 12 rfl rfl)
theorem dX1_init_129 : decode cX1_init 129 = .ok (.newarray .int, 2) := dk_188_10 (dk_at dksX1_init_5 13 rfl rfl)
theorem dX1_init_131 : decode cX1_init 131 = .ok (.putfield 61, 3) := dk_181 0 61 (dk_at dksX1_init_5 15 rfl rfl)
theorem dX1_init_134 : decode cX1_init 134 = .ok (.return_, 1) := dk_177 (dk_at dksX1_init_5 18 rfl rfl)
abbrev cX1_copies : ByteArray := prog_13_method_2_code
def yX1_copies : MethodName := ⟨RX1, "copies", "(LLatestCoat$Town;)LLatestCoat$Town;"⟩
def dkwX1_copies_10 : List UInt8 := [180, 0, 54, 3, 42, 180, 0, 54, 3, 17, 14, 56, 184, 0, 98, 42, 43, 182, 0, 104, 176]
abbrev dktX1_copies_10 : List UInt8 := dkwX1_copies_10 ++ []
def dkwX1_copies_9 : List UInt8 := [3, 16, 10, 184, 0, 98, 43, 180, 0, 39, 3, 42, 180, 0, 39, 3, 16, 30, 184, 0, 98, 43]
abbrev dktX1_copies_9 : List UInt8 := dkwX1_copies_9 ++ dktX1_copies_10
def dkwX1_copies_8 : List UInt8 := [43, 180, 0, 33, 3, 42, 180, 0, 33, 3, 16, 80, 184, 0, 98, 43, 180, 0, 36, 3, 42, 180, 0, 36]
abbrev dktX1_copies_8 : List UInt8 := dkwX1_copies_8 ++ dktX1_copies_9
def dkwX1_copies_7 : List UInt8 := [42, 180, 0, 27, 3, 7, 184, 0, 98, 43, 180, 0, 30, 3, 42, 180, 0, 30, 3, 16, 16, 184, 0, 98]
abbrev dktX1_copies_7 : List UInt8 := dkwX1_copies_7 ++ dktX1_copies_8
def dkwX1_copies_6 : List UInt8 := [16, 16, 184, 0, 98, 43, 180, 0, 24, 3, 42, 180, 0, 24, 3, 7, 184, 0, 98, 43, 180, 0, 27, 3]
abbrev dktX1_copies_6 : List UInt8 := dkwX1_copies_6 ++ dktX1_copies_7
def dkwX1_copies_5 : List UInt8 := [180, 0, 18, 3, 42, 180, 0, 18, 3, 7, 184, 0, 98, 43, 180, 0, 21, 3, 42, 180, 0, 21, 3]
abbrev dktX1_copies_5 : List UInt8 := dkwX1_copies_5 ++ dktX1_copies_6
def dkwX1_copies_4 : List UInt8 := [180, 0, 9, 3, 7, 184, 0, 98, 43, 180, 0, 15, 3, 42, 180, 0, 15, 3, 7, 184, 0, 98, 43]
abbrev dktX1_copies_4 : List UInt8 := dkwX1_copies_4 ++ dktX1_copies_5
def dkwX1_copies_3 : List UInt8 := [42, 43, 180, 0, 92, 181, 0, 92, 42, 43, 180, 0, 95, 181, 0, 95, 43, 180, 0, 9, 3, 42]
abbrev dktX1_copies_3 : List UInt8 := dkwX1_copies_3 ++ dktX1_copies_4
def dkwX1_copies_2 : List UInt8 := [42, 43, 180, 0, 83, 181, 0, 83, 42, 43, 180, 0, 86, 181, 0, 86, 42, 43, 180, 0, 89, 181, 0, 89]
abbrev dktX1_copies_2 : List UInt8 := dkwX1_copies_2 ++ dktX1_copies_3
def dkwX1_copies_1 : List UInt8 := [42, 43, 180, 0, 74, 181, 0, 74, 42, 43, 180, 0, 77, 181, 0, 77, 42, 43, 180, 0, 80, 181, 0, 80]
abbrev dktX1_copies_1 : List UInt8 := dkwX1_copies_1 ++ dktX1_copies_2
def dkwX1_copies_0 : List UInt8 := [42, 43, 180, 0, 64, 181, 0, 64, 42, 43, 180, 0, 68, 181, 0, 68, 42, 43, 180, 0, 71, 181, 0, 71]
abbrev dktX1_copies_0 : List UInt8 := dkwX1_copies_0 ++ dktX1_copies_1
theorem dksX1_copies_0 : cX1_copies.data.toList.drop 0 = dktX1_copies_0 := by decide +kernel
theorem dksX1_copies_1 : cX1_copies.data.toList.drop 24 = dktX1_copies_1 := dk_seg dksX1_copies_0 24 rfl rfl
theorem dksX1_copies_2 : cX1_copies.data.toList.drop 48 = dktX1_copies_2 := dk_seg dksX1_copies_1 24 rfl rfl
theorem dksX1_copies_3 : cX1_copies.data.toList.drop 72 = dktX1_copies_3 := dk_seg dksX1_copies_2 24 rfl rfl
theorem dksX1_copies_4 : cX1_copies.data.toList.drop 94 = dktX1_copies_4 := dk_seg dksX1_copies_3 22 rfl rfl
theorem dksX1_copies_5 : cX1_copies.data.toList.drop 117 = dktX1_copies_5 := dk_seg dksX1_copies_4 23 rfl rfl
theorem dksX1_copies_6 : cX1_copies.data.toList.drop 140 = dktX1_copies_6 := dk_seg dksX1_copies_5 23 rfl rfl
theorem dksX1_copies_7 : cX1_copies.data.toList.drop 164 = dktX1_copies_7 := dk_seg dksX1_copies_6 24 rfl rfl
theorem dksX1_copies_8 : cX1_copies.data.toList.drop 188 = dktX1_copies_8 := dk_seg dksX1_copies_7 24 rfl rfl
theorem dksX1_copies_9 : cX1_copies.data.toList.drop 212 = dktX1_copies_9 := dk_seg dksX1_copies_8 24 rfl rfl
theorem dksX1_copies_10 : cX1_copies.data.toList.drop 234 = dktX1_copies_10 := dk_seg dksX1_copies_9 22 rfl rfl
theorem dX1_copies_0 : decode cX1_copies 0 = .ok (.aload_n 0, 1) := dk_42 (dk_at dksX1_copies_0 0 rfl rfl)
theorem dX1_copies_1 : decode cX1_copies 1 = .ok (.aload_n 1, 1) := dk_43 (dk_at dksX1_copies_0 1 rfl rfl)
theorem dX1_copies_2 : decode cX1_copies 2 = .ok (.getfield 64, 3) := dk_180 0 64 (dk_at dksX1_copies_0 2 rfl rfl)
theorem dX1_copies_5 : decode cX1_copies 5 = .ok (.putfield 64, 3) := dk_181 0 64 (dk_at dksX1_copies_0 5 rfl rfl)
theorem dX1_copies_8 : decode cX1_copies 8 = .ok (.aload_n 0, 1) := dk_42 (dk_at dksX1_copies_0 8 rfl rfl)
theorem dX1_copies_9 : decode cX1_copies 9 = .ok (.aload_n 1, 1) := dk_43 (dk_at dksX1_copies_0 9 rfl rfl)
theorem dX1_copies_10 : decode cX1_copies 10 = .ok (.getfield 68, 3) := dk_180 0 68 (dk_at dksX1_copies_0 10 rfl rfl)
theorem dX1_copies_13 : decode cX1_copies 13 = .ok (.putfield 68, 3) := dk_181 0 68 (dk_at dksX1_copies_0 13 rfl rfl)
theorem dX1_copies_16 : decode cX1_copies 16 = .ok (.aload_n 0, 1) := dk_42 (dk_at dksX1_copies_0 16 rfl rfl)
theorem dX1_copies_17 : decode cX1_copies 17 = .ok (.aload_n 1, 1) := dk_43 (dk_at dksX1_copies_0 17 rfl rfl)
theorem dX1_copies_18 : decode cX1_copies 18 = .ok (.getfield 71, 3) := dk_180 0 71 (dk_at dksX1_copies_0 18 rfl rfl)
theorem dX1_copies_21 : decode cX1_copies 21 = .ok (.putfield 71, 3) := dk_181 0 71 (dk_at dksX1_copies_0 21 rfl rfl)
theorem dX1_copies_24 : decode cX1_copies 24 = .ok (.aload_n 0, 1) := dk_42 (dk_at dksX1_copies_1 0 rfl rfl)
theorem dX1_copies_25 : decode cX1_copies 25 = .ok (.aload_n 1, 1) := dk_43 (dk_at dksX1_copies_1 1 rfl rfl)
theorem dX1_copies_26 : decode cX1_copies 26 = .ok (.getfield 74, 3) := dk_180 0 74 (dk_at dksX1_copies_1 2 rfl rfl)
theorem dX1_copies_29 : decode cX1_copies 29 = .ok (.putfield 74, 3) := dk_181 0 74 (dk_at dksX1_copies_1 5 rfl rfl)
theorem dX1_copies_32 : decode cX1_copies 32 = .ok (.aload_n 0, 1) := dk_42 (dk_at dksX1_copies_1 8 rfl rfl)
theorem dX1_copies_33 : decode cX1_copies 33 = .ok (.aload_n 1, 1) := dk_43 (dk_at dksX1_copies_1 9 rfl rfl)
theorem dX1_copies_34 : decode cX1_copies 34 = .ok (.getfield 77, 3) := dk_180 0 77 (dk_at dksX1_copies_1 10 rfl rfl)
theorem dX1_copies_37 : decode cX1_copies 37 = .ok (.putfield 77, 3) := dk_181 0 77 (dk_at dksX1_copies_1 13 rfl rfl)
theorem dX1_copies_40 : decode cX1_copies 40 = .ok (.aload_n 0, 1) := dk_42 (dk_at dksX1_copies_1 16 rfl rfl)
theorem dX1_copies_41 : decode cX1_copies 41 = .ok (.aload_n 1, 1) := dk_43 (dk_at dksX1_copies_1 17 rfl rfl)
theorem dX1_copies_42 : decode cX1_copies 42 = .ok (.getfield 80, 3) := dk_180 0 80 (dk_at dksX1_copies_1 18 rfl rfl)
theorem dX1_copies_45 : decode cX1_copies 45 = .ok (.putfield 80, 3) := dk_181 0 80 (dk_at dksX1_copies_1 21 rfl rfl)
theorem dX1_copies_48 : decode cX1_copies 48 = .ok (.aload_n 0, 1) := dk_42 (dk_at dksX1_copies_2 0 rfl rfl)
theorem dX1_copies_49 : decode cX1_copies 49 = .ok (.aload_n 1, 1) := dk_43 (dk_at dksX1_copies_2 1 rfl rfl)
theorem dX1_copies_50 : decode cX1_copies 50 = .ok (.getfield 83, 3) := dk_180 0 83 (dk_at dksX1_copies_2 2 rfl rfl)
theorem dX1_copies_53 : decode cX1_copies 53 = .ok (.putfield 83, 3) := dk_181 0 83 (dk_at dksX1_copies_2 5 rfl rfl)
theorem dX1_copies_56 : decode cX1_copies 56 = .ok (.aload_n 0, 1) := dk_42 (dk_at dksX1_copies_2 8 rfl rfl)
theorem dX1_copies_57 : decode cX1_copies 57 = .ok (.aload_n 1, 1) := dk_43 (dk_at dksX1_copies_2 9 rfl rfl)
theorem dX1_copies_58 : decode cX1_copies 58 = .ok (.getfield 86, 3) := dk_180 0 86 (dk_at dksX1_copies_2 10 rfl rfl)
theorem dX1_copies_61 : decode cX1_copies 61 = .ok (.putfield 86, 3) := dk_181 0 86 (dk_at dksX1_copies_2 13 rfl rfl)
theorem dX1_copies_64 : decode cX1_copies 64 = .ok (.aload_n 0, 1) := dk_42 (dk_at dksX1_copies_2 16 rfl rfl)
theorem dX1_copies_65 : decode cX1_copies 65 = .ok (.aload_n 1, 1) := dk_43 (dk_at dksX1_copies_2 17 rfl rfl)
theorem dX1_copies_66 : decode cX1_copies 66 = .ok (.getfield 89, 3) := dk_180 0 89 (dk_at dksX1_copies_2 18 rfl rfl)
theorem dX1_copies_69 : decode cX1_copies 69 = .ok (.putfield 89, 3) := dk_181 0 89 (dk_at dksX1_copies_2 21 rfl rfl)
theorem dX1_copies_72 : decode cX1_copies 72 = .ok (.aload_n 0, 1) := dk_42 (dk_at dksX1_copies_3 0 rfl rfl)
theorem dX1_copies_73 : decode cX1_copies 73 = .ok (.aload_n 1, 1) := dk_43 (dk_at dksX1_copies_3 1 rfl rfl)
theorem dX1_copies_74 : decode cX1_copies 74 = .ok (.getfield 92, 3) := dk_180 0 92 (dk_at dksX1_copies_3 2 rfl rfl)
theorem dX1_copies_77 : decode cX1_copies 77 = .ok (.putfield 92, 3) := dk_181 0 92 (dk_at dksX1_copies_3 5 rfl rfl)
theorem dX1_copies_80 : decode cX1_copies 80 = .ok (.aload_n 0, 1) := dk_42 (dk_at dksX1_copies_3 8 rfl rfl)
theorem dX1_copies_81 : decode cX1_copies 81 = .ok (.aload_n 1, 1) := dk_43 (dk_at dksX1_copies_3 9 rfl rfl)
theorem dX1_copies_82 : decode cX1_copies 82 = .ok (.getfield 95, 3) := dk_180 0 95 (dk_at dksX1_copies_3 10 rfl rfl)
theorem dX1_copies_85 : decode cX1_copies 85 = .ok (.putfield 95, 3) := dk_181 0 95 (dk_at dksX1_copies_3 13 rfl rfl)
theorem dX1_copies_88 : decode cX1_copies 88 = .ok (.aload_n 1, 1) := dk_43 (dk_at dksX1_copies_3 16 rfl rfl)
theorem dX1_copies_89 : decode cX1_copies 89 = .ok (.getfield 9, 3) := dk_180 0 9 (dk_at dksX1_copies_3 17 rfl rfl)
theorem dX1_copies_92 : decode cX1_copies 92 = .ok (.iconst 0, 1) := dk_3 (dk_at dksX1_copies_3 20 rfl rfl)
theorem dX1_copies_93 : decode cX1_copies 93 = .ok (.aload_n 0, 1) := dk_42 (dk_at dksX1_copies_3 21 rfl rfl)
theorem dX1_copies_94 : decode cX1_copies 94 = .ok (.getfield 9, 3) := dk_180 0 9 (dk_at dksX1_copies_4 0 rfl rfl)
theorem dX1_copies_97 : decode cX1_copies 97 = .ok (.iconst 0, 1) := dk_3 (dk_at dksX1_copies_4 3 rfl rfl)
theorem dX1_copies_98 : decode cX1_copies 98 = .ok (.iconst 4, 1) := dk_7 (dk_at dksX1_copies_4 4 rfl rfl)
theorem dX1_copies_99 : decode cX1_copies 99 = .ok (.invokestatic 98, 3) := dk_184 0 98 (dk_at dksX1_copies_4 5 rfl rfl)
theorem dX1_copies_102 : decode cX1_copies 102 = .ok (.aload_n 1, 1) := dk_43 (dk_at dksX1_copies_4 8 rfl rfl)
theorem dX1_copies_103 : decode cX1_copies 103 = .ok (.getfield 15, 3) := dk_180 0 15 (dk_at dksX1_copies_4 9 rfl rfl)
theorem dX1_copies_106 : decode cX1_copies 106 = .ok (.iconst 0, 1) := dk_3 (dk_at dksX1_copies_4 12 rfl rfl)
theorem dX1_copies_107 : decode cX1_copies 107 = .ok (.aload_n 0, 1) := dk_42 (dk_at dksX1_copies_4 13 rfl rfl)
theorem dX1_copies_108 : decode cX1_copies 108 = .ok (.getfield 15, 3) := dk_180 0 15 (dk_at dksX1_copies_4 14 rfl rfl)
theorem dX1_copies_111 : decode cX1_copies 111 = .ok (.iconst 0, 1) := dk_3 (dk_at dksX1_copies_4 17 rfl rfl)
theorem dX1_copies_112 : decode cX1_copies 112 = .ok (.iconst 4, 1) := dk_7 (dk_at dksX1_copies_4 18 rfl rfl)
theorem dX1_copies_113 : decode cX1_copies 113 = .ok (.invokestatic 98, 3) := dk_184 0 98 (dk_at dksX1_copies_4 19 rfl rfl)
theorem dX1_copies_116 : decode cX1_copies 116 = .ok (.aload_n 1, 1) := dk_43 (dk_at dksX1_copies_4 22 rfl rfl)
theorem dX1_copies_117 : decode cX1_copies 117 = .ok (.getfield 18, 3) := dk_180 0 18 (dk_at dksX1_copies_5 0 rfl rfl)
theorem dX1_copies_120 : decode cX1_copies 120 = .ok (.iconst 0, 1) := dk_3 (dk_at dksX1_copies_5 3 rfl rfl)
theorem dX1_copies_121 : decode cX1_copies 121 = .ok (.aload_n 0, 1) := dk_42 (dk_at dksX1_copies_5 4 rfl rfl)
theorem dX1_copies_122 : decode cX1_copies 122 = .ok (.getfield 18, 3) := dk_180 0 18 (dk_at dksX1_copies_5 5 rfl rfl)
theorem dX1_copies_125 : decode cX1_copies 125 = .ok (.iconst 0, 1) := dk_3 (dk_at dksX1_copies_5 8 rfl rfl)
theorem dX1_copies_126 : decode cX1_copies 126 = .ok (.iconst 4, 1) := dk_7 (dk_at dksX1_copies_5 9 rfl rfl)
theorem dX1_copies_127 : decode cX1_copies 127 = .ok (.invokestatic 98, 3) := dk_184 0 98 (dk_at dksX1_copies_5 10 rfl rfl)
theorem dX1_copies_130 : decode cX1_copies 130 = .ok (.aload_n 1, 1) := dk_43 (dk_at dksX1_copies_5 13 rfl rfl)
theorem dX1_copies_131 : decode cX1_copies 131 = .ok (.getfield 21, 3) := dk_180 0 21 (dk_at dksX1_copies_5 14 rfl rfl)
theorem dX1_copies_134 : decode cX1_copies 134 = .ok (.iconst 0, 1) := dk_3 (dk_at dksX1_copies_5 17 rfl rfl)
theorem dX1_copies_135 : decode cX1_copies 135 = .ok (.aload_n 0, 1) := dk_42 (dk_at dksX1_copies_5 18 rfl rfl)
theorem dX1_copies_136 : decode cX1_copies 136 = .ok (.getfield 21, 3) := dk_180 0 21 (dk_at dksX1_copies_5 19 rfl rfl)
theorem dX1_copies_139 : decode cX1_copies 139 = .ok (.iconst 0, 1) := dk_3 (dk_at dksX1_copies_5 22 rfl rfl)
theorem dX1_copies_140 : decode cX1_copies 140 = .ok (.bipush 16, 2) := dk_16 16 (dk_at dksX1_copies_6 0 rfl rfl)
theorem dX1_copies_142 : decode cX1_copies 142 = .ok (.invokestatic 98, 3) := dk_184 0 98 (dk_at dksX1_copies_6 2 rfl rfl)
theorem dX1_copies_145 : decode cX1_copies 145 = .ok (.aload_n 1, 1) := dk_43 (dk_at dksX1_copies_6 5 rfl rfl)
theorem dX1_copies_146 : decode cX1_copies 146 = .ok (.getfield 24, 3) := dk_180 0 24 (dk_at dksX1_copies_6 6 rfl rfl)
theorem dX1_copies_149 : decode cX1_copies 149 = .ok (.iconst 0, 1) := dk_3 (dk_at dksX1_copies_6 9 rfl rfl)
theorem dX1_copies_150 : decode cX1_copies 150 = .ok (.aload_n 0, 1) := dk_42 (dk_at dksX1_copies_6 10 rfl rfl)
theorem dX1_copies_151 : decode cX1_copies 151 = .ok (.getfield 24, 3) := dk_180 0 24 (dk_at dksX1_copies_6 11 rfl rfl)
theorem dX1_copies_154 : decode cX1_copies 154 = .ok (.iconst 0, 1) := dk_3 (dk_at dksX1_copies_6 14 rfl rfl)
theorem dX1_copies_155 : decode cX1_copies 155 = .ok (.iconst 4, 1) := dk_7 (dk_at dksX1_copies_6 15 rfl rfl)
theorem dX1_copies_156 : decode cX1_copies 156 = .ok (.invokestatic 98, 3) := dk_184 0 98 (dk_at dksX1_copies_6 16 rfl rfl)
theorem dX1_copies_159 : decode cX1_copies 159 = .ok (.aload_n 1, 1) := dk_43 (dk_at dksX1_copies_6 19 rfl rfl)
theorem dX1_copies_160 : decode cX1_copies 160 = .ok (.getfield 27, 3) := dk_180 0 27 (dk_at dksX1_copies_6 20 rfl rfl)
theorem dX1_copies_163 : decode cX1_copies 163 = .ok (.iconst 0, 1) := dk_3 (dk_at dksX1_copies_6 23 rfl rfl)
theorem dX1_copies_164 : decode cX1_copies 164 = .ok (.aload_n 0, 1) := dk_42 (dk_at dksX1_copies_7 0 rfl rfl)
theorem dX1_copies_165 : decode cX1_copies 165 = .ok (.getfield 27, 3) := dk_180 0 27 (dk_at dksX1_copies_7 1 rfl rfl)
theorem dX1_copies_168 : decode cX1_copies 168 = .ok (.iconst 0, 1) := dk_3 (dk_at dksX1_copies_7 4 rfl rfl)
theorem dX1_copies_169 : decode cX1_copies 169 = .ok (.iconst 4, 1) := dk_7 (dk_at dksX1_copies_7 5 rfl rfl)
theorem dX1_copies_170 : decode cX1_copies 170 = .ok (.invokestatic 98, 3) := dk_184 0 98 (dk_at dksX1_copies_7 6 rfl rfl)
theorem dX1_copies_173 : decode cX1_copies 173 = .ok (.aload_n 1, 1) := dk_43 (dk_at dksX1_copies_7 9 rfl rfl)
theorem dX1_copies_174 : decode cX1_copies 174 = .ok (.getfield 30, 3) := dk_180 0 30 (dk_at dksX1_copies_7 10 rfl rfl)
theorem dX1_copies_177 : decode cX1_copies 177 = .ok (.iconst 0, 1) := dk_3 (dk_at dksX1_copies_7 13 rfl rfl)
theorem dX1_copies_178 : decode cX1_copies 178 = .ok (.aload_n 0, 1) := dk_42 (dk_at dksX1_copies_7 14 rfl rfl)
theorem dX1_copies_179 : decode cX1_copies 179 = .ok (.getfield 30, 3) := dk_180 0 30 (dk_at dksX1_copies_7 15 rfl rfl)
theorem dX1_copies_182 : decode cX1_copies 182 = .ok (.iconst 0, 1) := dk_3 (dk_at dksX1_copies_7 18 rfl rfl)
theorem dX1_copies_183 : decode cX1_copies 183 = .ok (.bipush 16, 2) := dk_16 16 (dk_at dksX1_copies_7 19 rfl rfl)
theorem dX1_copies_185 : decode cX1_copies 185 = .ok (.invokestatic 98, 3) := dk_184 0 98 (dk_at dksX1_copies_7 21 rfl rfl)
theorem dX1_copies_188 : decode cX1_copies 188 = .ok (.aload_n 1, 1) := dk_43 (dk_at dksX1_copies_8 0 rfl rfl)
theorem dX1_copies_189 : decode cX1_copies 189 = .ok (.getfield 33, 3) := dk_180 0 33 (dk_at dksX1_copies_8 1 rfl rfl)
theorem dX1_copies_192 : decode cX1_copies 192 = .ok (.iconst 0, 1) := dk_3 (dk_at dksX1_copies_8 4 rfl rfl)
theorem dX1_copies_193 : decode cX1_copies 193 = .ok (.aload_n 0, 1) := dk_42 (dk_at dksX1_copies_8 5 rfl rfl)
theorem dX1_copies_194 : decode cX1_copies 194 = .ok (.getfield 33, 3) := dk_180 0 33 (dk_at dksX1_copies_8 6 rfl rfl)
theorem dX1_copies_197 : decode cX1_copies 197 = .ok (.iconst 0, 1) := dk_3 (dk_at dksX1_copies_8 9 rfl rfl)
theorem dX1_copies_198 : decode cX1_copies 198 = .ok (.bipush 80, 2) := dk_16 80 (dk_at dksX1_copies_8 10 rfl rfl)
theorem dX1_copies_200 : decode cX1_copies 200 = .ok (.invokestatic 98, 3) := dk_184 0 98 (dk_at dksX1_copies_8 12 rfl rfl)
theorem dX1_copies_203 : decode cX1_copies 203 = .ok (.aload_n 1, 1) := dk_43 (dk_at dksX1_copies_8 15 rfl rfl)
theorem dX1_copies_204 : decode cX1_copies 204 = .ok (.getfield 36, 3) := dk_180 0 36 (dk_at dksX1_copies_8 16 rfl rfl)
theorem dX1_copies_207 : decode cX1_copies 207 = .ok (.iconst 0, 1) := dk_3 (dk_at dksX1_copies_8 19 rfl rfl)
theorem dX1_copies_208 : decode cX1_copies 208 = .ok (.aload_n 0, 1) := dk_42 (dk_at dksX1_copies_8 20 rfl rfl)
theorem dX1_copies_209 : decode cX1_copies 209 = .ok (.getfield 36, 3) := dk_180 0 36 (dk_at dksX1_copies_8 21 rfl rfl)
theorem dX1_copies_212 : decode cX1_copies 212 = .ok (.iconst 0, 1) := dk_3 (dk_at dksX1_copies_9 0 rfl rfl)
theorem dX1_copies_213 : decode cX1_copies 213 = .ok (.bipush 10, 2) := dk_16 10 (dk_at dksX1_copies_9 1 rfl rfl)
theorem dX1_copies_215 : decode cX1_copies 215 = .ok (.invokestatic 98, 3) := dk_184 0 98 (dk_at dksX1_copies_9 3 rfl rfl)
theorem dX1_copies_218 : decode cX1_copies 218 = .ok (.aload_n 1, 1) := dk_43 (dk_at dksX1_copies_9 6 rfl rfl)
theorem dX1_copies_219 : decode cX1_copies 219 = .ok (.getfield 39, 3) := dk_180 0 39 (dk_at dksX1_copies_9 7 rfl rfl)
theorem dX1_copies_222 : decode cX1_copies 222 = .ok (.iconst 0, 1) := dk_3 (dk_at dksX1_copies_9 10 rfl rfl)
theorem dX1_copies_223 : decode cX1_copies 223 = .ok (.aload_n 0, 1) := dk_42 (dk_at dksX1_copies_9 11 rfl rfl)
theorem dX1_copies_224 : decode cX1_copies 224 = .ok (.getfield 39, 3) := dk_180 0 39 (dk_at dksX1_copies_9 12 rfl rfl)
theorem dX1_copies_227 : decode cX1_copies 227 = .ok (.iconst 0, 1) := dk_3 (dk_at dksX1_copies_9 15 rfl rfl)
theorem dX1_copies_228 : decode cX1_copies 228 = .ok (.bipush 30, 2) := dk_16 30 (dk_at dksX1_copies_9 16 rfl rfl)
theorem dX1_copies_230 : decode cX1_copies 230 = .ok (.invokestatic 98, 3) := dk_184 0 98 (dk_at dksX1_copies_9 18 rfl rfl)
theorem dX1_copies_233 : decode cX1_copies 233 = .ok (.aload_n 1, 1) := dk_43 (dk_at dksX1_copies_9 21 rfl rfl)
theorem dX1_copies_234 : decode cX1_copies 234 = .ok (.getfield 54, 3) := dk_180 0 54 (dk_at dksX1_copies_10 0 rfl rfl)
theorem dX1_copies_237 : decode cX1_copies 237 = .ok (.iconst 0, 1) := dk_3 (dk_at dksX1_copies_10 3 rfl rfl)
theorem dX1_copies_238 : decode cX1_copies 238 = .ok (.aload_n 0, 1) := dk_42 (dk_at dksX1_copies_10 4 rfl rfl)
theorem dX1_copies_239 : decode cX1_copies 239 = .ok (.getfield 54, 3) := dk_180 0 54 (dk_at dksX1_copies_10 5 rfl rfl)
theorem dX1_copies_242 : decode cX1_copies 242 = .ok (.iconst 0, 1) := dk_3 (dk_at dksX1_copies_10 8 rfl rfl)
theorem dX1_copies_243 : decode cX1_copies 243 = .ok (.sipush 3640, 3) := dk_17 14 56 (dk_at dksX1_copies_10 9 rfl rfl)
theorem dX1_copies_246 : decode cX1_copies 246 = .ok (.invokestatic 98, 3) := dk_184 0 98 (dk_at dksX1_copies_10 12 rfl rfl)
theorem dX1_copies_249 : decode cX1_copies 249 = .ok (.aload_n 0, 1) := dk_42 (dk_at dksX1_copies_10 15 rfl rfl)
theorem dX1_copies_250 : decode cX1_copies 250 = .ok (.aload_n 1, 1) := dk_43 (dk_at dksX1_copies_10 16 rfl rfl)
theorem dX1_copies_251 : decode cX1_copies 251 = .ok (.invokevirtual 104, 3) := dk_182 0 104 (dk_at dksX1_copies_10 17 rfl rfl)
theorem dX1_copies_254 : decode cX1_copies 254 = .ok (.areturn, 1) := dk_176 (dk_at dksX1_copies_10 20 rfl rfl)
abbrev cX1_standsAs : ByteArray := prog_13_method_3_code
def yX1_standsAs : MethodName := ⟨RX1, "standsAs", "(LLatestCoat$Town;)LLatestCoat$Town;"⟩
def dkwX1_standsAs_3 : List UInt8 := [3, 7, 184, 0, 98, 42, 176]
abbrev dktX1_standsAs_3 : List UInt8 := dkwX1_standsAs_3 ++ []
def dkwX1_standsAs_2 : List UInt8 := [43, 180, 0, 48, 3, 42, 180, 0, 48, 3, 16, 80, 184, 0, 98, 43, 180, 0, 51, 3, 42, 180, 0, 51]
abbrev dktX1_standsAs_2 : List UInt8 := dkwX1_standsAs_2 ++ dktX1_standsAs_3
def dkwX1_standsAs_1 : List UInt8 := [180, 0, 42, 3, 16, 16, 184, 0, 98, 43, 180, 0, 45, 3, 42, 180, 0, 45, 3, 16, 80, 184, 0, 98]
abbrev dktX1_standsAs_1 : List UInt8 := dkwX1_standsAs_1 ++ dktX1_standsAs_2
def dkwX1_standsAs_0 : List UInt8 := [42, 43, 180, 0, 108, 181, 0, 108, 42, 43, 180, 0, 111, 181, 0, 111, 43, 180, 0, 42, 3, 42]
abbrev dktX1_standsAs_0 : List UInt8 := dkwX1_standsAs_0 ++ dktX1_standsAs_1
theorem dksX1_standsAs_0 : cX1_standsAs.data.toList.drop 0 = dktX1_standsAs_0 := by decide +kernel
theorem dksX1_standsAs_1 : cX1_standsAs.data.toList.drop 22 = dktX1_standsAs_1 := dk_seg dksX1_standsAs_0 22 rfl rfl
theorem dksX1_standsAs_2 : cX1_standsAs.data.toList.drop 46 = dktX1_standsAs_2 := dk_seg dksX1_standsAs_1 24 rfl rfl
theorem dksX1_standsAs_3 : cX1_standsAs.data.toList.drop 70 = dktX1_standsAs_3 := dk_seg dksX1_standsAs_2 24 rfl rfl
theorem dX1_standsAs_0 : decode cX1_standsAs 0 = .ok (.aload_n 0, 1) := dk_42 (dk_at dksX1_standsAs_0 0 rfl rfl)
theorem dX1_standsAs_1 : decode cX1_standsAs 1 = .ok (.aload_n 1, 1) := dk_43 (dk_at dksX1_standsAs_0 1 rfl rfl)
theorem dX1_standsAs_2 : decode cX1_standsAs 2 = .ok (.getfield 108, 3) := dk_180 0 108 (dk_at dksX1_standsAs_0 2 rfl rfl)
theorem dX1_standsAs_5 : decode cX1_standsAs 5 = .ok (.putfield 108, 3) := dk_181 0 108 (dk_at dksX1_standsAs_0 5 rfl rfl)
theorem dX1_standsAs_8 : decode cX1_standsAs 8 = .ok (.aload_n 0, 1) := dk_42 (dk_at dksX1_standsAs_0 8 rfl rfl)
theorem dX1_standsAs_9 : decode cX1_standsAs 9 = .ok (.aload_n 1, 1) := dk_43 (dk_at dksX1_standsAs_0 9 rfl rfl)
theorem dX1_standsAs_10 : decode cX1_standsAs 10 = .ok (.getfield 111, 3) := dk_180 0 111 (dk_at dksX1_standsAs_0 10 rfl rfl)
theorem dX1_standsAs_13 : decode cX1_standsAs 13 = .ok (.putfield 111, 3) := dk_181 0 111 (dk_at dksX1_standsAs_0 13 rfl rfl)
theorem dX1_standsAs_16 : decode cX1_standsAs 16 = .ok (.aload_n 1, 1) := dk_43 (dk_at dksX1_standsAs_0 16 rfl rfl)
theorem dX1_standsAs_17 : decode cX1_standsAs 17 = .ok (.getfield 42, 3) := dk_180 0 42 (dk_at dksX1_standsAs_0 17 rfl rfl)
theorem dX1_standsAs_20 : decode cX1_standsAs 20 = .ok (.iconst 0, 1) := dk_3 (dk_at dksX1_standsAs_0 20 rfl rfl)
theorem dX1_standsAs_21 : decode cX1_standsAs 21 = .ok (.aload_n 0, 1) := dk_42 (dk_at dksX1_standsAs_0 21 rfl rfl)
theorem dX1_standsAs_22 : decode cX1_standsAs 22 = .ok (.getfield 42, 3) := dk_180 0 42 (dk_at dksX1_standsAs_1 0 rfl rfl)
theorem dX1_standsAs_25 : decode cX1_standsAs 25 = .ok (.iconst 0, 1) := dk_3 (dk_at dksX1_standsAs_1 3 rfl rfl)
theorem dX1_standsAs_26 : decode cX1_standsAs 26 = .ok (.bipush 16, 2) := dk_16 16 (dk_at dksX1_standsAs_1 4 rfl rfl)
theorem dX1_standsAs_28 : decode cX1_standsAs 28 = .ok (.invokestatic 98, 3) := dk_184 0 98 (dk_at dksX1_standsAs_1 6 rfl rfl)
theorem dX1_standsAs_31 : decode cX1_standsAs 31 = .ok (.aload_n 1, 1) := dk_43 (dk_at dksX1_standsAs_1 9 rfl rfl)
theorem dX1_standsAs_32 : decode cX1_standsAs 32 = .ok (.getfield 45, 3) := dk_180 0 45 (dk_at dksX1_standsAs_1 10 rfl rfl)
theorem dX1_standsAs_35 : decode cX1_standsAs 35 = .ok (.iconst 0, 1) := dk_3 (dk_at dksX1_standsAs_1 13 rfl rfl)
theorem dX1_standsAs_36 : decode cX1_standsAs 36 = .ok (.aload_n 0, 1) := dk_42 (dk_at dksX1_standsAs_1 14 rfl rfl)
theorem dX1_standsAs_37 : decode cX1_standsAs 37 = .ok (.getfield 45, 3) := dk_180 0 45 (dk_at dksX1_standsAs_1 15 rfl rfl)
theorem dX1_standsAs_40 : decode cX1_standsAs 40 = .ok (.iconst 0, 1) := dk_3 (dk_at dksX1_standsAs_1 18 rfl rfl)
theorem dX1_standsAs_41 : decode cX1_standsAs 41 = .ok (.bipush 80, 2) := dk_16 80 (dk_at dksX1_standsAs_1 19 rfl rfl)
theorem dX1_standsAs_43 : decode cX1_standsAs 43 = .ok (.invokestatic 98, 3) := dk_184 0 98 (dk_at dksX1_standsAs_1 21 rfl rfl)
theorem dX1_standsAs_46 : decode cX1_standsAs 46 = .ok (.aload_n 1, 1) := dk_43 (dk_at dksX1_standsAs_2 0 rfl rfl)
theorem dX1_standsAs_47 : decode cX1_standsAs 47 = .ok (.getfield 48, 3) := dk_180 0 48 (dk_at dksX1_standsAs_2 1 rfl rfl)
theorem dX1_standsAs_50 : decode cX1_standsAs 50 = .ok (.iconst 0, 1) := dk_3 (dk_at dksX1_standsAs_2 4 rfl rfl)
theorem dX1_standsAs_51 : decode cX1_standsAs 51 = .ok (.aload_n 0, 1) := dk_42 (dk_at dksX1_standsAs_2 5 rfl rfl)
theorem dX1_standsAs_52 : decode cX1_standsAs 52 = .ok (.getfield 48, 3) := dk_180 0 48 (dk_at dksX1_standsAs_2 6 rfl rfl)
theorem dX1_standsAs_55 : decode cX1_standsAs 55 = .ok (.iconst 0, 1) := dk_3 (dk_at dksX1_standsAs_2 9 rfl rfl)
theorem dX1_standsAs_56 : decode cX1_standsAs 56 = .ok (.bipush 80, 2) := dk_16 80 (dk_at dksX1_standsAs_2 10 rfl rfl)
theorem dX1_standsAs_58 : decode cX1_standsAs 58 = .ok (.invokestatic 98, 3) := dk_184 0 98 (dk_at dksX1_standsAs_2 12 rfl rfl)
theorem dX1_standsAs_61 : decode cX1_standsAs 61 = .ok (.aload_n 1, 1) := dk_43 (dk_at dksX1_standsAs_2 15 rfl rfl)
theorem dX1_standsAs_62 : decode cX1_standsAs 62 = .ok (.getfield 51, 3) := dk_180 0 51 (dk_at dksX1_standsAs_2 16 rfl rfl)
theorem dX1_standsAs_65 : decode cX1_standsAs 65 = .ok (.iconst 0, 1) := dk_3 (dk_at dksX1_standsAs_2 19 rfl rfl)
theorem dX1_standsAs_66 : decode cX1_standsAs 66 = .ok (.aload_n 0, 1) := dk_42 (dk_at dksX1_standsAs_2 20 rfl rfl)
theorem dX1_standsAs_67 : decode cX1_standsAs 67 = .ok (.getfield 51, 3) := dk_180 0 51 (dk_at dksX1_standsAs_2 21 rfl rfl)
theorem dX1_standsAs_70 : decode cX1_standsAs 70 = .ok (.iconst 0, 1) := dk_3 (dk_at dksX1_standsAs_3 0 rfl rfl)
theorem dX1_standsAs_71 : decode cX1_standsAs 71 = .ok (.iconst 4, 1) := dk_7 (dk_at dksX1_standsAs_3 1 rfl rfl)
theorem dX1_standsAs_72 : decode cX1_standsAs 72 = .ok (.invokestatic 98, 3) := dk_184 0 98 (dk_at dksX1_standsAs_3 2 rfl rfl)
theorem dX1_standsAs_75 : decode cX1_standsAs 75 = .ok (.aload_n 0, 1) := dk_42 (dk_at dksX1_standsAs_3 5 rfl rfl)
theorem dX1_standsAs_76 : decode cX1_standsAs 76 = .ok (.areturn, 1) := dk_176 (dk_at dksX1_standsAs_3 6 rfl rfl)
abbrev cX1_begins : ByteArray := prog_13_method_6_code
def yX1_begins : MethodName := ⟨RX1, "begins", "()V"⟩
def dkwX1_begins_5 : List UInt8 := [167, 255, 167, 177]
abbrev dktX1_begins_5 : List UInt8 := dkwX1_begins_5 ++ []
def dkwX1_begins_4 : List UInt8 := [79, 42, 180, 0, 48, 8, 27, 104, 28, 96, 17, 252, 24, 79, 132, 2, 1, 167, 255, 215, 132, 1, 1]
abbrev dktX1_begins_4 : List UInt8 := dkwX1_begins_4 ++ dktX1_begins_5
def dkwX1_begins_3 : List UInt8 := [28, 8, 162, 0, 42, 42, 180, 0, 45, 8, 27, 104, 28, 96, 42, 180, 0, 33, 8, 27, 104, 28, 96, 46]
abbrev dktX1_begins_3 : List UInt8 := dkwX1_begins_3 ++ dktX1_begins_4
def dkwX1_begins_2 : List UInt8 := [180, 0, 21, 27, 46, 184, 0, 114, 153, 0, 7, 3, 167, 0, 9, 42, 180, 0, 30, 27, 46, 79, 3, 61]
abbrev dktX1_begins_2 : List UInt8 := dkwX1_begins_2 ++ dktX1_begins_3
def dkwX1_begins_1 : List UInt8 := [184, 0, 98, 3, 60, 27, 42, 180, 0, 77, 162, 0, 87, 42, 180, 0, 42, 27, 42, 180, 0, 111, 42]
abbrev dktX1_begins_1 : List UInt8 := dkwX1_begins_1 ++ dktX1_begins_2
def dkwX1_begins_0 : List UInt8 := [42, 3, 181, 0, 108, 42, 42, 180, 0, 95, 181, 0, 111, 42, 180, 0, 27, 3, 42, 180, 0, 51, 3, 7]
abbrev dktX1_begins_0 : List UInt8 := dkwX1_begins_0 ++ dktX1_begins_1
theorem dksX1_begins_0 : cX1_begins.data.toList.drop 0 = dktX1_begins_0 := by decide +kernel
theorem dksX1_begins_1 : cX1_begins.data.toList.drop 24 = dktX1_begins_1 := dk_seg dksX1_begins_0 24 rfl rfl
theorem dksX1_begins_2 : cX1_begins.data.toList.drop 47 = dktX1_begins_2 := dk_seg dksX1_begins_1 23 rfl rfl
theorem dksX1_begins_3 : cX1_begins.data.toList.drop 71 = dktX1_begins_3 := dk_seg dksX1_begins_2 24 rfl rfl
theorem dksX1_begins_4 : cX1_begins.data.toList.drop 95 = dktX1_begins_4 := dk_seg dksX1_begins_3 24 rfl rfl
theorem dksX1_begins_5 : cX1_begins.data.toList.drop 118 = dktX1_begins_5 := dk_seg dksX1_begins_4 23 rfl rfl
theorem dX1_begins_0 : decode cX1_begins 0 = .ok (.aload_n 0, 1) := dk_42 (dk_at dksX1_begins_0 0 rfl rfl)
theorem dX1_begins_1 : decode cX1_begins 1 = .ok (.iconst 0, 1) := dk_3 (dk_at dksX1_begins_0 1 rfl rfl)
theorem dX1_begins_2 : decode cX1_begins 2 = .ok (.putfield 108, 3) := dk_181 0 108 (dk_at dksX1_begins_0 2 rfl rfl)
theorem dX1_begins_5 : decode cX1_begins 5 = .ok (.aload_n 0, 1) := dk_42 (dk_at dksX1_begins_0 5 rfl rfl)
theorem dX1_begins_6 : decode cX1_begins 6 = .ok (.aload_n 0, 1) := dk_42 (dk_at dksX1_begins_0 6 rfl rfl)
theorem dX1_begins_7 : decode cX1_begins 7 = .ok (.getfield 95, 3) := dk_180 0 95 (dk_at dksX1_begins_0 7 rfl rfl)
theorem dX1_begins_10 : decode cX1_begins 10 = .ok (.putfield 111, 3) := dk_181 0 111 (dk_at dksX1_begins_0 10 rfl rfl)
theorem dX1_begins_13 : decode cX1_begins 13 = .ok (.aload_n 0, 1) := dk_42 (dk_at dksX1_begins_0 13 rfl rfl)
theorem dX1_begins_14 : decode cX1_begins 14 = .ok (.getfield 27, 3) := dk_180 0 27 (dk_at dksX1_begins_0 14 rfl rfl)
theorem dX1_begins_17 : decode cX1_begins 17 = .ok (.iconst 0, 1) := dk_3 (dk_at dksX1_begins_0 17 rfl rfl)
theorem dX1_begins_18 : decode cX1_begins 18 = .ok (.aload_n 0, 1) := dk_42 (dk_at dksX1_begins_0 18 rfl rfl)
theorem dX1_begins_19 : decode cX1_begins 19 = .ok (.getfield 51, 3) := dk_180 0 51 (dk_at dksX1_begins_0 19 rfl rfl)
theorem dX1_begins_22 : decode cX1_begins 22 = .ok (.iconst 0, 1) := dk_3 (dk_at dksX1_begins_0 22 rfl rfl)
theorem dX1_begins_23 : decode cX1_begins 23 = .ok (.iconst 4, 1) := dk_7 (dk_at dksX1_begins_0 23 rfl rfl)
theorem dX1_begins_24 : decode cX1_begins 24 = .ok (.invokestatic 98, 3) := dk_184 0 98 (dk_at dksX1_begins_1 0 rfl rfl)
theorem dX1_begins_27 : decode cX1_begins 27 = .ok (.iconst 0, 1) := dk_3 (dk_at dksX1_begins_1 3 rfl rfl)
theorem dX1_begins_28 : decode cX1_begins 28 = .ok (.istore_n 1, 1) := dk_60 (dk_at dksX1_begins_1 4 rfl rfl)
theorem dX1_begins_29 : decode cX1_begins 29 = .ok (.iload_n 1, 1) := dk_27 (dk_at dksX1_begins_1 5 rfl rfl)
theorem dX1_begins_30 : decode cX1_begins 30 = .ok (.aload_n 0, 1) := dk_42 (dk_at dksX1_begins_1 6 rfl rfl)
theorem dX1_begins_31 : decode cX1_begins 31 = .ok (.getfield 77, 3) := dk_180 0 77 (dk_at dksX1_begins_1 7 rfl rfl)
theorem dX1_begins_34 : decode cX1_begins 34 = .ok (.if_icmp .ge 87, 3) := dk_162 0 87 (dk_at dksX1_begins_1 10 rfl rfl)
theorem dX1_begins_37 : decode cX1_begins 37 = .ok (.aload_n 0, 1) := dk_42 (dk_at dksX1_begins_1 13 rfl rfl)
theorem dX1_begins_38 : decode cX1_begins 38 = .ok (.getfield 42, 3) := dk_180 0 42 (dk_at dksX1_begins_1 14 rfl rfl)
theorem dX1_begins_41 : decode cX1_begins 41 = .ok (.iload_n 1, 1) := dk_27 (dk_at dksX1_begins_1 17 rfl rfl)
theorem dX1_begins_42 : decode cX1_begins 42 = .ok (.aload_n 0, 1) := dk_42 (dk_at dksX1_begins_1 18 rfl rfl)
theorem dX1_begins_43 : decode cX1_begins 43 = .ok (.getfield 111, 3) := dk_180 0 111 (dk_at dksX1_begins_1 19 rfl rfl)
theorem dX1_begins_46 : decode cX1_begins 46 = .ok (.aload_n 0, 1) := dk_42 (dk_at dksX1_begins_1 22 rfl rfl)
theorem dX1_begins_47 : decode cX1_begins 47 = .ok (.getfield 21, 3) := dk_180 0 21 (dk_at dksX1_begins_2 0 rfl rfl)
theorem dX1_begins_50 : decode cX1_begins 50 = .ok (.iload_n 1, 1) := dk_27 (dk_at dksX1_begins_2 3 rfl rfl)
theorem dX1_begins_51 : decode cX1_begins 51 = .ok (.iaload, 1) := dk_46 (dk_at dksX1_begins_2 4 rfl rfl)
theorem dX1_begins_52 : decode cX1_begins 52 = .ok (.invokestatic 114, 3) := dk_184 0 114 (dk_at dksX1_begins_2 5 rfl rfl)
theorem dX1_begins_55 : decode cX1_begins 55 = .ok (.ifCond .eq 7, 3) := dk_153 0 7 (dk_at dksX1_begins_2 8 rfl rfl)
theorem dX1_begins_58 : decode cX1_begins 58 = .ok (.iconst 0, 1) := dk_3 (dk_at dksX1_begins_2 11 rfl rfl)
theorem dX1_begins_59 : decode cX1_begins 59 = .ok (.goto 9, 3) := dk_167 0 9 (dk_at dksX1_begins_2 12 rfl rfl)
theorem dX1_begins_62 : decode cX1_begins 62 = .ok (.aload_n 0, 1) := dk_42 (dk_at dksX1_begins_2 15 rfl rfl)
theorem dX1_begins_63 : decode cX1_begins 63 = .ok (.getfield 30, 3) := dk_180 0 30 (dk_at dksX1_begins_2 16 rfl rfl)
theorem dX1_begins_66 : decode cX1_begins 66 = .ok (.iload_n 1, 1) := dk_27 (dk_at dksX1_begins_2 19 rfl rfl)
theorem dX1_begins_67 : decode cX1_begins 67 = .ok (.iaload, 1) := dk_46 (dk_at dksX1_begins_2 20 rfl rfl)
theorem dX1_begins_68 : decode cX1_begins 68 = .ok (.iastore, 1) := dk_79 (dk_at dksX1_begins_2 21 rfl rfl)
theorem dX1_begins_69 : decode cX1_begins 69 = .ok (.iconst 0, 1) := dk_3 (dk_at dksX1_begins_2 22 rfl rfl)
theorem dX1_begins_70 : decode cX1_begins 70 = .ok (.istore_n 2, 1) := dk_61 (dk_at dksX1_begins_2 23 rfl rfl)
theorem dX1_begins_71 : decode cX1_begins 71 = .ok (.iload_n 2, 1) := dk_28 (dk_at dksX1_begins_3 0 rfl rfl)
theorem dX1_begins_72 : decode cX1_begins 72 = .ok (.iconst 5, 1) := dk_8 (dk_at dksX1_begins_3 1 rfl rfl)
theorem dX1_begins_73 : decode cX1_begins 73 = .ok (.if_icmp .ge 42, 3) := dk_162 0 42 (dk_at dksX1_begins_3 2 rfl rfl)
theorem dX1_begins_76 : decode cX1_begins 76 = .ok (.aload_n 0, 1) := dk_42 (dk_at dksX1_begins_3 5 rfl rfl)
theorem dX1_begins_77 : decode cX1_begins 77 = .ok (.getfield 45, 3) := dk_180 0 45 (dk_at dksX1_begins_3 6 rfl rfl)
theorem dX1_begins_80 : decode cX1_begins 80 = .ok (.iconst 5, 1) := dk_8 (dk_at dksX1_begins_3 9 rfl rfl)
theorem dX1_begins_81 : decode cX1_begins 81 = .ok (.iload_n 1, 1) := dk_27 (dk_at dksX1_begins_3 10 rfl rfl)
theorem dX1_begins_82 : decode cX1_begins 82 = .ok (.imul, 1) := dk_104 (dk_at dksX1_begins_3 11 rfl rfl)
theorem dX1_begins_83 : decode cX1_begins 83 = .ok (.iload_n 2, 1) := dk_28 (dk_at dksX1_begins_3 12 rfl rfl)
theorem dX1_begins_84 : decode cX1_begins 84 = .ok (.iadd, 1) := dk_96 (dk_at dksX1_begins_3 13 rfl rfl)
theorem dX1_begins_85 : decode cX1_begins 85 = .ok (.aload_n 0, 1) := dk_42 (dk_at dksX1_begins_3 14 rfl rfl)
theorem dX1_begins_86 : decode cX1_begins 86 = .ok (.getfield 33, 3) := dk_180 0 33 (dk_at dksX1_begins_3 15 rfl rfl)
theorem dX1_begins_89 : decode cX1_begins 89 = .ok (.iconst 5, 1) := dk_8 (dk_at dksX1_begins_3 18 rfl rfl)
theorem dX1_begins_90 : decode cX1_begins 90 = .ok (.iload_n 1, 1) := dk_27 (dk_at dksX1_begins_3 19 rfl rfl)
theorem dX1_begins_91 : decode cX1_begins 91 = .ok (.imul, 1) := dk_104 (dk_at dksX1_begins_3 20 rfl rfl)
theorem dX1_begins_92 : decode cX1_begins 92 = .ok (.iload_n 2, 1) := dk_28 (dk_at dksX1_begins_3 21 rfl rfl)
theorem dX1_begins_93 : decode cX1_begins 93 = .ok (.iadd, 1) := dk_96 (dk_at dksX1_begins_3 22 rfl rfl)
theorem dX1_begins_94 : decode cX1_begins 94 = .ok (.iaload, 1) := dk_46 (dk_at dksX1_begins_3 23 rfl rfl)
theorem dX1_begins_95 : decode cX1_begins 95 = .ok (.iastore, 1) := dk_79 (dk_at dksX1_begins_4 0 rfl rfl)
theorem dX1_begins_96 : decode cX1_begins 96 = .ok (.aload_n 0, 1) := dk_42 (dk_at dksX1_begins_4 1 rfl rfl)
theorem dX1_begins_97 : decode cX1_begins 97 = .ok (.getfield 48, 3) := dk_180 0 48 (dk_at dksX1_begins_4 2 rfl rfl)
theorem dX1_begins_100 : decode cX1_begins 100 = .ok (.iconst 5, 1) := dk_8 (dk_at dksX1_begins_4 5 rfl rfl)
theorem dX1_begins_101 : decode cX1_begins 101 = .ok (.iload_n 1, 1) := dk_27 (dk_at dksX1_begins_4 6 rfl rfl)
theorem dX1_begins_102 : decode cX1_begins 102 = .ok (.imul, 1) := dk_104 (dk_at dksX1_begins_4 7 rfl rfl)
theorem dX1_begins_103 : decode cX1_begins 103 = .ok (.iload_n 2, 1) := dk_28 (dk_at dksX1_begins_4 8 rfl rfl)
theorem dX1_begins_104 : decode cX1_begins 104 = .ok (.iadd, 1) := dk_96 (dk_at dksX1_begins_4 9 rfl rfl)
theorem dX1_begins_105 : decode cX1_begins 105 = .ok (.sipush (-1000), 3) := dk_17 252 24 (dk_at dksX1_begins_4 10 rfl rfl)
theorem dX1_begins_108 : decode cX1_begins 108 = .ok (.iastore, 1) := dk_79 (dk_at dksX1_begins_4 13 rfl rfl)
theorem dX1_begins_109 : decode cX1_begins 109 = .ok (.iinc 2 1, 3) := dk_132 2 1 (dk_at dksX1_begins_4 14 rfl rfl)
theorem dX1_begins_112 : decode cX1_begins 112 = .ok (.goto (-41), 3) := dk_167 255 215 (dk_at dksX1_begins_4 17 rfl rfl)
theorem dX1_begins_115 : decode cX1_begins 115 = .ok (.iinc 1 1, 3) := dk_132 1 1 (dk_at dksX1_begins_4 20 rfl rfl)
theorem dX1_begins_118 : decode cX1_begins 118 = .ok (.goto (-89), 3) := dk_167 255 167 (dk_at dksX1_begins_5 0 rfl rfl)
theorem dX1_begins_121 : decode cX1_begins 121 = .ok (.return_, 1) := dk_177 (dk_at dksX1_begins_5 3 rfl rfl)
abbrev cX1_ownerOf : ByteArray := prog_13_method_12_code
def yX1_ownerOf : MethodName := ⟨RX1, "ownerOf", "(I)I"⟩
def dkwX1_ownerOf_0 : List UInt8 := [42, 27, 42, 180, 0, 108, 18, 118, 182, 0, 119, 172]
abbrev dktX1_ownerOf_0 : List UInt8 := dkwX1_ownerOf_0 ++ []
theorem dksX1_ownerOf_0 : cX1_ownerOf.data.toList.drop 0 = dktX1_ownerOf_0 := by decide +kernel
theorem dX1_ownerOf_0 : decode cX1_ownerOf 0 = .ok (.aload_n 0, 1) := dk_42 (dk_at dksX1_ownerOf_0 0 rfl rfl)
theorem dX1_ownerOf_1 : decode cX1_ownerOf 1 = .ok (.iload_n 1, 1) := dk_27 (dk_at dksX1_ownerOf_0 1 rfl rfl)
theorem dX1_ownerOf_2 : decode cX1_ownerOf 2 = .ok (.aload_n 0, 1) := dk_42 (dk_at dksX1_ownerOf_0 2 rfl rfl)
theorem dX1_ownerOf_3 : decode cX1_ownerOf 3 = .ok (.getfield 108, 3) := dk_180 0 108 (dk_at dksX1_ownerOf_0 3 rfl rfl)
theorem dX1_ownerOf_6 : decode cX1_ownerOf 6 = .ok (.ldc 118, 2) := dk_18 118 (dk_at dksX1_ownerOf_0 6 rfl rfl)
theorem dX1_ownerOf_8 : decode cX1_ownerOf 8 = .ok (.invokevirtual 119, 3) := dk_182 0 119 (dk_at dksX1_ownerOf_0 8 rfl rfl)
theorem dX1_ownerOf_11 : decode cX1_ownerOf 11 = .ok (.ireturn, 1) := dk_172 (dk_at dksX1_ownerOf_0 11 rfl rfl)
abbrev cX1_ownerAt : ByteArray := prog_13_method_11_code
def yX1_ownerAt : MethodName := ⟨RX1, "ownerAt", "(III)I"⟩
def dkwX1_ownerAt_3 : List UInt8 := [172, 132, 4, 255, 167, 255, 192, 2, 172]
abbrev dktX1_ownerAt_3 : List UInt8 := dkwX1_ownerAt_3 ++ []
def dkwX1_ownerAt_2 : List UInt8 := [180, 0, 64, 96, 161, 0, 11, 42, 180, 0, 45, 21, 5, 46, 172, 42, 180, 0, 86, 4, 160, 0, 5, 2]
abbrev dktX1_ownerAt_2 : List UInt8 := dkwX1_ownerAt_2 ++ dktX1_ownerAt_3
def dkwX1_ownerAt_1 : List UInt8 := [180, 0, 48, 21, 5, 46, 29, 161, 0, 6, 167, 0, 37, 28, 42, 180, 0, 48, 21, 5, 46, 42]
abbrev dktX1_ownerAt_1 : List UInt8 := dkwX1_ownerAt_1 ++ dktX1_ownerAt_2
def dkwX1_ownerAt_0 : List UInt8 := [42, 180, 0, 42, 27, 46, 4, 100, 54, 4, 21, 4, 155, 0, 65, 8, 27, 104, 21, 4, 96, 54, 5, 42]
abbrev dktX1_ownerAt_0 : List UInt8 := dkwX1_ownerAt_0 ++ dktX1_ownerAt_1
theorem dksX1_ownerAt_0 : cX1_ownerAt.data.toList.drop 0 = dktX1_ownerAt_0 := by decide +kernel
theorem dksX1_ownerAt_1 : cX1_ownerAt.data.toList.drop 24 = dktX1_ownerAt_1 := dk_seg dksX1_ownerAt_0 24 rfl rfl
theorem dksX1_ownerAt_2 : cX1_ownerAt.data.toList.drop 46 = dktX1_ownerAt_2 := dk_seg dksX1_ownerAt_1 22 rfl rfl
theorem dksX1_ownerAt_3 : cX1_ownerAt.data.toList.drop 70 = dktX1_ownerAt_3 := dk_seg dksX1_ownerAt_2 24 rfl rfl
theorem dX1_ownerAt_0 : decode cX1_ownerAt 0 = .ok (.aload_n 0, 1) := dk_42 (dk_at dksX1_ownerAt_0 0 rfl rfl)
theorem dX1_ownerAt_1 : decode cX1_ownerAt 1 = .ok (.getfield 42, 3) := dk_180 0 42 (dk_at dksX1_ownerAt_0 1 rfl rfl)
theorem dX1_ownerAt_4 : decode cX1_ownerAt 4 = .ok (.iload_n 1, 1) := dk_27 (dk_at dksX1_ownerAt_0 4 rfl rfl)
theorem dX1_ownerAt_5 : decode cX1_ownerAt 5 = .ok (.iaload, 1) := dk_46 (dk_at dksX1_ownerAt_0 5 rfl rfl)
theorem dX1_ownerAt_6 : decode cX1_ownerAt 6 = .ok (.iconst 1, 1) := dk_4 (dk_at dksX1_ownerAt_0 6 rfl rfl)
theorem dX1_ownerAt_7 : decode cX1_ownerAt 7 = .ok (.isub, 1) := dk_100 (dk_at dksX1_ownerAt_0 7 rfl rfl)
theorem dX1_ownerAt_8 : decode cX1_ownerAt 8 = .ok (.istore 4, 2) := dk_54 4 (dk_at dksX1_ownerAt_0 8 rfl rfl)
theorem dX1_ownerAt_10 : decode cX1_ownerAt 10 = .ok (.iload 4, 2) := dk_21 4 (dk_at dksX1_ownerAt_0 10 rfl rfl)
theorem dX1_ownerAt_12 : decode cX1_ownerAt 12 = .ok (.ifCond .lt 65, 3) := dk_155 0 65 (dk_at dksX1_ownerAt_0 12 rfl rfl)
theorem dX1_ownerAt_15 : decode cX1_ownerAt 15 = .ok (.iconst 5, 1) := dk_8 (dk_at dksX1_ownerAt_0 15 rfl rfl)
theorem dX1_ownerAt_16 : decode cX1_ownerAt 16 = .ok (.iload_n 1, 1) := dk_27 (dk_at dksX1_ownerAt_0 16 rfl rfl)
theorem dX1_ownerAt_17 : decode cX1_ownerAt 17 = .ok (.imul, 1) := dk_104 (dk_at dksX1_ownerAt_0 17 rfl rfl)
theorem dX1_ownerAt_18 : decode cX1_ownerAt 18 = .ok (.iload 4, 2) := dk_21 4 (dk_at dksX1_ownerAt_0 18 rfl rfl)
theorem dX1_ownerAt_20 : decode cX1_ownerAt 20 = .ok (.iadd, 1) := dk_96 (dk_at dksX1_ownerAt_0 20 rfl rfl)
theorem dX1_ownerAt_21 : decode cX1_ownerAt 21 = .ok (.istore 5, 2) := dk_54 5 (dk_at dksX1_ownerAt_0 21 rfl rfl)
theorem dX1_ownerAt_23 : decode cX1_ownerAt 23 = .ok (.aload_n 0, 1) := dk_42 (dk_at dksX1_ownerAt_0 23 rfl rfl)
theorem dX1_ownerAt_24 : decode cX1_ownerAt 24 = .ok (.getfield 48, 3) := dk_180 0 48 (dk_at dksX1_ownerAt_1 0 rfl rfl)
theorem dX1_ownerAt_27 : decode cX1_ownerAt 27 = .ok (.iload 5, 2) := dk_21 5 (dk_at dksX1_ownerAt_1 3 rfl rfl)
theorem dX1_ownerAt_29 : decode cX1_ownerAt 29 = .ok (.iaload, 1) := dk_46 (dk_at dksX1_ownerAt_1 5 rfl rfl)
theorem dX1_ownerAt_30 : decode cX1_ownerAt 30 = .ok (.iload_n 3, 1) := dk_29 (dk_at dksX1_ownerAt_1 6 rfl rfl)
theorem dX1_ownerAt_31 : decode cX1_ownerAt 31 = .ok (.if_icmp .lt 6, 3) := dk_161 0 6 (dk_at dksX1_ownerAt_1 7 rfl rfl)
theorem dX1_ownerAt_34 : decode cX1_ownerAt 34 = .ok (.goto 37, 3) := dk_167 0 37 (dk_at dksX1_ownerAt_1 10 rfl rfl)
theorem dX1_ownerAt_37 : decode cX1_ownerAt 37 = .ok (.iload_n 2, 1) := dk_28 (dk_at dksX1_ownerAt_1 13 rfl rfl)
theorem dX1_ownerAt_38 : decode cX1_ownerAt 38 = .ok (.aload_n 0, 1) := dk_42 (dk_at dksX1_ownerAt_1 14 rfl rfl)
theorem dX1_ownerAt_39 : decode cX1_ownerAt 39 = .ok (.getfield 48, 3) := dk_180 0 48 (dk_at dksX1_ownerAt_1 15 rfl rfl)
theorem dX1_ownerAt_42 : decode cX1_ownerAt 42 = .ok (.iload 5, 2) := dk_21 5 (dk_at dksX1_ownerAt_1 18 rfl rfl)
theorem dX1_ownerAt_44 : decode cX1_ownerAt 44 = .ok (.iaload, 1) := dk_46 (dk_at dksX1_ownerAt_1 20 rfl rfl)
theorem dX1_ownerAt_45 : decode cX1_ownerAt 45 = .ok (.aload_n 0, 1) := dk_42 (dk_at dksX1_ownerAt_1 21 rfl rfl)
theorem dX1_ownerAt_46 : decode cX1_ownerAt 46 = .ok (.getfield 64, 3) := dk_180 0 64 (dk_at dksX1_ownerAt_2 0 rfl rfl)
theorem dX1_ownerAt_49 : decode cX1_ownerAt 49 = .ok (.iadd, 1) := dk_96 (dk_at dksX1_ownerAt_2 3 rfl rfl)
theorem dX1_ownerAt_50 : decode cX1_ownerAt 50 = .ok (.if_icmp .lt 11, 3) := dk_161 0 11 (dk_at dksX1_ownerAt_2 4 rfl rfl)
theorem dX1_ownerAt_53 : decode cX1_ownerAt 53 = .ok (.aload_n 0, 1) := dk_42 (dk_at dksX1_ownerAt_2 7 rfl rfl)
theorem dX1_ownerAt_54 : decode cX1_ownerAt 54 = .ok (.getfield 45, 3) := dk_180 0 45 (dk_at dksX1_ownerAt_2 8 rfl rfl)
theorem dX1_ownerAt_57 : decode cX1_ownerAt 57 = .ok (.iload 5, 2) := dk_21 5 (dk_at dksX1_ownerAt_2 11 rfl rfl)
theorem dX1_ownerAt_59 : decode cX1_ownerAt 59 = .ok (.iaload, 1) := dk_46 (dk_at dksX1_ownerAt_2 13 rfl rfl)
theorem dX1_ownerAt_60 : decode cX1_ownerAt 60 = .ok (.ireturn, 1) := dk_172 (dk_at dksX1_ownerAt_2 14 rfl rfl)
theorem dX1_ownerAt_61 : decode cX1_ownerAt 61 = .ok (.aload_n 0, 1) := dk_42 (dk_at dksX1_ownerAt_2 15 rfl rfl)
theorem dX1_ownerAt_62 : decode cX1_ownerAt 62 = .ok (.getfield 86, 3) := dk_180 0 86 (dk_at dksX1_ownerAt_2 16 rfl rfl)
theorem dX1_ownerAt_65 : decode cX1_ownerAt 65 = .ok (.iconst 1, 1) := dk_4 (dk_at dksX1_ownerAt_2 19 rfl rfl)
theorem dX1_ownerAt_66 : decode cX1_ownerAt 66 = .ok (.if_icmp .ne 5, 3) := dk_160 0 5 (dk_at dksX1_ownerAt_2 20 rfl rfl)
theorem dX1_ownerAt_69 : decode cX1_ownerAt 69 = .ok (.iconst (-1), 1) := dk_2 (dk_at dksX1_ownerAt_2 23 rfl rfl)
theorem dX1_ownerAt_70 : decode cX1_ownerAt 70 = .ok (.ireturn, 1) := dk_172 (dk_at dksX1_ownerAt_3 0 rfl rfl)
theorem dX1_ownerAt_71 : decode cX1_ownerAt 71 = .ok (.iinc 4 (-1), 3) := dk_132 4 255 (dk_at dksX1_ownerAt_3 1 rfl rfl)
theorem dX1_ownerAt_74 : decode cX1_ownerAt 74 = .ok (.goto (-64), 3) := dk_167 255 192 (dk_at dksX1_ownerAt_3 4 rfl rfl)
theorem dX1_ownerAt_77 : decode cX1_ownerAt 77 = .ok (.iconst (-1), 1) := dk_2 (dk_at dksX1_ownerAt_3 7 rfl rfl)
theorem dX1_ownerAt_78 : decode cX1_ownerAt 78 = .ok (.ireturn, 1) := dk_172 (dk_at dksX1_ownerAt_3 8 rfl rfl)
abbrev cX1_top : ByteArray := prog_13_method_9_code
def yX1_top : MethodName := ⟨RX1, "top", "(I)I"⟩
def dkwX1_top_1 : List UInt8 := [27, 46, 96, 4, 100, 46, 172]
abbrev dktX1_top_1 : List UInt8 := dkwX1_top_1 ++ []
def dkwX1_top_0 : List UInt8 := [42, 180, 0, 42, 27, 46, 154, 0, 7, 2, 167, 0, 20, 42, 180, 0, 45, 8, 27, 104, 42, 180, 0, 42]
abbrev dktX1_top_0 : List UInt8 := dkwX1_top_0 ++ dktX1_top_1
theorem dksX1_top_0 : cX1_top.data.toList.drop 0 = dktX1_top_0 := by decide +kernel
theorem dksX1_top_1 : cX1_top.data.toList.drop 24 = dktX1_top_1 := dk_seg dksX1_top_0 24 rfl rfl
theorem dX1_top_0 : decode cX1_top 0 = .ok (.aload_n 0, 1) := dk_42 (dk_at dksX1_top_0 0 rfl rfl)
theorem dX1_top_1 : decode cX1_top 1 = .ok (.getfield 42, 3) := dk_180 0 42 (dk_at dksX1_top_0 1 rfl rfl)
theorem dX1_top_4 : decode cX1_top 4 = .ok (.iload_n 1, 1) := dk_27 (dk_at dksX1_top_0 4 rfl rfl)
theorem dX1_top_5 : decode cX1_top 5 = .ok (.iaload, 1) := dk_46 (dk_at dksX1_top_0 5 rfl rfl)
theorem dX1_top_6 : decode cX1_top 6 = .ok (.ifCond .ne 7, 3) := dk_154 0 7 (dk_at dksX1_top_0 6 rfl rfl)
theorem dX1_top_9 : decode cX1_top 9 = .ok (.iconst (-1), 1) := dk_2 (dk_at dksX1_top_0 9 rfl rfl)
theorem dX1_top_10 : decode cX1_top 10 = .ok (.goto 20, 3) := dk_167 0 20 (dk_at dksX1_top_0 10 rfl rfl)
theorem dX1_top_13 : decode cX1_top 13 = .ok (.aload_n 0, 1) := dk_42 (dk_at dksX1_top_0 13 rfl rfl)
theorem dX1_top_14 : decode cX1_top 14 = .ok (.getfield 45, 3) := dk_180 0 45 (dk_at dksX1_top_0 14 rfl rfl)
theorem dX1_top_17 : decode cX1_top 17 = .ok (.iconst 5, 1) := dk_8 (dk_at dksX1_top_0 17 rfl rfl)
theorem dX1_top_18 : decode cX1_top 18 = .ok (.iload_n 1, 1) := dk_27 (dk_at dksX1_top_0 18 rfl rfl)
theorem dX1_top_19 : decode cX1_top 19 = .ok (.imul, 1) := dk_104 (dk_at dksX1_top_0 19 rfl rfl)
theorem dX1_top_20 : decode cX1_top 20 = .ok (.aload_n 0, 1) := dk_42 (dk_at dksX1_top_0 20 rfl rfl)
theorem dX1_top_21 : decode cX1_top 21 = .ok (.getfield 42, 3) := dk_180 0 42 (dk_at dksX1_top_0 21 rfl rfl)
theorem dX1_top_24 : decode cX1_top 24 = .ok (.iload_n 1, 1) := dk_27 (dk_at dksX1_top_1 0 rfl rfl)
theorem dX1_top_25 : decode cX1_top 25 = .ok (.iaload, 1) := dk_46 (dk_at dksX1_top_1 1 rfl rfl)
theorem dX1_top_26 : decode cX1_top 26 = .ok (.iadd, 1) := dk_96 (dk_at dksX1_top_1 2 rfl rfl)
theorem dX1_top_27 : decode cX1_top 27 = .ok (.iconst 1, 1) := dk_4 (dk_at dksX1_top_1 3 rfl rfl)
theorem dX1_top_28 : decode cX1_top 28 = .ok (.isub, 1) := dk_100 (dk_at dksX1_top_1 4 rfl rfl)
theorem dX1_top_29 : decode cX1_top 29 = .ok (.iaload, 1) := dk_46 (dk_at dksX1_top_1 5 rfl rfl)
theorem dX1_top_30 : decode cX1_top 30 = .ok (.ireturn, 1) := dk_172 (dk_at dksX1_top_1 6 rfl rfl)
abbrev cX1_isWet : ByteArray := prog_13_method_10_code
def yX1_isWet : MethodName := ⟨RX1, "isWet", "(I)Z"⟩
def dkwX1_isWet_1 : List UInt8 := [27, 46, 96, 4, 100, 46, 42, 180, 0, 64, 96, 162, 0, 7, 4, 167, 0, 4, 3, 172]
abbrev dktX1_isWet_1 : List UInt8 := dkwX1_isWet_1 ++ []
def dkwX1_isWet_0 : List UInt8 := [42, 180, 0, 42, 27, 46, 158, 0, 36, 42, 180, 0, 108, 42, 180, 0, 48, 8, 27, 104, 42, 180, 0, 42]
abbrev dktX1_isWet_0 : List UInt8 := dkwX1_isWet_0 ++ dktX1_isWet_1
theorem dksX1_isWet_0 : cX1_isWet.data.toList.drop 0 = dktX1_isWet_0 := by decide +kernel
theorem dksX1_isWet_1 : cX1_isWet.data.toList.drop 24 = dktX1_isWet_1 := dk_seg dksX1_isWet_0 24 rfl rfl
theorem dX1_isWet_0 : decode cX1_isWet 0 = .ok (.aload_n 0, 1) := dk_42 (dk_at dksX1_isWet_0 0 rfl rfl)
theorem dX1_isWet_1 : decode cX1_isWet 1 = .ok (.getfield 42, 3) := dk_180 0 42 (dk_at dksX1_isWet_0 1 rfl rfl)
theorem dX1_isWet_4 : decode cX1_isWet 4 = .ok (.iload_n 1, 1) := dk_27 (dk_at dksX1_isWet_0 4 rfl rfl)
theorem dX1_isWet_5 : decode cX1_isWet 5 = .ok (.iaload, 1) := dk_46 (dk_at dksX1_isWet_0 5 rfl rfl)
theorem dX1_isWet_6 : decode cX1_isWet 6 = .ok (.ifCond .le 36, 3) := dk_158 0 36 (dk_at dksX1_isWet_0 6 rfl rfl)
theorem dX1_isWet_9 : decode cX1_isWet 9 = .ok (.aload_n 0, 1) := dk_42 (dk_at dksX1_isWet_0 9 rfl rfl)
theorem dX1_isWet_10 : decode cX1_isWet 10 = .ok (.getfield 108, 3) := dk_180 0 108 (dk_at dksX1_isWet_0 10 rfl rfl)
theorem dX1_isWet_13 : decode cX1_isWet 13 = .ok (.aload_n 0, 1) := dk_42 (dk_at dksX1_isWet_0 13 rfl rfl)
theorem dX1_isWet_14 : decode cX1_isWet 14 = .ok (.getfield 48, 3) := dk_180 0 48 (dk_at dksX1_isWet_0 14 rfl rfl)
theorem dX1_isWet_17 : decode cX1_isWet 17 = .ok (.iconst 5, 1) := dk_8 (dk_at dksX1_isWet_0 17 rfl rfl)
theorem dX1_isWet_18 : decode cX1_isWet 18 = .ok (.iload_n 1, 1) := dk_27 (dk_at dksX1_isWet_0 18 rfl rfl)
theorem dX1_isWet_19 : decode cX1_isWet 19 = .ok (.imul, 1) := dk_104 (dk_at dksX1_isWet_0 19 rfl rfl)
theorem dX1_isWet_20 : decode cX1_isWet 20 = .ok (.aload_n 0, 1) := dk_42 (dk_at dksX1_isWet_0 20 rfl rfl)
theorem dX1_isWet_21 : decode cX1_isWet 21 = .ok (.getfield 42, 3) := dk_180 0 42 (dk_at dksX1_isWet_0 21 rfl rfl)
theorem dX1_isWet_24 : decode cX1_isWet 24 = .ok (.iload_n 1, 1) := dk_27 (dk_at dksX1_isWet_1 0 rfl rfl)
theorem dX1_isWet_25 : decode cX1_isWet 25 = .ok (.iaload, 1) := dk_46 (dk_at dksX1_isWet_1 1 rfl rfl)
theorem dX1_isWet_26 : decode cX1_isWet 26 = .ok (.iadd, 1) := dk_96 (dk_at dksX1_isWet_1 2 rfl rfl)
theorem dX1_isWet_27 : decode cX1_isWet 27 = .ok (.iconst 1, 1) := dk_4 (dk_at dksX1_isWet_1 3 rfl rfl)
theorem dX1_isWet_28 : decode cX1_isWet 28 = .ok (.isub, 1) := dk_100 (dk_at dksX1_isWet_1 4 rfl rfl)
theorem dX1_isWet_29 : decode cX1_isWet 29 = .ok (.iaload, 1) := dk_46 (dk_at dksX1_isWet_1 5 rfl rfl)
theorem dX1_isWet_30 : decode cX1_isWet 30 = .ok (.aload_n 0, 1) := dk_42 (dk_at dksX1_isWet_1 6 rfl rfl)
theorem dX1_isWet_31 : decode cX1_isWet 31 = .ok (.getfield 64, 3) := dk_180 0 64 (dk_at dksX1_isWet_1 7 rfl rfl)
theorem dX1_isWet_34 : decode cX1_isWet 34 = .ok (.iadd, 1) := dk_96 (dk_at dksX1_isWet_1 10 rfl rfl)
theorem dX1_isWet_35 : decode cX1_isWet 35 = .ok (.if_icmp .ge 7, 3) := dk_162 0 7 (dk_at dksX1_isWet_1 11 rfl rfl)
theorem dX1_isWet_38 : decode cX1_isWet 38 = .ok (.iconst 1, 1) := dk_4 (dk_at dksX1_isWet_1 14 rfl rfl)
theorem dX1_isWet_39 : decode cX1_isWet 39 = .ok (.goto 4, 3) := dk_167 0 4 (dk_at dksX1_isWet_1 15 rfl rfl)
theorem dX1_isWet_42 : decode cX1_isWet 42 = .ok (.iconst 0, 1) := dk_3 (dk_at dksX1_isWet_1 18 rfl rfl)
theorem dX1_isWet_43 : decode cX1_isWet 43 = .ok (.ireturn, 1) := dk_172 (dk_at dksX1_isWet_1 19 rfl rfl)
abbrev cX1_whose : ByteArray := prog_13_method_15_code
def yX1_whose : MethodName := ⟨RX1, "whose", "(I)I"⟩
def dkwX1_whose_0 : List UInt8 := [42, 27, 42, 180, 0, 108, 18, 118, 42, 180, 0, 68, 182, 0, 127, 172]
abbrev dktX1_whose_0 : List UInt8 := dkwX1_whose_0 ++ []
theorem dksX1_whose_0 : cX1_whose.data.toList.drop 0 = dktX1_whose_0 := by decide +kernel
theorem dX1_whose_0 : decode cX1_whose 0 = .ok (.aload_n 0, 1) := dk_42 (dk_at dksX1_whose_0 0 rfl rfl)
theorem dX1_whose_1 : decode cX1_whose 1 = .ok (.iload_n 1, 1) := dk_27 (dk_at dksX1_whose_0 1 rfl rfl)
theorem dX1_whose_2 : decode cX1_whose 2 = .ok (.aload_n 0, 1) := dk_42 (dk_at dksX1_whose_0 2 rfl rfl)
theorem dX1_whose_3 : decode cX1_whose 3 = .ok (.getfield 108, 3) := dk_180 0 108 (dk_at dksX1_whose_0 3 rfl rfl)
theorem dX1_whose_6 : decode cX1_whose 6 = .ok (.ldc 118, 2) := dk_18 118 (dk_at dksX1_whose_0 6 rfl rfl)
theorem dX1_whose_8 : decode cX1_whose 8 = .ok (.aload_n 0, 1) := dk_42 (dk_at dksX1_whose_0 8 rfl rfl)
theorem dX1_whose_9 : decode cX1_whose 9 = .ok (.getfield 68, 3) := dk_180 0 68 (dk_at dksX1_whose_0 9 rfl rfl)
theorem dX1_whose_12 : decode cX1_whose 12 = .ok (.invokevirtual 127, 3) := dk_182 0 127 (dk_at dksX1_whose_0 12 rfl rfl)
theorem dX1_whose_15 : decode cX1_whose 15 = .ok (.ireturn, 1) := dk_172 (dk_at dksX1_whose_0 15 rfl rfl)
abbrev cX1_thingAt : ByteArray := prog_13_method_14_code
def yX1_thingAt : MethodName := ⟨RX1, "thingAt", "(IIII)I"⟩
def dkwX1_thingAt_4 : List UInt8 := [132, 5, 1, 167, 255, 208, 42, 27, 21, 4, 182, 0, 123, 172]
abbrev dktX1_thingAt_4 : List UInt8 := dkwX1_thingAt_4 ++ []
def dkwX1_thingAt_3 : List UInt8 := [29, 182, 0, 119, 54, 6, 21, 6, 2, 159, 0, 14, 42, 180, 0, 61, 21, 6, 92, 46, 4, 96, 79]
abbrev dktX1_thingAt_3 : List UInt8 := dkwX1_thingAt_3 ++ dktX1_thingAt_4
def dkwX1_thingAt_2 : List UInt8 := [54, 5, 21, 5, 42, 180, 0, 9, 27, 46, 42, 180, 0, 15, 27, 46, 96, 162, 0, 36, 42, 21, 5, 28]
abbrev dktX1_thingAt_2 : List UInt8 := dkwX1_thingAt_2 ++ dktX1_thingAt_3
def dkwX1_thingAt_1 : List UInt8 := [162, 0, 17, 42, 180, 0, 61, 21, 5, 3, 79, 132, 5, 1, 167, 255, 236, 42, 180, 0, 9, 27, 46]
abbrev dktX1_thingAt_1 : List UInt8 := dkwX1_thingAt_1 ++ dktX1_thingAt_2
def dkwX1_thingAt_0 : List UInt8 := [42, 180, 0, 111, 27, 184, 0, 114, 153, 0, 5, 2, 172, 3, 54, 5, 21, 5, 42, 180, 0, 80]
abbrev dktX1_thingAt_0 : List UInt8 := dkwX1_thingAt_0 ++ dktX1_thingAt_1
theorem dksX1_thingAt_0 : cX1_thingAt.data.toList.drop 0 = dktX1_thingAt_0 := by decide +kernel
theorem dksX1_thingAt_1 : cX1_thingAt.data.toList.drop 22 = dktX1_thingAt_1 := dk_seg dksX1_thingAt_0 22 rfl rfl
theorem dksX1_thingAt_2 : cX1_thingAt.data.toList.drop 45 = dktX1_thingAt_2 := dk_seg dksX1_thingAt_1 23 rfl rfl
theorem dksX1_thingAt_3 : cX1_thingAt.data.toList.drop 69 = dktX1_thingAt_3 := dk_seg dksX1_thingAt_2 24 rfl rfl
theorem dksX1_thingAt_4 : cX1_thingAt.data.toList.drop 92 = dktX1_thingAt_4 := dk_seg dksX1_thingAt_3 23 rfl rfl
theorem dX1_thingAt_0 : decode cX1_thingAt 0 = .ok (.aload_n 0, 1) := dk_42 (dk_at dksX1_thingAt_0 0 rfl rfl)
theorem dX1_thingAt_1 : decode cX1_thingAt 1 = .ok (.getfield 111, 3) := dk_180 0 111 (dk_at dksX1_thingAt_0 1 rfl rfl)
theorem dX1_thingAt_4 : decode cX1_thingAt 4 = .ok (.iload_n 1, 1) := dk_27 (dk_at dksX1_thingAt_0 4 rfl rfl)
theorem dX1_thingAt_5 : decode cX1_thingAt 5 = .ok (.invokestatic 114, 3) := dk_184 0 114 (dk_at dksX1_thingAt_0 5 rfl rfl)
theorem dX1_thingAt_8 : decode cX1_thingAt 8 = .ok (.ifCond .eq 5, 3) := dk_153 0 5 (dk_at dksX1_thingAt_0 8 rfl rfl)
theorem dX1_thingAt_11 : decode cX1_thingAt 11 = .ok (.iconst (-1), 1) := dk_2 (dk_at dksX1_thingAt_0 11 rfl rfl)
theorem dX1_thingAt_12 : decode cX1_thingAt 12 = .ok (.ireturn, 1) := dk_172 (dk_at dksX1_thingAt_0 12 rfl rfl)
theorem dX1_thingAt_13 : decode cX1_thingAt 13 = .ok (.iconst 0, 1) := dk_3 (dk_at dksX1_thingAt_0 13 rfl rfl)
theorem dX1_thingAt_14 : decode cX1_thingAt 14 = .ok (.istore 5, 2) := dk_54 5 (dk_at dksX1_thingAt_0 14 rfl rfl)
theorem dX1_thingAt_16 : decode cX1_thingAt 16 = .ok (.iload 5, 2) := dk_21 5 (dk_at dksX1_thingAt_0 16 rfl rfl)
theorem dX1_thingAt_18 : decode cX1_thingAt 18 = .ok (.aload_n 0, 1) := dk_42 (dk_at dksX1_thingAt_0 18 rfl rfl)
theorem dX1_thingAt_19 : decode cX1_thingAt 19 = .ok (.getfield 80, 3) := dk_180 0 80 (dk_at dksX1_thingAt_0 19 rfl rfl)
theorem dX1_thingAt_22 : decode cX1_thingAt 22 = .ok (.if_icmp .ge 17, 3) := dk_162 0 17 (dk_at dksX1_thingAt_1 0 rfl rfl)
theorem dX1_thingAt_25 : decode cX1_thingAt 25 = .ok (.aload_n 0, 1) := dk_42 (dk_at dksX1_thingAt_1 3 rfl rfl)
theorem dX1_thingAt_26 : decode cX1_thingAt 26 = .ok (.getfield 61, 3) := dk_180 0 61 (dk_at dksX1_thingAt_1 4 rfl rfl)
theorem dX1_thingAt_29 : decode cX1_thingAt 29 = .ok (.iload 5, 2) := dk_21 5 (dk_at dksX1_thingAt_1 7 rfl rfl)
theorem dX1_thingAt_31 : decode cX1_thingAt 31 = .ok (.iconst 0, 1) := dk_3 (dk_at dksX1_thingAt_1 9 rfl rfl)
theorem dX1_thingAt_32 : decode cX1_thingAt 32 = .ok (.iastore, 1) := dk_79 (dk_at dksX1_thingAt_1 10 rfl rfl)
theorem dX1_thingAt_33 : decode cX1_thingAt 33 = .ok (.iinc 5 1, 3) := dk_132 5 1 (dk_at dksX1_thingAt_1 11 rfl rfl)
theorem dX1_thingAt_36 : decode cX1_thingAt 36 = .ok (.goto (-20), 3) := dk_167 255 236 (dk_at dksX1_thingAt_1 14 rfl rfl)
theorem dX1_thingAt_39 : decode cX1_thingAt 39 = .ok (.aload_n 0, 1) := dk_42 (dk_at dksX1_thingAt_1 17 rfl rfl)
theorem dX1_thingAt_40 : decode cX1_thingAt 40 = .ok (.getfield 9, 3) := dk_180 0 9 (dk_at dksX1_thingAt_1 18 rfl rfl)
theorem dX1_thingAt_43 : decode cX1_thingAt 43 = .ok (.iload_n 1, 1) := dk_27 (dk_at dksX1_thingAt_1 21 rfl rfl)
theorem dX1_thingAt_44 : decode cX1_thingAt 44 = .ok (.iaload, 1) := dk_46 (dk_at dksX1_thingAt_1 22 rfl rfl)
theorem dX1_thingAt_45 : decode cX1_thingAt 45 = .ok (.istore 5, 2) := dk_54 5 (dk_at dksX1_thingAt_2 0 rfl rfl)
theorem dX1_thingAt_47 : decode cX1_thingAt 47 = .ok (.iload 5, 2) := dk_21 5 (dk_at dksX1_thingAt_2 2 rfl rfl)
theorem dX1_thingAt_49 : decode cX1_thingAt 49 = .ok (.aload_n 0, 1) := dk_42 (dk_at dksX1_thingAt_2 4 rfl rfl)
theorem dX1_thingAt_50 : decode cX1_thingAt 50 = .ok (.getfield 9, 3) := dk_180 0 9 (dk_at dksX1_thingAt_2 5 rfl rfl)
theorem dX1_thingAt_53 : decode cX1_thingAt 53 = .ok (.iload_n 1, 1) := dk_27 (dk_at dksX1_thingAt_2 8 rfl rfl)
theorem dX1_thingAt_54 : decode cX1_thingAt 54 = .ok (.iaload, 1) := dk_46 (dk_at dksX1_thingAt_2 9 rfl rfl)
theorem dX1_thingAt_55 : decode cX1_thingAt 55 = .ok (.aload_n 0, 1) := dk_42 (dk_at dksX1_thingAt_2 10 rfl rfl)
theorem dX1_thingAt_56 : decode cX1_thingAt 56 = .ok (.getfield 15, 3) := dk_180 0 15 (dk_at dksX1_thingAt_2 11 rfl rfl)
theorem dX1_thingAt_59 : decode cX1_thingAt 59 = .ok (.iload_n 1, 1) := dk_27 (dk_at dksX1_thingAt_2 14 rfl rfl)
theorem dX1_thingAt_60 : decode cX1_thingAt 60 = .ok (.iaload, 1) := dk_46 (dk_at dksX1_thingAt_2 15 rfl rfl)
theorem dX1_thingAt_61 : decode cX1_thingAt 61 = .ok (.iadd, 1) := dk_96 (dk_at dksX1_thingAt_2 16 rfl rfl)
theorem dX1_thingAt_62 : decode cX1_thingAt 62 = .ok (.if_icmp .ge 36, 3) := dk_162 0 36 (dk_at dksX1_thingAt_2 17 rfl rfl)
theorem dX1_thingAt_65 : decode cX1_thingAt 65 = .ok (.aload_n 0, 1) := dk_42 (dk_at dksX1_thingAt_2 20 rfl rfl)
theorem dX1_thingAt_66 : decode cX1_thingAt 66 = .ok (.iload 5, 2) := dk_21 5 (dk_at dksX1_thingAt_2 21 rfl rfl)
theorem dX1_thingAt_68 : decode cX1_thingAt 68 = .ok (.iload_n 2, 1) := dk_28 (dk_at dksX1_thingAt_2 23 rfl rfl)
theorem dX1_thingAt_69 : decode cX1_thingAt 69 = .ok (.iload_n 3, 1) := dk_29 (dk_at dksX1_thingAt_3 0 rfl rfl)
theorem dX1_thingAt_70 : decode cX1_thingAt 70 = .ok (.invokevirtual 119, 3) := dk_182 0 119 (dk_at dksX1_thingAt_3 1 rfl rfl)
theorem dX1_thingAt_73 : decode cX1_thingAt 73 = .ok (.istore 6, 2) := dk_54 6 (dk_at dksX1_thingAt_3 4 rfl rfl)
theorem dX1_thingAt_75 : decode cX1_thingAt 75 = .ok (.iload 6, 2) := dk_21 6 (dk_at dksX1_thingAt_3 6 rfl rfl)
theorem dX1_thingAt_77 : decode cX1_thingAt 77 = .ok (.iconst (-1), 1) := dk_2 (dk_at dksX1_thingAt_3 8 rfl rfl)
theorem dX1_thingAt_78 : decode cX1_thingAt 78 = .ok (.if_icmp .eq 14, 3) := dk_159 0 14 (dk_at dksX1_thingAt_3 9 rfl rfl)
theorem dX1_thingAt_81 : decode cX1_thingAt 81 = .ok (.aload_n 0, 1) := dk_42 (dk_at dksX1_thingAt_3 12 rfl rfl)
theorem dX1_thingAt_82 : decode cX1_thingAt 82 = .ok (.getfield 61, 3) := dk_180 0 61 (dk_at dksX1_thingAt_3 13 rfl rfl)
theorem dX1_thingAt_85 : decode cX1_thingAt 85 = .ok (.iload 6, 2) := dk_21 6 (dk_at dksX1_thingAt_3 16 rfl rfl)
theorem dX1_thingAt_87 : decode cX1_thingAt 87 = .ok (.dup2, 1) := dk_92 (dk_at dksX1_thingAt_3 18 rfl rfl)
theorem dX1_thingAt_88 : decode cX1_thingAt 88 = .ok (.iaload, 1) := dk_46 (dk_at dksX1_thingAt_3 19 rfl rfl)
theorem dX1_thingAt_89 : decode cX1_thingAt 89 = .ok (.iconst 1, 1) := dk_4 (dk_at dksX1_thingAt_3 20 rfl rfl)
theorem dX1_thingAt_90 : decode cX1_thingAt 90 = .ok (.iadd, 1) := dk_96 (dk_at dksX1_thingAt_3 21 rfl rfl)
theorem dX1_thingAt_91 : decode cX1_thingAt 91 = .ok (.iastore, 1) := dk_79 (dk_at dksX1_thingAt_3 22 rfl rfl)
theorem dX1_thingAt_92 : decode cX1_thingAt 92 = .ok (.iinc 5 1, 3) := dk_132 5 1 (dk_at dksX1_thingAt_4 0 rfl rfl)
theorem dX1_thingAt_95 : decode cX1_thingAt 95 = .ok (.goto (-48), 3) := dk_167 255 208 (dk_at dksX1_thingAt_4 3 rfl rfl)
theorem dX1_thingAt_98 : decode cX1_thingAt 98 = .ok (.aload_n 0, 1) := dk_42 (dk_at dksX1_thingAt_4 6 rfl rfl)
theorem dX1_thingAt_99 : decode cX1_thingAt 99 = .ok (.iload_n 1, 1) := dk_27 (dk_at dksX1_thingAt_4 7 rfl rfl)
theorem dX1_thingAt_100 : decode cX1_thingAt 100 = .ok (.iload 4, 2) := dk_21 4 (dk_at dksX1_thingAt_4 8 rfl rfl)
theorem dX1_thingAt_102 : decode cX1_thingAt 102 = .ok (.invokevirtual 123, 3) := dk_182 0 123 (dk_at dksX1_thingAt_4 10 rfl rfl)
theorem dX1_thingAt_105 : decode cX1_thingAt 105 = .ok (.ireturn, 1) := dk_172 (dk_at dksX1_thingAt_4 13 rfl rfl)
abbrev cX1_holder : ByteArray := prog_13_method_13_code
def yX1_holder : MethodName := ⟨RX1, "holder", "(II)I"⟩
def dkwX1_holder_4 : List UInt8 := [132, 5, 1, 167, 255, 168, 21, 4, 153, 0, 7, 29, 167, 0, 4, 2, 172]
abbrev dktX1_holder_4 : List UInt8 := dkwX1_holder_4 ++ []
def dkwX1_holder_3 : List UInt8 := [21, 5, 46, 42, 180, 0, 61, 29, 46, 164, 0, 7, 4, 167, 0, 4, 3, 54, 4, 21, 5, 62]
abbrev dktX1_holder_3 : List UInt8 := dkwX1_holder_3 ++ dktX1_holder_4
def dkwX1_holder_2 : List UInt8 := [21, 5, 46, 42, 180, 0, 61, 29, 46, 162, 0, 6, 167, 0, 34, 29, 2, 159, 0, 19, 42, 180, 0, 61]
abbrev dktX1_holder_2 : List UInt8 := dkwX1_holder_2 ++ dktX1_holder_3
def dkwX1_holder_1 : List UInt8 := [16, 100, 104, 28, 42, 180, 0, 15, 27, 46, 104, 161, 0, 58, 29, 2, 159, 0, 22, 42, 180, 0, 61]
abbrev dktX1_holder_1 : List UInt8 := dkwX1_holder_1 ++ dktX1_holder_2
def dkwX1_holder_0 : List UInt8 := [2, 62, 3, 54, 4, 3, 54, 5, 21, 5, 42, 180, 0, 80, 162, 0, 85, 42, 180, 0, 61, 21, 5, 46]
abbrev dktX1_holder_0 : List UInt8 := dkwX1_holder_0 ++ dktX1_holder_1
theorem dksX1_holder_0 : cX1_holder.data.toList.drop 0 = dktX1_holder_0 := by decide +kernel
theorem dksX1_holder_1 : cX1_holder.data.toList.drop 24 = dktX1_holder_1 := dk_seg dksX1_holder_0 24 rfl rfl
theorem dksX1_holder_2 : cX1_holder.data.toList.drop 47 = dktX1_holder_2 := dk_seg dksX1_holder_1 23 rfl rfl
theorem dksX1_holder_3 : cX1_holder.data.toList.drop 71 = dktX1_holder_3 := dk_seg dksX1_holder_2 24 rfl rfl
theorem dksX1_holder_4 : cX1_holder.data.toList.drop 93 = dktX1_holder_4 := dk_seg dksX1_holder_3 22 rfl rfl
theorem dX1_holder_0 : decode cX1_holder 0 = .ok (.iconst (-1), 1) := dk_2 (dk_at dksX1_holder_0 0 rfl rfl)
theorem dX1_holder_1 : decode cX1_holder 1 = .ok (.istore_n 3, 1) := dk_62 (dk_at dksX1_holder_0 1 rfl rfl)
theorem dX1_holder_2 : decode cX1_holder 2 = .ok (.iconst 0, 1) := dk_3 (dk_at dksX1_holder_0 2 rfl rfl)
theorem dX1_holder_3 : decode cX1_holder 3 = .ok (.istore 4, 2) := dk_54 4 (dk_at dksX1_holder_0 3 rfl rfl)
theorem dX1_holder_5 : decode cX1_holder 5 = .ok (.iconst 0, 1) := dk_3 (dk_at dksX1_holder_0 5 rfl rfl)
theorem dX1_holder_6 : decode cX1_holder 6 = .ok (.istore 5, 2) := dk_54 5 (dk_at dksX1_holder_0 6 rfl rfl)
theorem dX1_holder_8 : decode cX1_holder 8 = .ok (.iload 5, 2) := dk_21 5 (dk_at dksX1_holder_0 8 rfl rfl)
theorem dX1_holder_10 : decode cX1_holder 10 = .ok (.aload_n 0, 1) := dk_42 (dk_at dksX1_holder_0 10 rfl rfl)
theorem dX1_holder_11 : decode cX1_holder 11 = .ok (.getfield 80, 3) := dk_180 0 80 (dk_at dksX1_holder_0 11 rfl rfl)
theorem dX1_holder_14 : decode cX1_holder 14 = .ok (.if_icmp .ge 85, 3) := dk_162 0 85 (dk_at dksX1_holder_0 14 rfl rfl)
theorem dX1_holder_17 : decode cX1_holder 17 = .ok (.aload_n 0, 1) := dk_42 (dk_at dksX1_holder_0 17 rfl rfl)
theorem dX1_holder_18 : decode cX1_holder 18 = .ok (.getfield 61, 3) := dk_180 0 61 (dk_at dksX1_holder_0 18 rfl rfl)
theorem dX1_holder_21 : decode cX1_holder 21 = .ok (.iload 5, 2) := dk_21 5 (dk_at dksX1_holder_0 21 rfl rfl)
theorem dX1_holder_23 : decode cX1_holder 23 = .ok (.iaload, 1) := dk_46 (dk_at dksX1_holder_0 23 rfl rfl)
theorem dX1_holder_24 : decode cX1_holder 24 = .ok (.bipush 100, 2) := dk_16 100 (dk_at dksX1_holder_1 0 rfl rfl)
theorem dX1_holder_26 : decode cX1_holder 26 = .ok (.imul, 1) := dk_104 (dk_at dksX1_holder_1 2 rfl rfl)
theorem dX1_holder_27 : decode cX1_holder 27 = .ok (.iload_n 2, 1) := dk_28 (dk_at dksX1_holder_1 3 rfl rfl)
theorem dX1_holder_28 : decode cX1_holder 28 = .ok (.aload_n 0, 1) := dk_42 (dk_at dksX1_holder_1 4 rfl rfl)
theorem dX1_holder_29 : decode cX1_holder 29 = .ok (.getfield 15, 3) := dk_180 0 15 (dk_at dksX1_holder_1 5 rfl rfl)
theorem dX1_holder_32 : decode cX1_holder 32 = .ok (.iload_n 1, 1) := dk_27 (dk_at dksX1_holder_1 8 rfl rfl)
theorem dX1_holder_33 : decode cX1_holder 33 = .ok (.iaload, 1) := dk_46 (dk_at dksX1_holder_1 9 rfl rfl)
theorem dX1_holder_34 : decode cX1_holder 34 = .ok (.imul, 1) := dk_104 (dk_at dksX1_holder_1 10 rfl rfl)
theorem dX1_holder_35 : decode cX1_holder 35 = .ok (.if_icmp .lt 58, 3) := dk_161 0 58 (dk_at dksX1_holder_1 11 rfl rfl)
theorem dX1_holder_38 : decode cX1_holder 38 = .ok (.iload_n 3, 1) := dk_29 (dk_at dksX1_holder_1 14 rfl rfl)
theorem dX1_holder_39 : decode cX1_holder 39 = .ok (.iconst (-1), 1) := dk_2 (dk_at dksX1_holder_1 15 rfl rfl)
theorem dX1_holder_40 : decode cX1_holder 40 = .ok (.if_icmp .eq 22, 3) := dk_159 0 22 (dk_at dksX1_holder_1 16 rfl rfl)
theorem dX1_holder_43 : decode cX1_holder 43 = .ok (.aload_n 0, 1) := dk_42 (dk_at dksX1_holder_1 19 rfl rfl)
theorem dX1_holder_44 : decode cX1_holder 44 = .ok (.getfield 61, 3) := dk_180 0 61 (dk_at dksX1_holder_1 20 rfl rfl)
theorem dX1_holder_47 : decode cX1_holder 47 = .ok (.iload 5, 2) := dk_21 5 (dk_at dksX1_holder_2 0 rfl rfl)
theorem dX1_holder_49 : decode cX1_holder 49 = .ok (.iaload, 1) := dk_46 (dk_at dksX1_holder_2 2 rfl rfl)
theorem dX1_holder_50 : decode cX1_holder 50 = .ok (.aload_n 0, 1) := dk_42 (dk_at dksX1_holder_2 3 rfl rfl)
theorem dX1_holder_51 : decode cX1_holder 51 = .ok (.getfield 61, 3) := dk_180 0 61 (dk_at dksX1_holder_2 4 rfl rfl)
theorem dX1_holder_54 : decode cX1_holder 54 = .ok (.iload_n 3, 1) := dk_29 (dk_at dksX1_holder_2 7 rfl rfl)
theorem dX1_holder_55 : decode cX1_holder 55 = .ok (.iaload, 1) := dk_46 (dk_at dksX1_holder_2 8 rfl rfl)
theorem dX1_holder_56 : decode cX1_holder 56 = .ok (.if_icmp .ge 6, 3) := dk_162 0 6 (dk_at dksX1_holder_2 9 rfl rfl)
theorem dX1_holder_59 : decode cX1_holder 59 = .ok (.goto 34, 3) := dk_167 0 34 (dk_at dksX1_holder_2 12 rfl rfl)
theorem dX1_holder_62 : decode cX1_holder 62 = .ok (.iload_n 3, 1) := dk_29 (dk_at dksX1_holder_2 15 rfl rfl)
theorem dX1_holder_63 : decode cX1_holder 63 = .ok (.iconst (-1), 1) := dk_2 (dk_at dksX1_holder_2 16 rfl rfl)
theorem dX1_holder_64 : decode cX1_holder 64 = .ok (.if_icmp .eq 19, 3) := dk_159 0 19 (dk_at dksX1_holder_2 17 rfl rfl)
theorem dX1_holder_67 : decode cX1_holder 67 = .ok (.aload_n 0, 1) := dk_42 (dk_at dksX1_holder_2 20 rfl rfl)
theorem dX1_holder_68 : decode cX1_holder 68 = .ok (.getfield 61, 3) := dk_180 0 61 (dk_at dksX1_holder_2 21 rfl rfl)
theorem dX1_holder_71 : decode cX1_holder 71 = .ok (.iload 5, 2) := dk_21 5 (dk_at dksX1_holder_3 0 rfl rfl)
theorem dX1_holder_73 : decode cX1_holder 73 = .ok (.iaload, 1) := dk_46 (dk_at dksX1_holder_3 2 rfl rfl)
theorem dX1_holder_74 : decode cX1_holder 74 = .ok (.aload_n 0, 1) := dk_42 (dk_at dksX1_holder_3 3 rfl rfl)
theorem dX1_holder_75 : decode cX1_holder 75 = .ok (.getfield 61, 3) := dk_180 0 61 (dk_at dksX1_holder_3 4 rfl rfl)
theorem dX1_holder_78 : decode cX1_holder 78 = .ok (.iload_n 3, 1) := dk_29 (dk_at dksX1_holder_3 7 rfl rfl)
theorem dX1_holder_79 : decode cX1_holder 79 = .ok (.iaload, 1) := dk_46 (dk_at dksX1_holder_3 8 rfl rfl)
theorem dX1_holder_80 : decode cX1_holder 80 = .ok (.if_icmp .le 7, 3) := dk_164 0 7 (dk_at dksX1_holder_3 9 rfl rfl)
theorem dX1_holder_83 : decode cX1_holder 83 = .ok (.iconst 1, 1) := dk_4 (dk_at dksX1_holder_3 12 rfl rfl)
theorem dX1_holder_84 : decode cX1_holder 84 = .ok (.goto 4, 3) := dk_167 0 4 (dk_at dksX1_holder_3 13 rfl rfl)
theorem dX1_holder_87 : decode cX1_holder 87 = .ok (.iconst 0, 1) := dk_3 (dk_at dksX1_holder_3 16 rfl rfl)
theorem dX1_holder_88 : decode cX1_holder 88 = .ok (.istore 4, 2) := dk_54 4 (dk_at dksX1_holder_3 17 rfl rfl)
theorem dX1_holder_90 : decode cX1_holder 90 = .ok (.iload 5, 2) := dk_21 5 (dk_at dksX1_holder_3 19 rfl rfl)
theorem dX1_holder_92 : decode cX1_holder 92 = .ok (.istore_n 3, 1) := dk_62 (dk_at dksX1_holder_3 21 rfl rfl)
theorem dX1_holder_93 : decode cX1_holder 93 = .ok (.iinc 5 1, 3) := dk_132 5 1 (dk_at dksX1_holder_4 0 rfl rfl)
theorem dX1_holder_96 : decode cX1_holder 96 = .ok (.goto (-88), 3) := dk_167 255 168 (dk_at dksX1_holder_4 3 rfl rfl)
theorem dX1_holder_99 : decode cX1_holder 99 = .ok (.iload 4, 2) := dk_21 4 (dk_at dksX1_holder_4 6 rfl rfl)
theorem dX1_holder_101 : decode cX1_holder 101 = .ok (.ifCond .eq 7, 3) := dk_153 0 7 (dk_at dksX1_holder_4 8 rfl rfl)
theorem dX1_holder_104 : decode cX1_holder 104 = .ok (.iload_n 3, 1) := dk_29 (dk_at dksX1_holder_4 11 rfl rfl)
theorem dX1_holder_105 : decode cX1_holder 105 = .ok (.goto 4, 3) := dk_167 0 4 (dk_at dksX1_holder_4 12 rfl rfl)
theorem dX1_holder_108 : decode cX1_holder 108 = .ok (.iconst (-1), 1) := dk_2 (dk_at dksX1_holder_4 15 rfl rfl)
theorem dX1_holder_109 : decode cX1_holder 109 = .ok (.ireturn, 1) := dk_172 (dk_at dksX1_holder_4 16 rfl rfl)
abbrev cX1_isRain : ByteArray := prog_13_method_7_code
def yX1_isRain : MethodName := ⟨RX1, "isRain", "(I)Z"⟩
def dkwX1_isRain_1 : List UInt8 := [180, 0, 36, 5, 28, 104, 4, 96, 46, 163, 0, 5, 4, 172, 132, 2, 1, 167, 255, 217, 3, 172]
abbrev dktX1_isRain_1 : List UInt8 := dkwX1_isRain_1 ++ []
def dkwX1_isRain_0 : List UInt8 := [3, 61, 28, 42, 180, 0, 83, 162, 0, 37, 27, 42, 180, 0, 36, 5, 28, 104, 46, 161, 0, 19, 27, 42]
abbrev dktX1_isRain_0 : List UInt8 := dkwX1_isRain_0 ++ dktX1_isRain_1
theorem dksX1_isRain_0 : cX1_isRain.data.toList.drop 0 = dktX1_isRain_0 := by decide +kernel
theorem dksX1_isRain_1 : cX1_isRain.data.toList.drop 24 = dktX1_isRain_1 := dk_seg dksX1_isRain_0 24 rfl rfl
theorem dX1_isRain_0 : decode cX1_isRain 0 = .ok (.iconst 0, 1) := dk_3 (dk_at dksX1_isRain_0 0 rfl rfl)
theorem dX1_isRain_1 : decode cX1_isRain 1 = .ok (.istore_n 2, 1) := dk_61 (dk_at dksX1_isRain_0 1 rfl rfl)
theorem dX1_isRain_2 : decode cX1_isRain 2 = .ok (.iload_n 2, 1) := dk_28 (dk_at dksX1_isRain_0 2 rfl rfl)
theorem dX1_isRain_3 : decode cX1_isRain 3 = .ok (.aload_n 0, 1) := dk_42 (dk_at dksX1_isRain_0 3 rfl rfl)
theorem dX1_isRain_4 : decode cX1_isRain 4 = .ok (.getfield 83, 3) := dk_180 0 83 (dk_at dksX1_isRain_0 4 rfl rfl)
theorem dX1_isRain_7 : decode cX1_isRain 7 = .ok (.if_icmp .ge 37, 3) := dk_162 0 37 (dk_at dksX1_isRain_0 7 rfl rfl)
theorem dX1_isRain_10 : decode cX1_isRain 10 = .ok (.iload_n 1, 1) := dk_27 (dk_at dksX1_isRain_0 10 rfl rfl)
theorem dX1_isRain_11 : decode cX1_isRain 11 = .ok (.aload_n 0, 1) := dk_42 (dk_at dksX1_isRain_0 11 rfl rfl)
theorem dX1_isRain_12 : decode cX1_isRain 12 = .ok (.getfield 36, 3) := dk_180 0 36 (dk_at dksX1_isRain_0 12 rfl rfl)
theorem dX1_isRain_15 : decode cX1_isRain 15 = .ok (.iconst 2, 1) := dk_5 (dk_at dksX1_isRain_0 15 rfl rfl)
theorem dX1_isRain_16 : decode cX1_isRain 16 = .ok (.iload_n 2, 1) := dk_28 (dk_at dksX1_isRain_0 16 rfl rfl)
theorem dX1_isRain_17 : decode cX1_isRain 17 = .ok (.imul, 1) := dk_104 (dk_at dksX1_isRain_0 17 rfl rfl)
theorem dX1_isRain_18 : decode cX1_isRain 18 = .ok (.iaload, 1) := dk_46 (dk_at dksX1_isRain_0 18 rfl rfl)
theorem dX1_isRain_19 : decode cX1_isRain 19 = .ok (.if_icmp .lt 19, 3) := dk_161 0 19 (dk_at dksX1_isRain_0 19 rfl rfl)
theorem dX1_isRain_22 : decode cX1_isRain 22 = .ok (.iload_n 1, 1) := dk_27 (dk_at dksX1_isRain_0 22 rfl rfl)
theorem dX1_isRain_23 : decode cX1_isRain 23 = .ok (.aload_n 0, 1) := dk_42 (dk_at dksX1_isRain_0 23 rfl rfl)
theorem dX1_isRain_24 : decode cX1_isRain 24 = .ok (.getfield 36, 3) := dk_180 0 36 (dk_at dksX1_isRain_1 0 rfl rfl)
theorem dX1_isRain_27 : decode cX1_isRain 27 = .ok (.iconst 2, 1) := dk_5 (dk_at dksX1_isRain_1 3 rfl rfl)
theorem dX1_isRain_28 : decode cX1_isRain 28 = .ok (.iload_n 2, 1) := dk_28 (dk_at dksX1_isRain_1 4 rfl rfl)
theorem dX1_isRain_29 : decode cX1_isRain 29 = .ok (.imul, 1) := dk_104 (dk_at dksX1_isRain_1 5 rfl rfl)
theorem dX1_isRain_30 : decode cX1_isRain 30 = .ok (.iconst 1, 1) := dk_4 (dk_at dksX1_isRain_1 6 rfl rfl)
theorem dX1_isRain_31 : decode cX1_isRain 31 = .ok (.iadd, 1) := dk_96 (dk_at dksX1_isRain_1 7 rfl rfl)
theorem dX1_isRain_32 : decode cX1_isRain 32 = .ok (.iaload, 1) := dk_46 (dk_at dksX1_isRain_1 8 rfl rfl)
theorem dX1_isRain_33 : decode cX1_isRain 33 = .ok (.if_icmp .gt 5, 3) := dk_163 0 5 (dk_at dksX1_isRain_1 9 rfl rfl)
theorem dX1_isRain_36 : decode cX1_isRain 36 = .ok (.iconst 1, 1) := dk_4 (dk_at dksX1_isRain_1 12 rfl rfl)
theorem dX1_isRain_37 : decode cX1_isRain 37 = .ok (.ireturn, 1) := dk_172 (dk_at dksX1_isRain_1 13 rfl rfl)
theorem dX1_isRain_38 : decode cX1_isRain 38 = .ok (.iinc 2 1, 3) := dk_132 2 1 (dk_at dksX1_isRain_1 14 rfl rfl)
theorem dX1_isRain_41 : decode cX1_isRain 41 = .ok (.goto (-39), 3) := dk_167 255 217 (dk_at dksX1_isRain_1 17 rfl rfl)
theorem dX1_isRain_44 : decode cX1_isRain 44 = .ok (.iconst 0, 1) := dk_3 (dk_at dksX1_isRain_1 20 rfl rfl)
theorem dX1_isRain_45 : decode cX1_isRain 45 = .ok (.ireturn, 1) := dk_172 (dk_at dksX1_isRain_1 21 rfl rfl)
abbrev cX1_takes : ByteArray := prog_13_method_5_code
def yX1_takes : MethodName := ⟨RX1, "takes", "(I)V"⟩
def dkwX1_takes_4 : List UInt8 := [3, 7, 184, 0, 98, 177]
abbrev dktX1_takes_4 : List UInt8 := dkwX1_takes_4 ++ []
def dkwX1_takes_3 : List UInt8 := [96, 42, 180, 0, 48, 3, 16, 80, 184, 0, 98, 42, 180, 0, 54, 28, 17, 0, 178, 96, 42, 180, 0, 51]
abbrev dktX1_takes_3 : List UInt8 := dkwX1_takes_3 ++ dktX1_takes_4
def dkwX1_takes_2 : List UInt8 := [180, 0, 54, 28, 16, 18, 96, 42, 180, 0, 45, 3, 16, 80, 184, 0, 98, 42, 180, 0, 54, 28, 16, 98]
abbrev dktX1_takes_2 : List UInt8 := dkwX1_takes_2 ++ dktX1_takes_3
def dkwX1_takes_1 : List UInt8 := [46, 181, 0, 111, 42, 180, 0, 54, 28, 5, 96, 42, 180, 0, 42, 3, 16, 16, 184, 0, 98, 42]
abbrev dktX1_takes_1 : List UInt8 := dkwX1_takes_1 ++ dktX1_takes_2
def dkwX1_takes_0 : List UInt8 := [17, 0, 182, 27, 104, 61, 42, 42, 180, 0, 54, 28, 46, 181, 0, 108, 42, 42, 180, 0, 54, 28, 4, 96]
abbrev dktX1_takes_0 : List UInt8 := dkwX1_takes_0 ++ dktX1_takes_1
theorem dksX1_takes_0 : cX1_takes.data.toList.drop 0 = dktX1_takes_0 := by decide +kernel
theorem dksX1_takes_1 : cX1_takes.data.toList.drop 24 = dktX1_takes_1 := dk_seg dksX1_takes_0 24 rfl rfl
theorem dksX1_takes_2 : cX1_takes.data.toList.drop 46 = dktX1_takes_2 := dk_seg dksX1_takes_1 22 rfl rfl
theorem dksX1_takes_3 : cX1_takes.data.toList.drop 70 = dktX1_takes_3 := dk_seg dksX1_takes_2 24 rfl rfl
theorem dksX1_takes_4 : cX1_takes.data.toList.drop 94 = dktX1_takes_4 := dk_seg dksX1_takes_3 24 rfl rfl
theorem dX1_takes_0 : decode cX1_takes 0 = .ok (.sipush 182, 3) := dk_17 0 182 (dk_at dksX1_takes_0 0 rfl rfl)
theorem dX1_takes_3 : decode cX1_takes 3 = .ok (.iload_n 1, 1) := dk_27 (dk_at dksX1_takes_0 3 rfl rfl)
theorem dX1_takes_4 : decode cX1_takes 4 = .ok (.imul, 1) := dk_104 (dk_at dksX1_takes_0 4 rfl rfl)
theorem dX1_takes_5 : decode cX1_takes 5 = .ok (.istore_n 2, 1) := dk_61 (dk_at dksX1_takes_0 5 rfl rfl)
theorem dX1_takes_6 : decode cX1_takes 6 = .ok (.aload_n 0, 1) := dk_42 (dk_at dksX1_takes_0 6 rfl rfl)
theorem dX1_takes_7 : decode cX1_takes 7 = .ok (.aload_n 0, 1) := dk_42 (dk_at dksX1_takes_0 7 rfl rfl)
theorem dX1_takes_8 : decode cX1_takes 8 = .ok (.getfield 54, 3) := dk_180 0 54 (dk_at dksX1_takes_0 8 rfl rfl)
theorem dX1_takes_11 : decode cX1_takes 11 = .ok (.iload_n 2, 1) := dk_28 (dk_at dksX1_takes_0 11 rfl rfl)
theorem dX1_takes_12 : decode cX1_takes 12 = .ok (.iaload, 1) := dk_46 (dk_at dksX1_takes_0 12 rfl rfl)
theorem dX1_takes_13 : decode cX1_takes 13 = .ok (.putfield 108, 3) := dk_181 0 108 (dk_at dksX1_takes_0 13 rfl rfl)
theorem dX1_takes_16 : decode cX1_takes 16 = .ok (.aload_n 0, 1) := dk_42 (dk_at dksX1_takes_0 16 rfl rfl)
theorem dX1_takes_17 : decode cX1_takes 17 = .ok (.aload_n 0, 1) := dk_42 (dk_at dksX1_takes_0 17 rfl rfl)
theorem dX1_takes_18 : decode cX1_takes 18 = .ok (.getfield 54, 3) := dk_180 0 54 (dk_at dksX1_takes_0 18 rfl rfl)
theorem dX1_takes_21 : decode cX1_takes 21 = .ok (.iload_n 2, 1) := dk_28 (dk_at dksX1_takes_0 21 rfl rfl)
theorem dX1_takes_22 : decode cX1_takes 22 = .ok (.iconst 1, 1) := dk_4 (dk_at dksX1_takes_0 22 rfl rfl)
theorem dX1_takes_23 : decode cX1_takes 23 = .ok (.iadd, 1) := dk_96 (dk_at dksX1_takes_0 23 rfl rfl)
theorem dX1_takes_24 : decode cX1_takes 24 = .ok (.iaload, 1) := dk_46 (dk_at dksX1_takes_1 0 rfl rfl)
theorem dX1_takes_25 : decode cX1_takes 25 = .ok (.putfield 111, 3) := dk_181 0 111 (dk_at dksX1_takes_1 1 rfl rfl)
theorem dX1_takes_28 : decode cX1_takes 28 = .ok (.aload_n 0, 1) := dk_42 (dk_at dksX1_takes_1 4 rfl rfl)
theorem dX1_takes_29 : decode cX1_takes 29 = .ok (.getfield 54, 3) := dk_180 0 54 (dk_at dksX1_takes_1 5 rfl rfl)
theorem dX1_takes_32 : decode cX1_takes 32 = .ok (.iload_n 2, 1) := dk_28 (dk_at dksX1_takes_1 8 rfl rfl)
theorem dX1_takes_33 : decode cX1_takes 33 = .ok (.iconst 2, 1) := dk_5 (dk_at dksX1_takes_1 9 rfl rfl)
theorem dX1_takes_34 : decode cX1_takes 34 = .ok (.iadd, 1) := dk_96 (dk_at dksX1_takes_1 10 rfl rfl)
theorem dX1_takes_35 : decode cX1_takes 35 = .ok (.aload_n 0, 1) := dk_42 (dk_at dksX1_takes_1 11 rfl rfl)
theorem dX1_takes_36 : decode cX1_takes 36 = .ok (.getfield 42, 3) := dk_180 0 42 (dk_at dksX1_takes_1 12 rfl rfl)
theorem dX1_takes_39 : decode cX1_takes 39 = .ok (.iconst 0, 1) := dk_3 (dk_at dksX1_takes_1 15 rfl rfl)
theorem dX1_takes_40 : decode cX1_takes 40 = .ok (.bipush 16, 2) := dk_16 16 (dk_at dksX1_takes_1 16 rfl rfl)
theorem dX1_takes_42 : decode cX1_takes 42 = .ok (.invokestatic 98, 3) := dk_184 0 98 (dk_at dksX1_takes_1 18 rfl rfl)
theorem dX1_takes_45 : decode cX1_takes 45 = .ok (.aload_n 0, 1) := dk_42 (dk_at dksX1_takes_1 21 rfl rfl)
theorem dX1_takes_46 : decode cX1_takes 46 = .ok (.getfield 54, 3) := dk_180 0 54 (dk_at dksX1_takes_2 0 rfl rfl)
theorem dX1_takes_49 : decode cX1_takes 49 = .ok (.iload_n 2, 1) := dk_28 (dk_at dksX1_takes_2 3 rfl rfl)
theorem dX1_takes_50 : decode cX1_takes 50 = .ok (.bipush 18, 2) := dk_16 18 (dk_at dksX1_takes_2 4 rfl rfl)
theorem dX1_takes_52 : decode cX1_takes 52 = .ok (.iadd, 1) := dk_96 (dk_at dksX1_takes_2 6 rfl rfl)
theorem dX1_takes_53 : decode cX1_takes 53 = .ok (.aload_n 0, 1) := dk_42 (dk_at dksX1_takes_2 7 rfl rfl)
theorem dX1_takes_54 : decode cX1_takes 54 = .ok (.getfield 45, 3) := dk_180 0 45 (dk_at dksX1_takes_2 8 rfl rfl)
theorem dX1_takes_57 : decode cX1_takes 57 = .ok (.iconst 0, 1) := dk_3 (dk_at dksX1_takes_2 11 rfl rfl)
theorem dX1_takes_58 : decode cX1_takes 58 = .ok (.bipush 80, 2) := dk_16 80 (dk_at dksX1_takes_2 12 rfl rfl)
theorem dX1_takes_60 : decode cX1_takes 60 = .ok (.invokestatic 98, 3) := dk_184 0 98 (dk_at dksX1_takes_2 14 rfl rfl)
theorem dX1_takes_63 : decode cX1_takes 63 = .ok (.aload_n 0, 1) := dk_42 (dk_at dksX1_takes_2 17 rfl rfl)
theorem dX1_takes_64 : decode cX1_takes 64 = .ok (.getfield 54, 3) := dk_180 0 54 (dk_at dksX1_takes_2 18 rfl rfl)
theorem dX1_takes_67 : decode cX1_takes 67 = .ok (.iload_n 2, 1) := dk_28 (dk_at dksX1_takes_2 21 rfl rfl)
theorem dX1_takes_68 : decode cX1_takes 68 = .ok (.bipush 98, 2) := dk_16 98 (dk_at dksX1_takes_2 22 rfl rfl)
theorem dX1_takes_70 : decode cX1_takes 70 = .ok (.iadd, 1) := dk_96 (dk_at dksX1_takes_3 0 rfl rfl)
theorem dX1_takes_71 : decode cX1_takes 71 = .ok (.aload_n 0, 1) := dk_42 (dk_at dksX1_takes_3 1 rfl rfl)
theorem dX1_takes_72 : decode cX1_takes 72 = .ok (.getfield 48, 3) := dk_180 0 48 (dk_at dksX1_takes_3 2 rfl rfl)
theorem dX1_takes_75 : decode cX1_takes 75 = .ok (.iconst 0, 1) := dk_3 (dk_at dksX1_takes_3 5 rfl rfl)
theorem dX1_takes_76 : decode cX1_takes 76 = .ok (.bipush 80, 2) := dk_16 80 (dk_at dksX1_takes_3 6 rfl rfl)
theorem dX1_takes_78 : decode cX1_takes 78 = .ok (.invokestatic 98, 3) := dk_184 0 98 (dk_at dksX1_takes_3 8 rfl rfl)
theorem dX1_takes_81 : decode cX1_takes 81 = .ok (.aload_n 0, 1) := dk_42 (dk_at dksX1_takes_3 11 rfl rfl)
theorem dX1_takes_82 : decode cX1_takes 82 = .ok (.getfield 54, 3) := dk_180 0 54 (dk_at dksX1_takes_3 12 rfl rfl)
theorem dX1_takes_85 : decode cX1_takes 85 = .ok (.iload_n 2, 1) := dk_28 (dk_at dksX1_takes_3 15 rfl rfl)
theorem dX1_takes_86 : decode cX1_takes 86 = .ok (.sipush 178, 3) := dk_17 0 178 (dk_at dksX1_takes_3 16 rfl rfl)
theorem dX1_takes_89 : decode cX1_takes 89 = .ok (.iadd, 1) := dk_96 (dk_at dksX1_takes_3 19 rfl rfl)
theorem dX1_takes_90 : decode cX1_takes 90 = .ok (.aload_n 0, 1) := dk_42 (dk_at dksX1_takes_3 20 rfl rfl)
theorem dX1_takes_91 : decode cX1_takes 91 = .ok (.getfield 51, 3) := dk_180 0 51 (dk_at dksX1_takes_3 21 rfl rfl)
theorem dX1_takes_94 : decode cX1_takes 94 = .ok (.iconst 0, 1) := dk_3 (dk_at dksX1_takes_4 0 rfl rfl)
theorem dX1_takes_95 : decode cX1_takes 95 = .ok (.iconst 4, 1) := dk_7 (dk_at dksX1_takes_4 1 rfl rfl)
theorem dX1_takes_96 : decode cX1_takes 96 = .ok (.invokestatic 98, 3) := dk_184 0 98 (dk_at dksX1_takes_4 2 rfl rfl)
theorem dX1_takes_99 : decode cX1_takes 99 = .ok (.return_, 1) := dk_177 (dk_at dksX1_takes_4 5 rfl rfl)
abbrev cX1_lays : ByteArray := prog_13_method_4_code
def yX1_lays : MethodName := ⟨RX1, "lays", "(I)V"⟩
def dkwX1_lays_4 : List UInt8 := [17, 0, 178, 96, 7, 184, 0, 98, 177]
abbrev dktX1_lays_4 : List UInt8 := dkwX1_lays_4 ++ []
def dkwX1_lays_3 : List UInt8 := [180, 0, 54, 28, 16, 98, 96, 16, 80, 184, 0, 98, 42, 180, 0, 51, 3, 42, 180, 0, 54, 28]
abbrev dktX1_lays_3 : List UInt8 := dkwX1_lays_3 ++ dktX1_lays_4
def dkwX1_lays_2 : List UInt8 := [180, 0, 45, 3, 42, 180, 0, 54, 28, 16, 18, 96, 16, 80, 184, 0, 98, 42, 180, 0, 48, 3, 42]
abbrev dktX1_lays_2 : List UInt8 := dkwX1_lays_2 ++ dktX1_lays_3
def dkwX1_lays_1 : List UInt8 := [180, 0, 111, 79, 42, 180, 0, 42, 3, 42, 180, 0, 54, 28, 5, 96, 16, 16, 184, 0, 98, 42]
abbrev dktX1_lays_1 : List UInt8 := dkwX1_lays_1 ++ dktX1_lays_2
def dkwX1_lays_0 : List UInt8 := [17, 0, 182, 27, 104, 61, 42, 180, 0, 54, 28, 42, 180, 0, 108, 79, 42, 180, 0, 54, 28, 4, 96, 42]
abbrev dktX1_lays_0 : List UInt8 := dkwX1_lays_0 ++ dktX1_lays_1
theorem dksX1_lays_0 : cX1_lays.data.toList.drop 0 = dktX1_lays_0 := by decide +kernel
theorem dksX1_lays_1 : cX1_lays.data.toList.drop 24 = dktX1_lays_1 := dk_seg dksX1_lays_0 24 rfl rfl
theorem dksX1_lays_2 : cX1_lays.data.toList.drop 46 = dktX1_lays_2 := dk_seg dksX1_lays_1 22 rfl rfl
theorem dksX1_lays_3 : cX1_lays.data.toList.drop 69 = dktX1_lays_3 := dk_seg dksX1_lays_2 23 rfl rfl
theorem dksX1_lays_4 : cX1_lays.data.toList.drop 91 = dktX1_lays_4 := dk_seg dksX1_lays_3 22 rfl rfl
theorem dX1_lays_0 : decode cX1_lays 0 = .ok (.sipush 182, 3) := dk_17 0 182 (dk_at dksX1_lays_0 0 rfl rfl)
theorem dX1_lays_3 : decode cX1_lays 3 = .ok (.iload_n 1, 1) := dk_27 (dk_at dksX1_lays_0 3 rfl rfl)
theorem dX1_lays_4 : decode cX1_lays 4 = .ok (.imul, 1) := dk_104 (dk_at dksX1_lays_0 4 rfl rfl)
theorem dX1_lays_5 : decode cX1_lays 5 = .ok (.istore_n 2, 1) := dk_61 (dk_at dksX1_lays_0 5 rfl rfl)
theorem dX1_lays_6 : decode cX1_lays 6 = .ok (.aload_n 0, 1) := dk_42 (dk_at dksX1_lays_0 6 rfl rfl)
theorem dX1_lays_7 : decode cX1_lays 7 = .ok (.getfield 54, 3) := dk_180 0 54 (dk_at dksX1_lays_0 7 rfl rfl)
theorem dX1_lays_10 : decode cX1_lays 10 = .ok (.iload_n 2, 1) := dk_28 (dk_at dksX1_lays_0 10 rfl rfl)
theorem dX1_lays_11 : decode cX1_lays 11 = .ok (.aload_n 0, 1) := dk_42 (dk_at dksX1_lays_0 11 rfl rfl)
theorem dX1_lays_12 : decode cX1_lays 12 = .ok (.getfield 108, 3) := dk_180 0 108 (dk_at dksX1_lays_0 12 rfl rfl)
theorem dX1_lays_15 : decode cX1_lays 15 = .ok (.iastore, 1) := dk_79 (dk_at dksX1_lays_0 15 rfl rfl)
theorem dX1_lays_16 : decode cX1_lays 16 = .ok (.aload_n 0, 1) := dk_42 (dk_at dksX1_lays_0 16 rfl rfl)
theorem dX1_lays_17 : decode cX1_lays 17 = .ok (.getfield 54, 3) := dk_180 0 54 (dk_at dksX1_lays_0 17 rfl rfl)
theorem dX1_lays_20 : decode cX1_lays 20 = .ok (.iload_n 2, 1) := dk_28 (dk_at dksX1_lays_0 20 rfl rfl)
theorem dX1_lays_21 : decode cX1_lays 21 = .ok (.iconst 1, 1) := dk_4 (dk_at dksX1_lays_0 21 rfl rfl)
theorem dX1_lays_22 : decode cX1_lays 22 = .ok (.iadd, 1) := dk_96 (dk_at dksX1_lays_0 22 rfl rfl)
theorem dX1_lays_23 : decode cX1_lays 23 = .ok (.aload_n 0, 1) := dk_42 (dk_at dksX1_lays_0 23 rfl rfl)
theorem dX1_lays_24 : decode cX1_lays 24 = .ok (.getfield 111, 3) := dk_180 0 111 (dk_at dksX1_lays_1 0 rfl rfl)
theorem dX1_lays_27 : decode cX1_lays 27 = .ok (.iastore, 1) := dk_79 (dk_at dksX1_lays_1 3 rfl rfl)
theorem dX1_lays_28 : decode cX1_lays 28 = .ok (.aload_n 0, 1) := dk_42 (dk_at dksX1_lays_1 4 rfl rfl)
theorem dX1_lays_29 : decode cX1_lays 29 = .ok (.getfield 42, 3) := dk_180 0 42 (dk_at dksX1_lays_1 5 rfl rfl)
theorem dX1_lays_32 : decode cX1_lays 32 = .ok (.iconst 0, 1) := dk_3 (dk_at dksX1_lays_1 8 rfl rfl)
theorem dX1_lays_33 : decode cX1_lays 33 = .ok (.aload_n 0, 1) := dk_42 (dk_at dksX1_lays_1 9 rfl rfl)
theorem dX1_lays_34 : decode cX1_lays 34 = .ok (.getfield 54, 3) := dk_180 0 54 (dk_at dksX1_lays_1 10 rfl rfl)
theorem dX1_lays_37 : decode cX1_lays 37 = .ok (.iload_n 2, 1) := dk_28 (dk_at dksX1_lays_1 13 rfl rfl)
theorem dX1_lays_38 : decode cX1_lays 38 = .ok (.iconst 2, 1) := dk_5 (dk_at dksX1_lays_1 14 rfl rfl)
theorem dX1_lays_39 : decode cX1_lays 39 = .ok (.iadd, 1) := dk_96 (dk_at dksX1_lays_1 15 rfl rfl)
theorem dX1_lays_40 : decode cX1_lays 40 = .ok (.bipush 16, 2) := dk_16 16 (dk_at dksX1_lays_1 16 rfl rfl)
theorem dX1_lays_42 : decode cX1_lays 42 = .ok (.invokestatic 98, 3) := dk_184 0 98 (dk_at dksX1_lays_1 18 rfl rfl)
theorem dX1_lays_45 : decode cX1_lays 45 = .ok (.aload_n 0, 1) := dk_42 (dk_at dksX1_lays_1 21 rfl rfl)
theorem dX1_lays_46 : decode cX1_lays 46 = .ok (.getfield 45, 3) := dk_180 0 45 (dk_at dksX1_lays_2 0 rfl rfl)
theorem dX1_lays_49 : decode cX1_lays 49 = .ok (.iconst 0, 1) := dk_3 (dk_at dksX1_lays_2 3 rfl rfl)
theorem dX1_lays_50 : decode cX1_lays 50 = .ok (.aload_n 0, 1) := dk_42 (dk_at dksX1_lays_2 4 rfl rfl)
theorem dX1_lays_51 : decode cX1_lays 51 = .ok (.getfield 54, 3) := dk_180 0 54 (dk_at dksX1_lays_2 5 rfl rfl)
theorem dX1_lays_54 : decode cX1_lays 54 = .ok (.iload_n 2, 1) := dk_28 (dk_at dksX1_lays_2 8 rfl rfl)
theorem dX1_lays_55 : decode cX1_lays 55 = .ok (.bipush 18, 2) := dk_16 18 (dk_at dksX1_lays_2 9 rfl rfl)
theorem dX1_lays_57 : decode cX1_lays 57 = .ok (.iadd, 1) := dk_96 (dk_at dksX1_lays_2 11 rfl rfl)
theorem dX1_lays_58 : decode cX1_lays 58 = .ok (.bipush 80, 2) := dk_16 80 (dk_at dksX1_lays_2 12 rfl rfl)
theorem dX1_lays_60 : decode cX1_lays 60 = .ok (.invokestatic 98, 3) := dk_184 0 98 (dk_at dksX1_lays_2 14 rfl rfl)
theorem dX1_lays_63 : decode cX1_lays 63 = .ok (.aload_n 0, 1) := dk_42 (dk_at dksX1_lays_2 17 rfl rfl)
theorem dX1_lays_64 : decode cX1_lays 64 = .ok (.getfield 48, 3) := dk_180 0 48 (dk_at dksX1_lays_2 18 rfl rfl)
theorem dX1_lays_67 : decode cX1_lays 67 = .ok (.iconst 0, 1) := dk_3 (dk_at dksX1_lays_2 21 rfl rfl)
theorem dX1_lays_68 : decode cX1_lays 68 = .ok (.aload_n 0, 1) := dk_42 (dk_at dksX1_lays_2 22 rfl rfl)
theorem dX1_lays_69 : decode cX1_lays 69 = .ok (.getfield 54, 3) := dk_180 0 54 (dk_at dksX1_lays_3 0 rfl rfl)
theorem dX1_lays_72 : decode cX1_lays 72 = .ok (.iload_n 2, 1) := dk_28 (dk_at dksX1_lays_3 3 rfl rfl)
theorem dX1_lays_73 : decode cX1_lays 73 = .ok (.bipush 98, 2) := dk_16 98 (dk_at dksX1_lays_3 4 rfl rfl)
theorem dX1_lays_75 : decode cX1_lays 75 = .ok (.iadd, 1) := dk_96 (dk_at dksX1_lays_3 6 rfl rfl)
theorem dX1_lays_76 : decode cX1_lays 76 = .ok (.bipush 80, 2) := dk_16 80 (dk_at dksX1_lays_3 7 rfl rfl)
theorem dX1_lays_78 : decode cX1_lays 78 = .ok (.invokestatic 98, 3) := dk_184 0 98 (dk_at dksX1_lays_3 9 rfl rfl)
theorem dX1_lays_81 : decode cX1_lays 81 = .ok (.aload_n 0, 1) := dk_42 (dk_at dksX1_lays_3 12 rfl rfl)
theorem dX1_lays_82 : decode cX1_lays 82 = .ok (.getfield 51, 3) := dk_180 0 51 (dk_at dksX1_lays_3 13 rfl rfl)
theorem dX1_lays_85 : decode cX1_lays 85 = .ok (.iconst 0, 1) := dk_3 (dk_at dksX1_lays_3 16 rfl rfl)
theorem dX1_lays_86 : decode cX1_lays 86 = .ok (.aload_n 0, 1) := dk_42 (dk_at dksX1_lays_3 17 rfl rfl)
theorem dX1_lays_87 : decode cX1_lays 87 = .ok (.getfield 54, 3) := dk_180 0 54 (dk_at dksX1_lays_3 18 rfl rfl)
theorem dX1_lays_90 : decode cX1_lays 90 = .ok (.iload_n 2, 1) := dk_28 (dk_at dksX1_lays_3 21 rfl rfl)
theorem dX1_lays_91 : decode cX1_lays 91 = .ok (.sipush 178, 3) := dk_17 0 178 (dk_at dksX1_lays_4 0 rfl rfl)
theorem dX1_lays_94 : decode cX1_lays 94 = .ok (.iadd, 1) := dk_96 (dk_at dksX1_lays_4 3 rfl rfl)
theorem dX1_lays_95 : decode cX1_lays 95 = .ok (.iconst 4, 1) := dk_7 (dk_at dksX1_lays_4 4 rfl rfl)
theorem dX1_lays_96 : decode cX1_lays 96 = .ok (.invokestatic 98, 3) := dk_184 0 98 (dk_at dksX1_lays_4 5 rfl rfl)
theorem dX1_lays_99 : decode cX1_lays 99 = .ok (.return_, 1) := dk_177 (dk_at dksX1_lays_4 8 rfl rfl)
abbrev cX1_passes : ByteArray := prog_13_method_25_code
def yX1_passes : MethodName := ⟨RX1, "passes", "(LLatestCoat$Rule;[I)I"⟩
def dkwX1_passes_2 : List UInt8 := [132, 3, 1, 132, 4, 1, 167, 255, 211, 42, 44, 182, 0, 190, 29, 172]
abbrev dktX1_passes_2 : List UInt8 := dkwX1_passes_2 ++ []
def dkwX1_passes_1 : List UInt8 := [182, 0, 183, 54, 5, 21, 5, 2, 160, 0, 6, 167, 0, 14, 42, 21, 5, 21, 4, 182, 0, 187]
abbrev dktX1_passes_1 : List UInt8 := dkwX1_passes_1 ++ dktX1_passes_2
def dkwX1_passes_0 : List UInt8 := [3, 62, 3, 54, 4, 21, 4, 42, 180, 0, 80, 162, 0, 42, 43, 198, 0, 38, 42, 21, 4, 43]
abbrev dktX1_passes_0 : List UInt8 := dkwX1_passes_0 ++ dktX1_passes_1
theorem dksX1_passes_0 : cX1_passes.data.toList.drop 0 = dktX1_passes_0 := by decide +kernel
theorem dksX1_passes_1 : cX1_passes.data.toList.drop 22 = dktX1_passes_1 := dk_seg dksX1_passes_0 22 rfl rfl
theorem dksX1_passes_2 : cX1_passes.data.toList.drop 44 = dktX1_passes_2 := dk_seg dksX1_passes_1 22 rfl rfl
theorem dX1_passes_0 : decode cX1_passes 0 = .ok (.iconst 0, 1) := dk_3 (dk_at dksX1_passes_0 0 rfl rfl)
theorem dX1_passes_1 : decode cX1_passes 1 = .ok (.istore_n 3, 1) := dk_62 (dk_at dksX1_passes_0 1 rfl rfl)
theorem dX1_passes_2 : decode cX1_passes 2 = .ok (.iconst 0, 1) := dk_3 (dk_at dksX1_passes_0 2 rfl rfl)
theorem dX1_passes_3 : decode cX1_passes 3 = .ok (.istore 4, 2) := dk_54 4 (dk_at dksX1_passes_0 3 rfl rfl)
theorem dX1_passes_5 : decode cX1_passes 5 = .ok (.iload 4, 2) := dk_21 4 (dk_at dksX1_passes_0 5 rfl rfl)
theorem dX1_passes_7 : decode cX1_passes 7 = .ok (.aload_n 0, 1) := dk_42 (dk_at dksX1_passes_0 7 rfl rfl)
theorem dX1_passes_8 : decode cX1_passes 8 = .ok (.getfield 80, 3) := dk_180 0 80 (dk_at dksX1_passes_0 8 rfl rfl)
theorem dX1_passes_11 : decode cX1_passes 11 = .ok (.if_icmp .ge 42, 3) := dk_162 0 42 (dk_at dksX1_passes_0 11 rfl rfl)
theorem dX1_passes_14 : decode cX1_passes 14 = .ok (.aload_n 1, 1) := dk_43 (dk_at dksX1_passes_0 14 rfl rfl)
theorem dX1_passes_15 : decode cX1_passes 15 = .ok (.ifnull 38, 3) := dk_198 0 38 (dk_at dksX1_passes_0 15 rfl rfl)
theorem dX1_passes_18 : decode cX1_passes 18 = .ok (.aload_n 0, 1) := dk_42 (dk_at dksX1_passes_0 18 rfl rfl)
theorem dX1_passes_19 : decode cX1_passes 19 = .ok (.iload 4, 2) := dk_21 4 (dk_at dksX1_passes_0 19 rfl rfl)
theorem dX1_passes_21 : decode cX1_passes 21 = .ok (.aload_n 1, 1) := dk_43 (dk_at dksX1_passes_0 21 rfl rfl)
theorem dX1_passes_22 : decode cX1_passes 22 = .ok (.invokevirtual 183, 3) := dk_182 0 183 (dk_at dksX1_passes_1 0 rfl rfl)
theorem dX1_passes_25 : decode cX1_passes 25 = .ok (.istore 5, 2) := dk_54 5 (dk_at dksX1_passes_1 3 rfl rfl)
theorem dX1_passes_27 : decode cX1_passes 27 = .ok (.iload 5, 2) := dk_21 5 (dk_at dksX1_passes_1 5 rfl rfl)
theorem dX1_passes_29 : decode cX1_passes 29 = .ok (.iconst (-1), 1) := dk_2 (dk_at dksX1_passes_1 7 rfl rfl)
theorem dX1_passes_30 : decode cX1_passes 30 = .ok (.if_icmp .ne 6, 3) := dk_160 0 6 (dk_at dksX1_passes_1 8 rfl rfl)
theorem dX1_passes_33 : decode cX1_passes 33 = .ok (.goto 14, 3) := dk_167 0 14 (dk_at dksX1_passes_1 11 rfl rfl)
theorem dX1_passes_36 : decode cX1_passes 36 = .ok (.aload_n 0, 1) := dk_42 (dk_at dksX1_passes_1 14 rfl rfl)
theorem dX1_passes_37 : decode cX1_passes 37 = .ok (.iload 5, 2) := dk_21 5 (dk_at dksX1_passes_1 15 rfl rfl)
theorem dX1_passes_39 : decode cX1_passes 39 = .ok (.iload 4, 2) := dk_21 4 (dk_at dksX1_passes_1 17 rfl rfl)
theorem dX1_passes_41 : decode cX1_passes 41 = .ok (.invokevirtual 187, 3) := dk_182 0 187 (dk_at dksX1_passes_1 19 rfl rfl)
theorem dX1_passes_44 : decode cX1_passes 44 = .ok (.iinc 3 1, 3) := dk_132 3 1 (dk_at dksX1_passes_2 0 rfl rfl)
theorem dX1_passes_47 : decode cX1_passes 47 = .ok (.iinc 4 1, 3) := dk_132 4 1 (dk_at dksX1_passes_2 3 rfl rfl)
theorem dX1_passes_50 : decode cX1_passes 50 = .ok (.goto (-45), 3) := dk_167 255 211 (dk_at dksX1_passes_2 6 rfl rfl)
theorem dX1_passes_53 : decode cX1_passes 53 = .ok (.aload_n 0, 1) := dk_42 (dk_at dksX1_passes_2 9 rfl rfl)
theorem dX1_passes_54 : decode cX1_passes 54 = .ok (.aload_n 2, 1) := dk_44 (dk_at dksX1_passes_2 10 rfl rfl)
theorem dX1_passes_55 : decode cX1_passes 55 = .ok (.invokevirtual 190, 3) := dk_182 0 190 (dk_at dksX1_passes_2 11 rfl rfl)
theorem dX1_passes_58 : decode cX1_passes 58 = .ok (.iload_n 3, 1) := dk_29 (dk_at dksX1_passes_2 14 rfl rfl)
theorem dX1_passes_59 : decode cX1_passes 59 = .ok (.ireturn, 1) := dk_172 (dk_at dksX1_passes_2 15 rfl rfl)
abbrev cX1_cellBy : ByteArray := prog_13_method_21_code
def yX1_cellBy : MethodName := ⟨RX1, "cellBy", "(ILLatestCoat$Rule;)I"⟩
def dkwX1_cellBy_3 : List UInt8 := [29, 172]
abbrev dktX1_cellBy_3 : List UInt8 := dkwX1_cellBy_3 ++ []
def dkwX1_cellBy_2 : List UInt8 := [22, 7, 22, 4, 148, 157, 0, 6, 167, 0, 10, 21, 6, 62, 22, 7, 55, 4, 132, 6, 1, 167, 255, 196]
abbrev dktX1_cellBy_2 : List UInt8 := dkwX1_cellBy_2 ++ dktX1_cellBy_3
def dkwX1_cellBy_1 : List UInt8 := [154, 0, 6, 167, 0, 38, 42, 27, 21, 6, 182, 0, 161, 44, 42, 180, 0, 57, 182, 0, 165, 55, 7]
abbrev dktX1_cellBy_1 : List UInt8 := dkwX1_cellBy_1 ++ dktX1_cellBy_2
def dkwX1_cellBy_0 : List UInt8 := [2, 62, 9, 55, 4, 3, 54, 6, 21, 6, 42, 180, 0, 77, 162, 0, 57, 42, 21, 6, 27, 182, 0, 158]
abbrev dktX1_cellBy_0 : List UInt8 := dkwX1_cellBy_0 ++ dktX1_cellBy_1
theorem dksX1_cellBy_0 : cX1_cellBy.data.toList.drop 0 = dktX1_cellBy_0 := by decide +kernel
theorem dksX1_cellBy_1 : cX1_cellBy.data.toList.drop 24 = dktX1_cellBy_1 := dk_seg dksX1_cellBy_0 24 rfl rfl
theorem dksX1_cellBy_2 : cX1_cellBy.data.toList.drop 47 = dktX1_cellBy_2 := dk_seg dksX1_cellBy_1 23 rfl rfl
theorem dksX1_cellBy_3 : cX1_cellBy.data.toList.drop 71 = dktX1_cellBy_3 := dk_seg dksX1_cellBy_2 24 rfl rfl
theorem dX1_cellBy_0 : decode cX1_cellBy 0 = .ok (.iconst (-1), 1) := dk_2 (dk_at dksX1_cellBy_0 0 rfl rfl)
theorem dX1_cellBy_1 : decode cX1_cellBy 1 = .ok (.istore_n 3, 1) := dk_62 (dk_at dksX1_cellBy_0 1 rfl rfl)
theorem dX1_cellBy_2 : decode cX1_cellBy 2 = .ok (.lconst 0, 1) := dk_9 (dk_at dksX1_cellBy_0 2 rfl rfl)
theorem dX1_cellBy_3 : decode cX1_cellBy 3 = .ok (.lstore 4, 2) := dk_55 4 (dk_at dksX1_cellBy_0 3 rfl rfl)
theorem dX1_cellBy_5 : decode cX1_cellBy 5 = .ok (.iconst 0, 1) := dk_3 (dk_at dksX1_cellBy_0 5 rfl rfl)
theorem dX1_cellBy_6 : decode cX1_cellBy 6 = .ok (.istore 6, 2) := dk_54 6 (dk_at dksX1_cellBy_0 6 rfl rfl)
theorem dX1_cellBy_8 : decode cX1_cellBy 8 = .ok (.iload 6, 2) := dk_21 6 (dk_at dksX1_cellBy_0 8 rfl rfl)
theorem dX1_cellBy_10 : decode cX1_cellBy 10 = .ok (.aload_n 0, 1) := dk_42 (dk_at dksX1_cellBy_0 10 rfl rfl)
theorem dX1_cellBy_11 : decode cX1_cellBy 11 = .ok (.getfield 77, 3) := dk_180 0 77 (dk_at dksX1_cellBy_0 11 rfl rfl)
theorem dX1_cellBy_14 : decode cX1_cellBy 14 = .ok (.if_icmp .ge 57, 3) := dk_162 0 57 (dk_at dksX1_cellBy_0 14 rfl rfl)
theorem dX1_cellBy_17 : decode cX1_cellBy 17 = .ok (.aload_n 0, 1) := dk_42 (dk_at dksX1_cellBy_0 17 rfl rfl)
theorem dX1_cellBy_18 : decode cX1_cellBy 18 = .ok (.iload 6, 2) := dk_21 6 (dk_at dksX1_cellBy_0 18 rfl rfl)
theorem dX1_cellBy_20 : decode cX1_cellBy 20 = .ok (.iload_n 1, 1) := dk_27 (dk_at dksX1_cellBy_0 20 rfl rfl)
theorem dX1_cellBy_21 : decode cX1_cellBy 21 = .ok (.invokevirtual 158, 3) := dk_182 0 158 (dk_at dksX1_cellBy_0 21 rfl rfl)
theorem dX1_cellBy_24 : decode cX1_cellBy 24 = .ok (.ifCond .ne 6, 3) := dk_154 0 6 (dk_at dksX1_cellBy_1 0 rfl rfl)
theorem dX1_cellBy_27 : decode cX1_cellBy 27 = .ok (.goto 38, 3) := dk_167 0 38 (dk_at dksX1_cellBy_1 3 rfl rfl)
theorem dX1_cellBy_30 : decode cX1_cellBy 30 = .ok (.aload_n 0, 1) := dk_42 (dk_at dksX1_cellBy_1 6 rfl rfl)
theorem dX1_cellBy_31 : decode cX1_cellBy 31 = .ok (.iload_n 1, 1) := dk_27 (dk_at dksX1_cellBy_1 7 rfl rfl)
theorem dX1_cellBy_32 : decode cX1_cellBy 32 = .ok (.iload 6, 2) := dk_21 6 (dk_at dksX1_cellBy_1 8 rfl rfl)
theorem dX1_cellBy_34 : decode cX1_cellBy 34 = .ok (.invokevirtual 161, 3) := dk_182 0 161 (dk_at dksX1_cellBy_1 10 rfl rfl)
theorem dX1_cellBy_37 : decode cX1_cellBy 37 = .ok (.aload_n 2, 1) := dk_44 (dk_at dksX1_cellBy_1 13 rfl rfl)
theorem dX1_cellBy_38 : decode cX1_cellBy 38 = .ok (.aload_n 0, 1) := dk_42 (dk_at dksX1_cellBy_1 14 rfl rfl)
theorem dX1_cellBy_39 : decode cX1_cellBy 39 = .ok (.getfield 57, 3) := dk_180 0 57 (dk_at dksX1_cellBy_1 15 rfl rfl)
theorem dX1_cellBy_42 : decode cX1_cellBy 42 = .ok (.invokevirtual 165, 3) := dk_182 0 165 (dk_at dksX1_cellBy_1 18 rfl rfl)
theorem dX1_cellBy_45 : decode cX1_cellBy 45 = .ok (.lstore 7, 2) := dk_55 7 (dk_at dksX1_cellBy_1 21 rfl rfl)
theorem dX1_cellBy_47 : decode cX1_cellBy 47 = .ok (.lload 7, 2) := dk_22 7 (dk_at dksX1_cellBy_2 0 rfl rfl)
theorem dX1_cellBy_49 : decode cX1_cellBy 49 = .ok (.lload 4, 2) := dk_22 4 (dk_at dksX1_cellBy_2 2 rfl rfl)
theorem dX1_cellBy_51 : decode cX1_cellBy 51 = .ok (.lcmp, 1) := dk_148 (dk_at dksX1_cellBy_2 4 rfl rfl)
theorem dX1_cellBy_52 : decode cX1_cellBy 52 = .ok (.ifCond .gt 6, 3) := dk_157 0 6 (dk_at dksX1_cellBy_2 5 rfl rfl)
theorem dX1_cellBy_55 : decode cX1_cellBy 55 = .ok (.goto 10, 3) := dk_167 0 10 (dk_at dksX1_cellBy_2 8 rfl rfl)
theorem dX1_cellBy_58 : decode cX1_cellBy 58 = .ok (.iload 6, 2) := dk_21 6 (dk_at dksX1_cellBy_2 11 rfl rfl)
theorem dX1_cellBy_60 : decode cX1_cellBy 60 = .ok (.istore_n 3, 1) := dk_62 (dk_at dksX1_cellBy_2 13 rfl rfl)
theorem dX1_cellBy_61 : decode cX1_cellBy 61 = .ok (.lload 7, 2) := dk_22 7 (dk_at dksX1_cellBy_2 14 rfl rfl)
theorem dX1_cellBy_63 : decode cX1_cellBy 63 = .ok (.lstore 4, 2) := dk_55 4 (dk_at dksX1_cellBy_2 16 rfl rfl)
theorem dX1_cellBy_65 : decode cX1_cellBy 65 = .ok (.iinc 6 1, 3) := dk_132 6 1 (dk_at dksX1_cellBy_2 18 rfl rfl)
theorem dX1_cellBy_68 : decode cX1_cellBy 68 = .ok (.goto (-60), 3) := dk_167 255 196 (dk_at dksX1_cellBy_2 21 rfl rfl)
theorem dX1_cellBy_71 : decode cX1_cellBy 71 = .ok (.iload_n 3, 1) := dk_29 (dk_at dksX1_cellBy_3 0 rfl rfl)
theorem dX1_cellBy_72 : decode cX1_cellBy 72 = .ok (.ireturn, 1) := dk_172 (dk_at dksX1_cellBy_3 1 rfl rfl)
abbrev cX1_canPaint : ByteArray := prog_13_method_18_code
def yX1_canPaint : MethodName := ⟨RX1, "canPaint", "(II)Z"⟩
def dkwX1_canPaint_1 : List UInt8 := [167, 0, 4, 3, 172]
abbrev dktX1_canPaint_1 : List UInt8 := dkwX1_canPaint_1 ++ []
def dkwX1_canPaint_0 : List UInt8 := [42, 27, 182, 0, 135, 154, 0, 20, 42, 180, 0, 51, 28, 46, 42, 180, 0, 71, 161, 0, 7, 4]
abbrev dktX1_canPaint_0 : List UInt8 := dkwX1_canPaint_0 ++ dktX1_canPaint_1
theorem dksX1_canPaint_0 : cX1_canPaint.data.toList.drop 0 = dktX1_canPaint_0 := by decide +kernel
theorem dksX1_canPaint_1 : cX1_canPaint.data.toList.drop 22 = dktX1_canPaint_1 := dk_seg dksX1_canPaint_0 22 rfl rfl
theorem dX1_canPaint_0 : decode cX1_canPaint 0 = .ok (.aload_n 0, 1) := dk_42 (dk_at dksX1_canPaint_0 0 rfl rfl)
theorem dX1_canPaint_1 : decode cX1_canPaint 1 = .ok (.iload_n 1, 1) := dk_27 (dk_at dksX1_canPaint_0 1 rfl rfl)
theorem dX1_canPaint_2 : decode cX1_canPaint 2 = .ok (.invokevirtual 135, 3) := dk_182 0 135 (dk_at dksX1_canPaint_0 2 rfl rfl)
theorem dX1_canPaint_5 : decode cX1_canPaint 5 = .ok (.ifCond .ne 20, 3) := dk_154 0 20 (dk_at dksX1_canPaint_0 5 rfl rfl)
theorem dX1_canPaint_8 : decode cX1_canPaint 8 = .ok (.aload_n 0, 1) := dk_42 (dk_at dksX1_canPaint_0 8 rfl rfl)
theorem dX1_canPaint_9 : decode cX1_canPaint 9 = .ok (.getfield 51, 3) := dk_180 0 51 (dk_at dksX1_canPaint_0 9 rfl rfl)
theorem dX1_canPaint_12 : decode cX1_canPaint 12 = .ok (.iload_n 2, 1) := dk_28 (dk_at dksX1_canPaint_0 12 rfl rfl)
theorem dX1_canPaint_13 : decode cX1_canPaint 13 = .ok (.iaload, 1) := dk_46 (dk_at dksX1_canPaint_0 13 rfl rfl)
theorem dX1_canPaint_14 : decode cX1_canPaint 14 = .ok (.aload_n 0, 1) := dk_42 (dk_at dksX1_canPaint_0 14 rfl rfl)
theorem dX1_canPaint_15 : decode cX1_canPaint 15 = .ok (.getfield 71, 3) := dk_180 0 71 (dk_at dksX1_canPaint_0 15 rfl rfl)
theorem dX1_canPaint_18 : decode cX1_canPaint 18 = .ok (.if_icmp .lt 7, 3) := dk_161 0 7 (dk_at dksX1_canPaint_0 18 rfl rfl)
theorem dX1_canPaint_21 : decode cX1_canPaint 21 = .ok (.iconst 1, 1) := dk_4 (dk_at dksX1_canPaint_0 21 rfl rfl)
theorem dX1_canPaint_22 : decode cX1_canPaint 22 = .ok (.goto 4, 3) := dk_167 0 4 (dk_at dksX1_canPaint_1 0 rfl rfl)
theorem dX1_canPaint_25 : decode cX1_canPaint 25 = .ok (.iconst 0, 1) := dk_3 (dk_at dksX1_canPaint_1 3 rfl rfl)
theorem dX1_canPaint_26 : decode cX1_canPaint 26 = .ok (.ireturn, 1) := dk_172 (dk_at dksX1_canPaint_1 4 rfl rfl)
abbrev cX1_isBareCell : ByteArray := prog_13_method_8_code
def yX1_isBareCell : MethodName := ⟨RX1, "isBareCell", "(I)Z"⟩
def dkwX1_isBareCell_0 : List UInt8 := [42, 180, 0, 111, 42, 180, 0, 21, 27, 46, 184, 0, 114, 172]
abbrev dktX1_isBareCell_0 : List UInt8 := dkwX1_isBareCell_0 ++ []
theorem dksX1_isBareCell_0 : cX1_isBareCell.data.toList.drop 0 = dktX1_isBareCell_0 := by decide +kernel
theorem dX1_isBareCell_0 : decode cX1_isBareCell 0 = .ok (.aload_n 0, 1) := dk_42 (dk_at dksX1_isBareCell_0 0 rfl rfl)
theorem dX1_isBareCell_1 : decode cX1_isBareCell 1 = .ok (.getfield 111, 3) := dk_180 0 111 (dk_at dksX1_isBareCell_0 1 rfl rfl)
theorem dX1_isBareCell_4 : decode cX1_isBareCell 4 = .ok (.aload_n 0, 1) := dk_42 (dk_at dksX1_isBareCell_0 4 rfl rfl)
theorem dX1_isBareCell_5 : decode cX1_isBareCell 5 = .ok (.getfield 21, 3) := dk_180 0 21 (dk_at dksX1_isBareCell_0 5 rfl rfl)
theorem dX1_isBareCell_8 : decode cX1_isBareCell 8 = .ok (.iload_n 1, 1) := dk_27 (dk_at dksX1_isBareCell_0 8 rfl rfl)
theorem dX1_isBareCell_9 : decode cX1_isBareCell 9 = .ok (.iaload, 1) := dk_46 (dk_at dksX1_isBareCell_0 9 rfl rfl)
theorem dX1_isBareCell_10 : decode cX1_isBareCell 10 = .ok (.invokestatic 114, 3) := dk_184 0 114 (dk_at dksX1_isBareCell_0 10 rfl rfl)
theorem dX1_isBareCell_13 : decode cX1_isBareCell 13 = .ok (.ireturn, 1) := dk_172 (dk_at dksX1_isBareCell_0 13 rfl rfl)
abbrev cX1_fillsWords : ByteArray := prog_13_method_20_code
def yX1_fillsWords : MethodName := ⟨RX1, "fillsWords", "(II)V"⟩
def dkwX1_fillsWords_7 : List UInt8 := [180, 0, 108, 182, 0, 155, 153, 0, 7, 10, 167, 0, 4, 9, 80, 177]
abbrev dktX1_fillsWords_7 : List UInt8 := dkwX1_fillsWords_7 ++ []
def dkwX1_fillsWords_6 : List UInt8 := [46, 133, 80, 42, 180, 0, 57, 16, 11, 42, 180, 0, 108, 133, 80, 42, 180, 0, 57, 16, 12, 42, 42]
abbrev dktX1_fillsWords_6 : List UInt8 := dkwX1_fillsWords_6 ++ dktX1_fillsWords_7
def dkwX1_fillsWords_5 : List UInt8 := [180, 0, 57, 16, 9, 42, 180, 0, 42, 28, 46, 133, 80, 42, 180, 0, 57, 16, 10, 42, 180, 0, 51, 27]
abbrev dktX1_fillsWords_5 : List UInt8 := dkwX1_fillsWords_5 ++ dktX1_fillsWords_6
def dkwX1_fillsWords_4 : List UInt8 := [42, 27, 29, 182, 0, 149, 133, 80, 42, 180, 0, 57, 16, 8, 42, 29, 182, 0, 152, 133, 80, 42]
abbrev dktX1_fillsWords_4 : List UInt8 := dkwX1_fillsWords_4 ++ dktX1_fillsWords_5
def dkwX1_fillsWords_3 : List UInt8 := [167, 0, 4, 9, 80, 42, 180, 0, 57, 16, 6, 42, 28, 182, 0, 131, 133, 80, 42, 180, 0, 57, 16, 7]
abbrev dktX1_fillsWords_3 : List UInt8 := dkwX1_fillsWords_3 ++ dktX1_fillsWords_4
def dkwX1_fillsWords_2 : List UInt8 := [7, 42, 28, 182, 0, 143, 133, 80, 42, 180, 0, 57, 8, 42, 28, 182, 0, 146, 153, 0, 7, 10]
abbrev dktX1_fillsWords_2 : List UInt8 := dkwX1_fillsWords_2 ++ dktX1_fillsWords_3
def dkwX1_fillsWords_1 : List UInt8 := [180, 0, 57, 5, 29, 133, 80, 42, 180, 0, 57, 6, 42, 180, 0, 18, 29, 46, 133, 80, 42, 180, 0, 57]
abbrev dktX1_fillsWords_1 : List UInt8 := dkwX1_fillsWords_1 ++ dktX1_fillsWords_2
def dkwX1_fillsWords_0 : List UInt8 := [42, 180, 0, 21, 28, 46, 62, 42, 180, 0, 57, 3, 27, 133, 80, 42, 180, 0, 57, 4, 28, 133, 80, 42]
abbrev dktX1_fillsWords_0 : List UInt8 := dkwX1_fillsWords_0 ++ dktX1_fillsWords_1
theorem dksX1_fillsWords_0 : cX1_fillsWords.data.toList.drop 0 = dktX1_fillsWords_0 := by decide +kernel
theorem dksX1_fillsWords_1 : cX1_fillsWords.data.toList.drop 24 = dktX1_fillsWords_1 := dk_seg dksX1_fillsWords_0 24 rfl rfl
theorem dksX1_fillsWords_2 : cX1_fillsWords.data.toList.drop 48 = dktX1_fillsWords_2 := dk_seg dksX1_fillsWords_1 24 rfl rfl
theorem dksX1_fillsWords_3 : cX1_fillsWords.data.toList.drop 70 = dktX1_fillsWords_3 := dk_seg dksX1_fillsWords_2 22 rfl rfl
theorem dksX1_fillsWords_4 : cX1_fillsWords.data.toList.drop 94 = dktX1_fillsWords_4 := dk_seg dksX1_fillsWords_3 24 rfl rfl
theorem dksX1_fillsWords_5 : cX1_fillsWords.data.toList.drop 116 = dktX1_fillsWords_5 := dk_seg dksX1_fillsWords_4 22 rfl rfl
theorem dksX1_fillsWords_6 : cX1_fillsWords.data.toList.drop 140 = dktX1_fillsWords_6 := dk_seg dksX1_fillsWords_5 24 rfl rfl
theorem dksX1_fillsWords_7 : cX1_fillsWords.data.toList.drop 163 = dktX1_fillsWords_7 := dk_seg dksX1_fillsWords_6 23 rfl rfl
theorem dX1_fillsWords_0 : decode cX1_fillsWords 0 = .ok (.aload_n 0, 1) := dk_42 (dk_at dksX1_fillsWords_0 0 rfl rfl)
theorem dX1_fillsWords_1 : decode cX1_fillsWords 1 = .ok (.getfield 21, 3) := dk_180 0 21 (dk_at dksX1_fillsWords_0 1 rfl rfl)
theorem dX1_fillsWords_4 : decode cX1_fillsWords 4 = .ok (.iload_n 2, 1) := dk_28 (dk_at dksX1_fillsWords_0 4 rfl rfl)
theorem dX1_fillsWords_5 : decode cX1_fillsWords 5 = .ok (.iaload, 1) := dk_46 (dk_at dksX1_fillsWords_0 5 rfl rfl)
theorem dX1_fillsWords_6 : decode cX1_fillsWords 6 = .ok (.istore_n 3, 1) := dk_62 (dk_at dksX1_fillsWords_0 6 rfl rfl)
theorem dX1_fillsWords_7 : decode cX1_fillsWords 7 = .ok (.aload_n 0, 1) := dk_42 (dk_at dksX1_fillsWords_0 7 rfl rfl)
theorem dX1_fillsWords_8 : decode cX1_fillsWords 8 = .ok (.getfield 57, 3) := dk_180 0 57 (dk_at dksX1_fillsWords_0 8 rfl rfl)
theorem dX1_fillsWords_11 : decode cX1_fillsWords 11 = .ok (.iconst 0, 1) := dk_3 (dk_at dksX1_fillsWords_0 11 rfl rfl)
theorem dX1_fillsWords_12 : decode cX1_fillsWords 12 = .ok (.iload_n 1, 1) := dk_27 (dk_at dksX1_fillsWords_0 12 rfl rfl)
theorem dX1_fillsWords_13 : decode cX1_fillsWords 13 = .ok (.i2l, 1) := dk_133 (dk_at dksX1_fillsWords_0 13 rfl rfl)
theorem dX1_fillsWords_14 : decode cX1_fillsWords 14 = .ok (.lastore, 1) := dk_80 (dk_at dksX1_fillsWords_0 14 rfl rfl)
theorem dX1_fillsWords_15 : decode cX1_fillsWords 15 = .ok (.aload_n 0, 1) := dk_42 (dk_at dksX1_fillsWords_0 15 rfl rfl)
theorem dX1_fillsWords_16 : decode cX1_fillsWords 16 = .ok (.getfield 57, 3) := dk_180 0 57 (dk_at dksX1_fillsWords_0 16 rfl rfl)
theorem dX1_fillsWords_19 : decode cX1_fillsWords 19 = .ok (.iconst 1, 1) := dk_4 (dk_at dksX1_fillsWords_0 19 rfl rfl)
theorem dX1_fillsWords_20 : decode cX1_fillsWords 20 = .ok (.iload_n 2, 1) := dk_28 (dk_at dksX1_fillsWords_0 20 rfl rfl)
theorem dX1_fillsWords_21 : decode cX1_fillsWords 21 = .ok (.i2l, 1) := dk_133 (dk_at dksX1_fillsWords_0 21 rfl rfl)
theorem dX1_fillsWords_22 : decode cX1_fillsWords 22 = .ok (.lastore, 1) := dk_80 (dk_at dksX1_fillsWords_0 22 rfl rfl)
theorem dX1_fillsWords_23 : decode cX1_fillsWords 23 = .ok (.aload_n 0, 1) := dk_42 (dk_at dksX1_fillsWords_0 23 rfl rfl)
theorem dX1_fillsWords_24 : decode cX1_fillsWords 24 = .ok (.getfield 57, 3) := dk_180 0 57 (dk_at dksX1_fillsWords_1 0 rfl rfl)
theorem dX1_fillsWords_27 : decode cX1_fillsWords 27 = .ok (.iconst 2, 1) := dk_5 (dk_at dksX1_fillsWords_1 3 rfl rfl)
theorem dX1_fillsWords_28 : decode cX1_fillsWords 28 = .ok (.iload_n 3, 1) := dk_29 (dk_at dksX1_fillsWords_1 4 rfl rfl)
theorem dX1_fillsWords_29 : decode cX1_fillsWords 29 = .ok (.i2l, 1) := dk_133 (dk_at dksX1_fillsWords_1 5 rfl rfl)
theorem dX1_fillsWords_30 : decode cX1_fillsWords 30 = .ok (.lastore, 1) := dk_80 (dk_at dksX1_fillsWords_1 6 rfl rfl)
theorem dX1_fillsWords_31 : decode cX1_fillsWords 31 = .ok (.aload_n 0, 1) := dk_42 (dk_at dksX1_fillsWords_1 7 rfl rfl)
theorem dX1_fillsWords_32 : decode cX1_fillsWords 32 = .ok (.getfield 57, 3) := dk_180 0 57 (dk_at dksX1_fillsWords_1 8 rfl rfl)
theorem dX1_fillsWords_35 : decode cX1_fillsWords 35 = .ok (.iconst 3, 1) := dk_6 (dk_at dksX1_fillsWords_1 11 rfl rfl)
theorem dX1_fillsWords_36 : decode cX1_fillsWords 36 = .ok (.aload_n 0, 1) := dk_42 (dk_at dksX1_fillsWords_1 12 rfl rfl)
theorem dX1_fillsWords_37 : decode cX1_fillsWords 37 = .ok (.getfield 18, 3) := dk_180 0 18 (dk_at dksX1_fillsWords_1 13 rfl rfl)
theorem dX1_fillsWords_40 : decode cX1_fillsWords 40 = .ok (.iload_n 3, 1) := dk_29 (dk_at dksX1_fillsWords_1 16 rfl rfl)
theorem dX1_fillsWords_41 : decode cX1_fillsWords 41 = .ok (.iaload, 1) := dk_46 (dk_at dksX1_fillsWords_1 17 rfl rfl)
theorem dX1_fillsWords_42 : decode cX1_fillsWords 42 = .ok (.i2l, 1) := dk_133 (dk_at dksX1_fillsWords_1 18 rfl rfl)
theorem dX1_fillsWords_43 : decode cX1_fillsWords 43 = .ok (.lastore, 1) := dk_80 (dk_at dksX1_fillsWords_1 19 rfl rfl)
theorem dX1_fillsWords_44 : decode cX1_fillsWords 44 = .ok (.aload_n 0, 1) := dk_42 (dk_at dksX1_fillsWords_1 20 rfl rfl)
theorem dX1_fillsWords_45 : decode cX1_fillsWords 45 = .ok (.getfield 57, 3) := dk_180 0 57 (dk_at dksX1_fillsWords_1 21 rfl rfl)
theorem dX1_fillsWords_48 : decode cX1_fillsWords 48 = .ok (.iconst 4, 1) := dk_7 (dk_at dksX1_fillsWords_2 0 rfl rfl)
theorem dX1_fillsWords_49 : decode cX1_fillsWords 49 = .ok (.aload_n 0, 1) := dk_42 (dk_at dksX1_fillsWords_2 1 rfl rfl)
theorem dX1_fillsWords_50 : decode cX1_fillsWords 50 = .ok (.iload_n 2, 1) := dk_28 (dk_at dksX1_fillsWords_2 2 rfl rfl)
theorem dX1_fillsWords_51 : decode cX1_fillsWords 51 = .ok (.invokevirtual 143, 3) := dk_182 0 143 (dk_at dksX1_fillsWords_2 3 rfl rfl)
theorem dX1_fillsWords_54 : decode cX1_fillsWords 54 = .ok (.i2l, 1) := dk_133 (dk_at dksX1_fillsWords_2 6 rfl rfl)
theorem dX1_fillsWords_55 : decode cX1_fillsWords 55 = .ok (.lastore, 1) := dk_80 (dk_at dksX1_fillsWords_2 7 rfl rfl)
theorem dX1_fillsWords_56 : decode cX1_fillsWords 56 = .ok (.aload_n 0, 1) := dk_42 (dk_at dksX1_fillsWords_2 8 rfl rfl)
theorem dX1_fillsWords_57 : decode cX1_fillsWords 57 = .ok (.getfield 57, 3) := dk_180 0 57 (dk_at dksX1_fillsWords_2 9 rfl rfl)
theorem dX1_fillsWords_60 : decode cX1_fillsWords 60 = .ok (.iconst 5, 1) := dk_8 (dk_at dksX1_fillsWords_2 12 rfl rfl)
theorem dX1_fillsWords_61 : decode cX1_fillsWords 61 = .ok (.aload_n 0, 1) := dk_42 (dk_at dksX1_fillsWords_2 13 rfl rfl)
theorem dX1_fillsWords_62 : decode cX1_fillsWords 62 = .ok (.iload_n 2, 1) := dk_28 (dk_at dksX1_fillsWords_2 14 rfl rfl)
theorem dX1_fillsWords_63 : decode cX1_fillsWords 63 = .ok (.invokevirtual 146, 3) := dk_182 0 146 (dk_at dksX1_fillsWords_2 15 rfl rfl)
theorem dX1_fillsWords_66 : decode cX1_fillsWords 66 = .ok (.ifCond .eq 7, 3) := dk_153 0 7 (dk_at dksX1_fillsWords_2 18 rfl rfl)
theorem dX1_fillsWords_69 : decode cX1_fillsWords 69 = .ok (.lconst 1, 1) := dk_10 (dk_at dksX1_fillsWords_2 21 rfl rfl)
theorem dX1_fillsWords_70 : decode cX1_fillsWords 70 = .ok (.goto 4, 3) := dk_167 0 4 (dk_at dksX1_fillsWords_3 0 rfl rfl)
theorem dX1_fillsWords_73 : decode cX1_fillsWords 73 = .ok (.lconst 0, 1) := dk_9 (dk_at dksX1_fillsWords_3 3 rfl rfl)
theorem dX1_fillsWords_74 : decode cX1_fillsWords 74 = .ok (.lastore, 1) := dk_80 (dk_at dksX1_fillsWords_3 4 rfl rfl)
theorem dX1_fillsWords_75 : decode cX1_fillsWords 75 = .ok (.aload_n 0, 1) := dk_42 (dk_at dksX1_fillsWords_3 5 rfl rfl)
theorem dX1_fillsWords_76 : decode cX1_fillsWords 76 = .ok (.getfield 57, 3) := dk_180 0 57 (dk_at dksX1_fillsWords_3 6 rfl rfl)
theorem dX1_fillsWords_79 : decode cX1_fillsWords 79 = .ok (.bipush 6, 2) := dk_16 6 (dk_at dksX1_fillsWords_3 9 rfl rfl)
theorem dX1_fillsWords_81 : decode cX1_fillsWords 81 = .ok (.aload_n 0, 1) := dk_42 (dk_at dksX1_fillsWords_3 11 rfl rfl)
theorem dX1_fillsWords_82 : decode cX1_fillsWords 82 = .ok (.iload_n 2, 1) := dk_28 (dk_at dksX1_fillsWords_3 12 rfl rfl)
theorem dX1_fillsWords_83 : decode cX1_fillsWords 83 = .ok (.invokevirtual 131, 3) := dk_182 0 131 (dk_at dksX1_fillsWords_3 13 rfl rfl)
theorem dX1_fillsWords_86 : decode cX1_fillsWords 86 = .ok (.i2l, 1) := dk_133 (dk_at dksX1_fillsWords_3 16 rfl rfl)
theorem dX1_fillsWords_87 : decode cX1_fillsWords 87 = .ok (.lastore, 1) := dk_80 (dk_at dksX1_fillsWords_3 17 rfl rfl)
theorem dX1_fillsWords_88 : decode cX1_fillsWords 88 = .ok (.aload_n 0, 1) := dk_42 (dk_at dksX1_fillsWords_3 18 rfl rfl)
theorem dX1_fillsWords_89 : decode cX1_fillsWords 89 = .ok (.getfield 57, 3) := dk_180 0 57 (dk_at dksX1_fillsWords_3 19 rfl rfl)
theorem dX1_fillsWords_92 : decode cX1_fillsWords 92 = .ok (.bipush 7, 2) := dk_16 7 (dk_at dksX1_fillsWords_3 22 rfl rfl)
theorem dX1_fillsWords_94 : decode cX1_fillsWords 94 = .ok (.aload_n 0, 1) := dk_42 (dk_at dksX1_fillsWords_4 0 rfl rfl)
theorem dX1_fillsWords_95 : decode cX1_fillsWords 95 = .ok (.iload_n 1, 1) := dk_27 (dk_at dksX1_fillsWords_4 1 rfl rfl)
theorem dX1_fillsWords_96 : decode cX1_fillsWords 96 = .ok (.iload_n 3, 1) := dk_29 (dk_at dksX1_fillsWords_4 2 rfl rfl)
theorem dX1_fillsWords_97 : decode cX1_fillsWords 97 = .ok (.invokevirtual 149, 3) := dk_182 0 149 (dk_at dksX1_fillsWords_4 3 rfl rfl)
theorem dX1_fillsWords_100 : decode cX1_fillsWords 100 = .ok (.i2l, 1) := dk_133 (dk_at dksX1_fillsWords_4 6 rfl rfl)
theorem dX1_fillsWords_101 : decode cX1_fillsWords 101 = .ok (.lastore, 1) := dk_80 (dk_at dksX1_fillsWords_4 7 rfl rfl)
theorem dX1_fillsWords_102 : decode cX1_fillsWords 102 = .ok (.aload_n 0, 1) := dk_42 (dk_at dksX1_fillsWords_4 8 rfl rfl)
theorem dX1_fillsWords_103 : decode cX1_fillsWords 103 = .ok (.getfield 57, 3) := dk_180 0 57 (dk_at dksX1_fillsWords_4 9 rfl rfl)
theorem dX1_fillsWords_106 : decode cX1_fillsWords 106 = .ok (.bipush 8, 2) := dk_16 8 (dk_at dksX1_fillsWords_4 12 rfl rfl)
theorem dX1_fillsWords_108 : decode cX1_fillsWords 108 = .ok (.aload_n 0, 1) := dk_42 (dk_at dksX1_fillsWords_4 14 rfl rfl)
theorem dX1_fillsWords_109 : decode cX1_fillsWords 109 = .ok (.iload_n 3, 1) := dk_29 (dk_at dksX1_fillsWords_4 15 rfl rfl)
theorem dX1_fillsWords_110 : decode cX1_fillsWords 110 = .ok (.invokevirtual 152, 3) := dk_182 0 152 (dk_at dksX1_fillsWords_4 16 rfl rfl)
theorem dX1_fillsWords_113 : decode cX1_fillsWords 113 = .ok (.i2l, 1) := dk_133 (dk_at dksX1_fillsWords_4 19 rfl rfl)
theorem dX1_fillsWords_114 : decode cX1_fillsWords 114 = .ok (.lastore, 1) := dk_80 (dk_at dksX1_fillsWords_4 20 rfl rfl)
theorem dX1_fillsWords_115 : decode cX1_fillsWords 115 = .ok (.aload_n 0, 1) := dk_42 (dk_at dksX1_fillsWords_4 21 rfl rfl)
theorem dX1_fillsWords_116 : decode cX1_fillsWords 116 = .ok (.getfield 57, 3) := dk_180 0 57 (dk_at dksX1_fillsWords_5 0 rfl rfl)
theorem dX1_fillsWords_119 : decode cX1_fillsWords 119 = .ok (.bipush 9, 2) := dk_16 9 (dk_at dksX1_fillsWords_5 3 rfl rfl)
theorem dX1_fillsWords_121 : decode cX1_fillsWords 121 = .ok (.aload_n 0, 1) := dk_42 (dk_at dksX1_fillsWords_5 5 rfl rfl)
theorem dX1_fillsWords_122 : decode cX1_fillsWords 122 = .ok (.getfield 42, 3) := dk_180 0 42 (dk_at dksX1_fillsWords_5 6 rfl rfl)
theorem dX1_fillsWords_125 : decode cX1_fillsWords 125 = .ok (.iload_n 2, 1) := dk_28 (dk_at dksX1_fillsWords_5 9 rfl rfl)
theorem dX1_fillsWords_126 : decode cX1_fillsWords 126 = .ok (.iaload, 1) := dk_46 (dk_at dksX1_fillsWords_5 10 rfl rfl)
theorem dX1_fillsWords_127 : decode cX1_fillsWords 127 = .ok (.i2l, 1) := dk_133 (dk_at dksX1_fillsWords_5 11 rfl rfl)
theorem dX1_fillsWords_128 : decode cX1_fillsWords 128 = .ok (.lastore, 1) := dk_80 (dk_at dksX1_fillsWords_5 12 rfl rfl)
theorem dX1_fillsWords_129 : decode cX1_fillsWords 129 = .ok (.aload_n 0, 1) := dk_42 (dk_at dksX1_fillsWords_5 13 rfl rfl)
theorem dX1_fillsWords_130 : decode cX1_fillsWords 130 = .ok (.getfield 57, 3) := dk_180 0 57 (dk_at dksX1_fillsWords_5 14 rfl rfl)
theorem dX1_fillsWords_133 : decode cX1_fillsWords 133 = .ok (.bipush 10, 2) := dk_16 10 (dk_at dksX1_fillsWords_5 17 rfl rfl)
theorem dX1_fillsWords_135 : decode cX1_fillsWords 135 = .ok (.aload_n 0, 1) := dk_42 (dk_at dksX1_fillsWords_5 19 rfl rfl)
theorem dX1_fillsWords_136 : decode cX1_fillsWords 136 = .ok (.getfield 51, 3) := dk_180 0 51 (dk_at dksX1_fillsWords_5 20 rfl rfl)
theorem dX1_fillsWords_139 : decode cX1_fillsWords 139 = .ok (.iload_n 1, 1) := dk_27 (dk_at dksX1_fillsWords_5 23 rfl rfl)
theorem dX1_fillsWords_140 : decode cX1_fillsWords 140 = .ok (.iaload, 1) := dk_46 (dk_at dksX1_fillsWords_6 0 rfl rfl)
theorem dX1_fillsWords_141 : decode cX1_fillsWords 141 = .ok (.i2l, 1) := dk_133 (dk_at dksX1_fillsWords_6 1 rfl rfl)
theorem dX1_fillsWords_142 : decode cX1_fillsWords 142 = .ok (.lastore, 1) := dk_80 (dk_at dksX1_fillsWords_6 2 rfl rfl)
theorem dX1_fillsWords_143 : decode cX1_fillsWords 143 = .ok (.aload_n 0, 1) := dk_42 (dk_at dksX1_fillsWords_6 3 rfl rfl)
theorem dX1_fillsWords_144 : decode cX1_fillsWords 144 = .ok (.getfield 57, 3) := dk_180 0 57 (dk_at dksX1_fillsWords_6 4 rfl rfl)
theorem dX1_fillsWords_147 : decode cX1_fillsWords 147 = .ok (.bipush 11, 2) := dk_16 11 (dk_at dksX1_fillsWords_6 7 rfl rfl)
theorem dX1_fillsWords_149 : decode cX1_fillsWords 149 = .ok (.aload_n 0, 1) := dk_42 (dk_at dksX1_fillsWords_6 9 rfl rfl)
theorem dX1_fillsWords_150 : decode cX1_fillsWords 150 = .ok (.getfield 108, 3) := dk_180 0 108 (dk_at dksX1_fillsWords_6 10 rfl rfl)
theorem dX1_fillsWords_153 : decode cX1_fillsWords 153 = .ok (.i2l, 1) := dk_133 (dk_at dksX1_fillsWords_6 13 rfl rfl)
theorem dX1_fillsWords_154 : decode cX1_fillsWords 154 = .ok (.lastore, 1) := dk_80 (dk_at dksX1_fillsWords_6 14 rfl rfl)
theorem dX1_fillsWords_155 : decode cX1_fillsWords 155 = .ok (.aload_n 0, 1) := dk_42 (dk_at dksX1_fillsWords_6 15 rfl rfl)
theorem dX1_fillsWords_156 : decode cX1_fillsWords 156 = .ok (.getfield 57, 3) := dk_180 0 57 (dk_at dksX1_fillsWords_6 16 rfl rfl)
theorem dX1_fillsWords_159 : decode cX1_fillsWords 159 = .ok (.bipush 12, 2) := dk_16 12 (dk_at dksX1_fillsWords_6 19 rfl rfl)
theorem dX1_fillsWords_161 : decode cX1_fillsWords 161 = .ok (.aload_n 0, 1) := dk_42 (dk_at dksX1_fillsWords_6 21 rfl rfl)
theorem dX1_fillsWords_162 : decode cX1_fillsWords 162 = .ok (.aload_n 0, 1) := dk_42 (dk_at dksX1_fillsWords_6 22 rfl rfl)
theorem dX1_fillsWords_163 : decode cX1_fillsWords 163 = .ok (.getfield 108, 3) := dk_180 0 108 (dk_at dksX1_fillsWords_7 0 rfl rfl)
theorem dX1_fillsWords_166 : decode cX1_fillsWords 166 = .ok (.invokevirtual 155, 3) := dk_182 0 155 (dk_at dksX1_fillsWords_7 3 rfl rfl)
theorem dX1_fillsWords_169 : decode cX1_fillsWords 169 = .ok (.ifCond .eq 7, 3) := dk_153 0 7 (dk_at dksX1_fillsWords_7 6 rfl rfl)
theorem dX1_fillsWords_172 : decode cX1_fillsWords 172 = .ok (.lconst 1, 1) := dk_10 (dk_at dksX1_fillsWords_7 9 rfl rfl)
theorem dX1_fillsWords_173 : decode cX1_fillsWords 173 = .ok (.goto 4, 3) := dk_167 0 4 (dk_at dksX1_fillsWords_7 10 rfl rfl)
theorem dX1_fillsWords_176 : decode cX1_fillsWords 176 = .ok (.lconst 0, 1) := dk_9 (dk_at dksX1_fillsWords_7 13 rfl rfl)
theorem dX1_fillsWords_177 : decode cX1_fillsWords 177 = .ok (.lastore, 1) := dk_80 (dk_at dksX1_fillsWords_7 14 rfl rfl)
theorem dX1_fillsWords_178 : decode cX1_fillsWords 178 = .ok (.return_, 1) := dk_177 (dk_at dksX1_fillsWords_7 15 rfl rfl)
abbrev cX1_cellsOf : ByteArray := prog_13_method_16_code
def yX1_cellsOf : MethodName := ⟨RX1, "cellsOf", "(II)I"⟩
def dkwX1_cellsOf_2 : List UInt8 := [132, 4, 1, 167, 255, 217, 29, 172]
abbrev dktX1_cellsOf_2 : List UInt8 := dkwX1_cellsOf_2 ++ []
def dkwX1_cellsOf_1 : List UInt8 := [96, 162, 0, 27, 29, 42, 21, 4, 182, 0, 131, 27, 160, 0, 7, 4, 167, 0, 4, 3, 96, 62]
abbrev dktX1_cellsOf_1 : List UInt8 := dkwX1_cellsOf_1 ++ dktX1_cellsOf_2
def dkwX1_cellsOf_0 : List UInt8 := [3, 62, 42, 180, 0, 9, 28, 46, 54, 4, 21, 4, 42, 180, 0, 9, 28, 46, 42, 180, 0, 15, 28, 46]
abbrev dktX1_cellsOf_0 : List UInt8 := dkwX1_cellsOf_0 ++ dktX1_cellsOf_1
theorem dksX1_cellsOf_0 : cX1_cellsOf.data.toList.drop 0 = dktX1_cellsOf_0 := by decide +kernel
theorem dksX1_cellsOf_1 : cX1_cellsOf.data.toList.drop 24 = dktX1_cellsOf_1 := dk_seg dksX1_cellsOf_0 24 rfl rfl
theorem dksX1_cellsOf_2 : cX1_cellsOf.data.toList.drop 46 = dktX1_cellsOf_2 := dk_seg dksX1_cellsOf_1 22 rfl rfl
theorem dX1_cellsOf_0 : decode cX1_cellsOf 0 = .ok (.iconst 0, 1) := dk_3 (dk_at dksX1_cellsOf_0 0 rfl rfl)
theorem dX1_cellsOf_1 : decode cX1_cellsOf 1 = .ok (.istore_n 3, 1) := dk_62 (dk_at dksX1_cellsOf_0 1 rfl rfl)
theorem dX1_cellsOf_2 : decode cX1_cellsOf 2 = .ok (.aload_n 0, 1) := dk_42 (dk_at dksX1_cellsOf_0 2 rfl rfl)
theorem dX1_cellsOf_3 : decode cX1_cellsOf 3 = .ok (.getfield 9, 3) := dk_180 0 9 (dk_at dksX1_cellsOf_0 3 rfl rfl)
theorem dX1_cellsOf_6 : decode cX1_cellsOf 6 = .ok (.iload_n 2, 1) := dk_28 (dk_at dksX1_cellsOf_0 6 rfl rfl)
theorem dX1_cellsOf_7 : decode cX1_cellsOf 7 = .ok (.iaload, 1) := dk_46 (dk_at dksX1_cellsOf_0 7 rfl rfl)
theorem dX1_cellsOf_8 : decode cX1_cellsOf 8 = .ok (.istore 4, 2) := dk_54 4 (dk_at dksX1_cellsOf_0 8 rfl rfl)
theorem dX1_cellsOf_10 : decode cX1_cellsOf 10 = .ok (.iload 4, 2) := dk_21 4 (dk_at dksX1_cellsOf_0 10 rfl rfl)
theorem dX1_cellsOf_12 : decode cX1_cellsOf 12 = .ok (.aload_n 0, 1) := dk_42 (dk_at dksX1_cellsOf_0 12 rfl rfl)
theorem dX1_cellsOf_13 : decode cX1_cellsOf 13 = .ok (.getfield 9, 3) := dk_180 0 9 (dk_at dksX1_cellsOf_0 13 rfl rfl)
theorem dX1_cellsOf_16 : decode cX1_cellsOf 16 = .ok (.iload_n 2, 1) := dk_28 (dk_at dksX1_cellsOf_0 16 rfl rfl)
theorem dX1_cellsOf_17 : decode cX1_cellsOf 17 = .ok (.iaload, 1) := dk_46 (dk_at dksX1_cellsOf_0 17 rfl rfl)
theorem dX1_cellsOf_18 : decode cX1_cellsOf 18 = .ok (.aload_n 0, 1) := dk_42 (dk_at dksX1_cellsOf_0 18 rfl rfl)
theorem dX1_cellsOf_19 : decode cX1_cellsOf 19 = .ok (.getfield 15, 3) := dk_180 0 15 (dk_at dksX1_cellsOf_0 19 rfl rfl)
theorem dX1_cellsOf_22 : decode cX1_cellsOf 22 = .ok (.iload_n 2, 1) := dk_28 (dk_at dksX1_cellsOf_0 22 rfl rfl)
theorem dX1_cellsOf_23 : decode cX1_cellsOf 23 = .ok (.iaload, 1) := dk_46 (dk_at dksX1_cellsOf_0 23 rfl rfl)
theorem dX1_cellsOf_24 : decode cX1_cellsOf 24 = .ok (.iadd, 1) := dk_96 (dk_at dksX1_cellsOf_1 0 rfl rfl)
theorem dX1_cellsOf_25 : decode cX1_cellsOf 25 = .ok (.if_icmp .ge 27, 3) := dk_162 0 27 (dk_at dksX1_cellsOf_1 1 rfl rfl)
theorem dX1_cellsOf_28 : decode cX1_cellsOf 28 = .ok (.iload_n 3, 1) := dk_29 (dk_at dksX1_cellsOf_1 4 rfl rfl)
theorem dX1_cellsOf_29 : decode cX1_cellsOf 29 = .ok (.aload_n 0, 1) := dk_42 (dk_at dksX1_cellsOf_1 5 rfl rfl)
theorem dX1_cellsOf_30 : decode cX1_cellsOf 30 = .ok (.iload 4, 2) := dk_21 4 (dk_at dksX1_cellsOf_1 6 rfl rfl)
theorem dX1_cellsOf_32 : decode cX1_cellsOf 32 = .ok (.invokevirtual 131, 3) := dk_182 0 131 (dk_at dksX1_cellsOf_1 8 rfl rfl)
theorem dX1_cellsOf_35 : decode cX1_cellsOf 35 = .ok (.iload_n 1, 1) := dk_27 (dk_at dksX1_cellsOf_1 11 rfl rfl)
theorem dX1_cellsOf_36 : decode cX1_cellsOf 36 = .ok (.if_icmp .ne 7, 3) := dk_160 0 7 (dk_at dksX1_cellsOf_1 12 rfl rfl)
theorem dX1_cellsOf_39 : decode cX1_cellsOf 39 = .ok (.iconst 1, 1) := dk_4 (dk_at dksX1_cellsOf_1 15 rfl rfl)
theorem dX1_cellsOf_40 : decode cX1_cellsOf 40 = .ok (.goto 4, 3) := dk_167 0 4 (dk_at dksX1_cellsOf_1 16 rfl rfl)
theorem dX1_cellsOf_43 : decode cX1_cellsOf 43 = .ok (.iconst 0, 1) := dk_3 (dk_at dksX1_cellsOf_1 19 rfl rfl)
theorem dX1_cellsOf_44 : decode cX1_cellsOf 44 = .ok (.iadd, 1) := dk_96 (dk_at dksX1_cellsOf_1 20 rfl rfl)
theorem dX1_cellsOf_45 : decode cX1_cellsOf 45 = .ok (.istore_n 3, 1) := dk_62 (dk_at dksX1_cellsOf_1 21 rfl rfl)
theorem dX1_cellsOf_46 : decode cX1_cellsOf 46 = .ok (.iinc 4 1, 3) := dk_132 4 1 (dk_at dksX1_cellsOf_2 0 rfl rfl)
theorem dX1_cellsOf_49 : decode cX1_cellsOf 49 = .ok (.goto (-39), 3) := dk_167 255 217 (dk_at dksX1_cellsOf_2 3 rfl rfl)
theorem dX1_cellsOf_52 : decode cX1_cellsOf 52 = .ok (.iload_n 3, 1) := dk_29 (dk_at dksX1_cellsOf_2 6 rfl rfl)
theorem dX1_cellsOf_53 : decode cX1_cellsOf 53 = .ok (.ireturn, 1) := dk_172 (dk_at dksX1_cellsOf_2 7 rfl rfl)
abbrev cX1_paints : ByteArray := prog_13_method_19_code
def yX1_paints : MethodName := ⟨RX1, "paints", "(II)V"⟩
def dkwX1_paints_0 : List UInt8 := [42, 180, 0, 51, 28, 92, 46, 42, 180, 0, 71, 100, 79, 42, 27, 28, 42, 180, 0, 108, 182, 0, 139, 177]
abbrev dktX1_paints_0 : List UInt8 := dkwX1_paints_0 ++ []
theorem dksX1_paints_0 : cX1_paints.data.toList.drop 0 = dktX1_paints_0 := by decide +kernel
theorem dX1_paints_0 : decode cX1_paints 0 = .ok (.aload_n 0, 1) := dk_42 (dk_at dksX1_paints_0 0 rfl rfl)
theorem dX1_paints_1 : decode cX1_paints 1 = .ok (.getfield 51, 3) := dk_180 0 51 (dk_at dksX1_paints_0 1 rfl rfl)
theorem dX1_paints_4 : decode cX1_paints 4 = .ok (.iload_n 2, 1) := dk_28 (dk_at dksX1_paints_0 4 rfl rfl)
theorem dX1_paints_5 : decode cX1_paints 5 = .ok (.dup2, 1) := dk_92 (dk_at dksX1_paints_0 5 rfl rfl)
theorem dX1_paints_6 : decode cX1_paints 6 = .ok (.iaload, 1) := dk_46 (dk_at dksX1_paints_0 6 rfl rfl)
theorem dX1_paints_7 : decode cX1_paints 7 = .ok (.aload_n 0, 1) := dk_42 (dk_at dksX1_paints_0 7 rfl rfl)
theorem dX1_paints_8 : decode cX1_paints 8 = .ok (.getfield 71, 3) := dk_180 0 71 (dk_at dksX1_paints_0 8 rfl rfl)
theorem dX1_paints_11 : decode cX1_paints 11 = .ok (.isub, 1) := dk_100 (dk_at dksX1_paints_0 11 rfl rfl)
theorem dX1_paints_12 : decode cX1_paints 12 = .ok (.iastore, 1) := dk_79 (dk_at dksX1_paints_0 12 rfl rfl)
theorem dX1_paints_13 : decode cX1_paints 13 = .ok (.aload_n 0, 1) := dk_42 (dk_at dksX1_paints_0 13 rfl rfl)
theorem dX1_paints_14 : decode cX1_paints 14 = .ok (.iload_n 1, 1) := dk_27 (dk_at dksX1_paints_0 14 rfl rfl)
theorem dX1_paints_15 : decode cX1_paints 15 = .ok (.iload_n 2, 1) := dk_28 (dk_at dksX1_paints_0 15 rfl rfl)
theorem dX1_paints_16 : decode cX1_paints 16 = .ok (.aload_n 0, 1) := dk_42 (dk_at dksX1_paints_0 16 rfl rfl)
theorem dX1_paints_17 : decode cX1_paints 17 = .ok (.getfield 108, 3) := dk_180 0 108 (dk_at dksX1_paints_0 17 rfl rfl)
theorem dX1_paints_20 : decode cX1_paints 20 = .ok (.invokevirtual 139, 3) := dk_182 0 139 (dk_at dksX1_paints_0 20 rfl rfl)
theorem dX1_paints_23 : decode cX1_paints 23 = .ok (.return_, 1) := dk_177 (dk_at dksX1_paints_0 23 rfl rfl)
abbrev cX1_putsCoat : ByteArray := prog_13_method_17_code
def yX1_putsCoat : MethodName := ⟨RX1, "putsCoat", "(III)V"⟩
def dkwX1_putsCoat_5 : List UInt8 := [92, 46, 4, 96, 79, 177]
abbrev dktX1_putsCoat_5 : List UInt8 := dkwX1_putsCoat_5 ++ []
def dkwX1_putsCoat_4 : List UInt8 := [46, 96, 28, 79, 42, 180, 0, 48, 21, 4, 42, 180, 0, 42, 27, 46, 96, 29, 79, 42, 180, 0, 42, 27]
abbrev dktX1_putsCoat_4 : List UInt8 := dkwX1_putsCoat_4 ++ dktX1_putsCoat_5
def dkwX1_putsCoat_3 : List UInt8 := [167, 255, 203, 42, 180, 0, 42, 27, 92, 46, 4, 100, 79, 42, 180, 0, 45, 21, 4, 42, 180, 0, 42, 27]
abbrev dktX1_putsCoat_3 : List UInt8 := dkwX1_putsCoat_3 ++ dktX1_putsCoat_4
def dkwX1_putsCoat_2 : List UInt8 := [180, 0, 48, 21, 4, 21, 5, 96, 4, 100, 42, 180, 0, 48, 21, 4, 21, 5, 96, 46, 79, 132, 5, 1]
abbrev dktX1_putsCoat_2 : List UInt8 := dkwX1_putsCoat_2 ++ dktX1_putsCoat_3
def dkwX1_putsCoat_1 : List UInt8 := [42, 180, 0, 45, 21, 4, 21, 5, 96, 4, 100, 42, 180, 0, 45, 21, 4, 21, 5, 96, 46, 79, 42]
abbrev dktX1_putsCoat_1 : List UInt8 := dkwX1_putsCoat_1 ++ dktX1_putsCoat_2
def dkwX1_putsCoat_0 : List UInt8 := [8, 27, 104, 54, 4, 42, 180, 0, 42, 27, 46, 8, 160, 0, 72, 4, 54, 5, 21, 5, 8, 162, 0, 53]
abbrev dktX1_putsCoat_0 : List UInt8 := dkwX1_putsCoat_0 ++ dktX1_putsCoat_1
theorem dksX1_putsCoat_0 : cX1_putsCoat.data.toList.drop 0 = dktX1_putsCoat_0 := by decide +kernel
theorem dksX1_putsCoat_1 : cX1_putsCoat.data.toList.drop 24 = dktX1_putsCoat_1 := dk_seg dksX1_putsCoat_0 24 rfl rfl
theorem dksX1_putsCoat_2 : cX1_putsCoat.data.toList.drop 47 = dktX1_putsCoat_2 := dk_seg dksX1_putsCoat_1 23 rfl rfl
theorem dksX1_putsCoat_3 : cX1_putsCoat.data.toList.drop 71 = dktX1_putsCoat_3 := dk_seg dksX1_putsCoat_2 24 rfl rfl
theorem dksX1_putsCoat_4 : cX1_putsCoat.data.toList.drop 95 = dktX1_putsCoat_4 := dk_seg dksX1_putsCoat_3 24 rfl rfl
theorem dksX1_putsCoat_5 : cX1_putsCoat.data.toList.drop 119 = dktX1_putsCoat_5 := dk_seg dksX1_putsCoat_4 24 rfl rfl
theorem dX1_putsCoat_0 : decode cX1_putsCoat 0 = .ok (.iconst 5, 1) := dk_8 (dk_at dksX1_putsCoat_0 0 rfl rfl)
theorem dX1_putsCoat_1 : decode cX1_putsCoat 1 = .ok (.iload_n 1, 1) := dk_27 (dk_at dksX1_putsCoat_0 1 rfl rfl)
theorem dX1_putsCoat_2 : decode cX1_putsCoat 2 = .ok (.imul, 1) := dk_104 (dk_at dksX1_putsCoat_0 2 rfl rfl)
theorem dX1_putsCoat_3 : decode cX1_putsCoat 3 = .ok (.istore 4, 2) := dk_54 4 (dk_at dksX1_putsCoat_0 3 rfl rfl)
theorem dX1_putsCoat_5 : decode cX1_putsCoat 5 = .ok (.aload_n 0, 1) := dk_42 (dk_at dksX1_putsCoat_0 5 rfl rfl)
theorem dX1_putsCoat_6 : decode cX1_putsCoat 6 = .ok (.getfield 42, 3) := dk_180 0 42 (dk_at dksX1_putsCoat_0 6 rfl rfl)
theorem dX1_putsCoat_9 : decode cX1_putsCoat 9 = .ok (.iload_n 1, 1) := dk_27 (dk_at dksX1_putsCoat_0 9 rfl rfl)
theorem dX1_putsCoat_10 : decode cX1_putsCoat 10 = .ok (.iaload, 1) := dk_46 (dk_at dksX1_putsCoat_0 10 rfl rfl)
theorem dX1_putsCoat_11 : decode cX1_putsCoat 11 = .ok (.iconst 5, 1) := dk_8 (dk_at dksX1_putsCoat_0 11 rfl rfl)
theorem dX1_putsCoat_12 : decode cX1_putsCoat 12 = .ok (.if_icmp .ne 72, 3) := dk_160 0 72 (dk_at dksX1_putsCoat_0 12 rfl rfl)
theorem dX1_putsCoat_15 : decode cX1_putsCoat 15 = .ok (.iconst 1, 1) := dk_4 (dk_at dksX1_putsCoat_0 15 rfl rfl)
theorem dX1_putsCoat_16 : decode cX1_putsCoat 16 = .ok (.istore 5, 2) := dk_54 5 (dk_at dksX1_putsCoat_0 16 rfl rfl)
theorem dX1_putsCoat_18 : decode cX1_putsCoat 18 = .ok (.iload 5, 2) := dk_21 5 (dk_at dksX1_putsCoat_0 18 rfl rfl)
theorem dX1_putsCoat_20 : decode cX1_putsCoat 20 = .ok (.iconst 5, 1) := dk_8 (dk_at dksX1_putsCoat_0 20 rfl rfl)
theorem dX1_putsCoat_21 : decode cX1_putsCoat 21 = .ok (.if_icmp .ge 53, 3) := dk_162 0 53 (dk_at dksX1_putsCoat_0 21 rfl rfl)
theorem dX1_putsCoat_24 : decode cX1_putsCoat 24 = .ok (.aload_n 0, 1) := dk_42 (dk_at dksX1_putsCoat_1 0 rfl rfl)
theorem dX1_putsCoat_25 : decode cX1_putsCoat 25 = .ok (.getfield 45, 3) := dk_180 0 45 (dk_at dksX1_putsCoat_1 1 rfl rfl)
theorem dX1_putsCoat_28 : decode cX1_putsCoat 28 = .ok (.iload 4, 2) := dk_21 4 (dk_at dksX1_putsCoat_1 4 rfl rfl)
theorem dX1_putsCoat_30 : decode cX1_putsCoat 30 = .ok (.iload 5, 2) := dk_21 5 (dk_at dksX1_putsCoat_1 6 rfl rfl)
theorem dX1_putsCoat_32 : decode cX1_putsCoat 32 = .ok (.iadd, 1) := dk_96 (dk_at dksX1_putsCoat_1 8 rfl rfl)
theorem dX1_putsCoat_33 : decode cX1_putsCoat 33 = .ok (.iconst 1, 1) := dk_4 (dk_at dksX1_putsCoat_1 9 rfl rfl)
theorem dX1_putsCoat_34 : decode cX1_putsCoat 34 = .ok (.isub, 1) := dk_100 (dk_at dksX1_putsCoat_1 10 rfl rfl)
theorem dX1_putsCoat_35 : decode cX1_putsCoat 35 = .ok (.aload_n 0, 1) := dk_42 (dk_at dksX1_putsCoat_1 11 rfl rfl)
theorem dX1_putsCoat_36 : decode cX1_putsCoat 36 = .ok (.getfield 45, 3) := dk_180 0 45 (dk_at dksX1_putsCoat_1 12 rfl rfl)
theorem dX1_putsCoat_39 : decode cX1_putsCoat 39 = .ok (.iload 4, 2) := dk_21 4 (dk_at dksX1_putsCoat_1 15 rfl rfl)
theorem dX1_putsCoat_41 : decode cX1_putsCoat 41 = .ok (.iload 5, 2) := dk_21 5 (dk_at dksX1_putsCoat_1 17 rfl rfl)
theorem dX1_putsCoat_43 : decode cX1_putsCoat 43 = .ok (.iadd, 1) := dk_96 (dk_at dksX1_putsCoat_1 19 rfl rfl)
theorem dX1_putsCoat_44 : decode cX1_putsCoat 44 = .ok (.iaload, 1) := dk_46 (dk_at dksX1_putsCoat_1 20 rfl rfl)
theorem dX1_putsCoat_45 : decode cX1_putsCoat 45 = .ok (.iastore, 1) := dk_79 (dk_at dksX1_putsCoat_1 21 rfl rfl)
theorem dX1_putsCoat_46 : decode cX1_putsCoat 46 = .ok (.aload_n 0, 1) := dk_42 (dk_at dksX1_putsCoat_1 22 rfl rfl)
theorem dX1_putsCoat_47 : decode cX1_putsCoat 47 = .ok (.getfield 48, 3) := dk_180 0 48 (dk_at dksX1_putsCoat_2 0 rfl rfl)
theorem dX1_putsCoat_50 : decode cX1_putsCoat 50 = .ok (.iload 4, 2) := dk_21 4 (dk_at dksX1_putsCoat_2 3 rfl rfl)
theorem dX1_putsCoat_52 : decode cX1_putsCoat 52 = .ok (.iload 5, 2) := dk_21 5 (dk_at dksX1_putsCoat_2 5 rfl rfl)
theorem dX1_putsCoat_54 : decode cX1_putsCoat 54 = .ok (.iadd, 1) := dk_96 (dk_at dksX1_putsCoat_2 7 rfl rfl)
theorem dX1_putsCoat_55 : decode cX1_putsCoat 55 = .ok (.iconst 1, 1) := dk_4 (dk_at dksX1_putsCoat_2 8 rfl rfl)
theorem dX1_putsCoat_56 : decode cX1_putsCoat 56 = .ok (.isub, 1) := dk_100 (dk_at dksX1_putsCoat_2 9 rfl rfl)
theorem dX1_putsCoat_57 : decode cX1_putsCoat 57 = .ok (.aload_n 0, 1) := dk_42 (dk_at dksX1_putsCoat_2 10 rfl rfl)
theorem dX1_putsCoat_58 : decode cX1_putsCoat 58 = .ok (.getfield 48, 3) := dk_180 0 48 (dk_at dksX1_putsCoat_2 11 rfl rfl)
theorem dX1_putsCoat_61 : decode cX1_putsCoat 61 = .ok (.iload 4, 2) := dk_21 4 (dk_at dksX1_putsCoat_2 14 rfl rfl)
theorem dX1_putsCoat_63 : decode cX1_putsCoat 63 = .ok (.iload 5, 2) := dk_21 5 (dk_at dksX1_putsCoat_2 16 rfl rfl)
theorem dX1_putsCoat_65 : decode cX1_putsCoat 65 = .ok (.iadd, 1) := dk_96 (dk_at dksX1_putsCoat_2 18 rfl rfl)
theorem dX1_putsCoat_66 : decode cX1_putsCoat 66 = .ok (.iaload, 1) := dk_46 (dk_at dksX1_putsCoat_2 19 rfl rfl)
theorem dX1_putsCoat_67 : decode cX1_putsCoat 67 = .ok (.iastore, 1) := dk_79 (dk_at dksX1_putsCoat_2 20 rfl rfl)
theorem dX1_putsCoat_68 : decode cX1_putsCoat 68 = .ok (.iinc 5 1, 3) := dk_132 5 1 (dk_at dksX1_putsCoat_2 21 rfl rfl)
theorem dX1_putsCoat_71 : decode cX1_putsCoat 71 = .ok (.goto (-53), 3) := dk_167 255 203 (dk_at dksX1_putsCoat_3 0 rfl rfl)
theorem dX1_putsCoat_74 : decode cX1_putsCoat 74 = .ok (.aload_n 0, 1) := dk_42 (dk_at dksX1_putsCoat_3 3 rfl rfl)
theorem dX1_putsCoat_75 : decode cX1_putsCoat 75 = .ok (.getfield 42, 3) := dk_180 0 42 (dk_at dksX1_putsCoat_3 4 rfl rfl)
theorem dX1_putsCoat_78 : decode cX1_putsCoat 78 = .ok (.iload_n 1, 1) := dk_27 (dk_at dksX1_putsCoat_3 7 rfl rfl)
theorem dX1_putsCoat_79 : decode cX1_putsCoat 79 = .ok (.dup2, 1) := dk_92 (dk_at dksX1_putsCoat_3 8 rfl rfl)
theorem dX1_putsCoat_80 : decode cX1_putsCoat 80 = .ok (.iaload, 1) := dk_46 (dk_at dksX1_putsCoat_3 9 rfl rfl)
theorem dX1_putsCoat_81 : decode cX1_putsCoat 81 = .ok (.iconst 1, 1) := dk_4 (dk_at dksX1_putsCoat_3 10 rfl rfl)
theorem dX1_putsCoat_82 : decode cX1_putsCoat 82 = .ok (.isub, 1) := dk_100 (dk_at dksX1_putsCoat_3 11 rfl rfl)
theorem dX1_putsCoat_83 : decode cX1_putsCoat 83 = .ok (.iastore, 1) := dk_79 (dk_at dksX1_putsCoat_3 12 rfl rfl)
theorem dX1_putsCoat_84 : decode cX1_putsCoat 84 = .ok (.aload_n 0, 1) := dk_42 (dk_at dksX1_putsCoat_3 13 rfl rfl)
theorem dX1_putsCoat_85 : decode cX1_putsCoat 85 = .ok (.getfield 45, 3) := dk_180 0 45 (dk_at dksX1_putsCoat_3 14 rfl rfl)
theorem dX1_putsCoat_88 : decode cX1_putsCoat 88 = .ok (.iload 4, 2) := dk_21 4 (dk_at dksX1_putsCoat_3 17 rfl rfl)
theorem dX1_putsCoat_90 : decode cX1_putsCoat 90 = .ok (.aload_n 0, 1) := dk_42 (dk_at dksX1_putsCoat_3 19 rfl rfl)
theorem dX1_putsCoat_91 : decode cX1_putsCoat 91 = .ok (.getfield 42, 3) := dk_180 0 42 (dk_at dksX1_putsCoat_3 20 rfl rfl)
theorem dX1_putsCoat_94 : decode cX1_putsCoat 94 = .ok (.iload_n 1, 1) := dk_27 (dk_at dksX1_putsCoat_3 23 rfl rfl)
theorem dX1_putsCoat_95 : decode cX1_putsCoat 95 = .ok (.iaload, 1) := dk_46 (dk_at dksX1_putsCoat_4 0 rfl rfl)
theorem dX1_putsCoat_96 : decode cX1_putsCoat 96 = .ok (.iadd, 1) := dk_96 (dk_at dksX1_putsCoat_4 1 rfl rfl)
theorem dX1_putsCoat_97 : decode cX1_putsCoat 97 = .ok (.iload_n 2, 1) := dk_28 (dk_at dksX1_putsCoat_4 2 rfl rfl)
theorem dX1_putsCoat_98 : decode cX1_putsCoat 98 = .ok (.iastore, 1) := dk_79 (dk_at dksX1_putsCoat_4 3 rfl rfl)
theorem dX1_putsCoat_99 : decode cX1_putsCoat 99 = .ok (.aload_n 0, 1) := dk_42 (dk_at dksX1_putsCoat_4 4 rfl rfl)
theorem dX1_putsCoat_100 : decode cX1_putsCoat 100 = .ok (.getfield 48, 3) := dk_180 0 48 (dk_at dksX1_putsCoat_4 5 rfl rfl)
theorem dX1_putsCoat_103 : decode cX1_putsCoat 103 = .ok (.iload 4, 2) := dk_21 4 (dk_at dksX1_putsCoat_4 8 rfl rfl)
theorem dX1_putsCoat_105 : decode cX1_putsCoat 105 = .ok (.aload_n 0, 1) := dk_42 (dk_at dksX1_putsCoat_4 10 rfl rfl)
theorem dX1_putsCoat_106 : decode cX1_putsCoat 106 = .ok (.getfield 42, 3) := dk_180 0 42 (dk_at dksX1_putsCoat_4 11 rfl rfl)
theorem dX1_putsCoat_109 : decode cX1_putsCoat 109 = .ok (.iload_n 1, 1) := dk_27 (dk_at dksX1_putsCoat_4 14 rfl rfl)
theorem dX1_putsCoat_110 : decode cX1_putsCoat 110 = .ok (.iaload, 1) := dk_46 (dk_at dksX1_putsCoat_4 15 rfl rfl)
theorem dX1_putsCoat_111 : decode cX1_putsCoat 111 = .ok (.iadd, 1) := dk_96 (dk_at dksX1_putsCoat_4 16 rfl rfl)
theorem dX1_putsCoat_112 : decode cX1_putsCoat 112 = .ok (.iload_n 3, 1) := dk_29 (dk_at dksX1_putsCoat_4 17 rfl rfl)
theorem dX1_putsCoat_113 : decode cX1_putsCoat 113 = .ok (.iastore, 1) := dk_79 (dk_at dksX1_putsCoat_4 18 rfl rfl)
theorem dX1_putsCoat_114 : decode cX1_putsCoat 114 = .ok (.aload_n 0, 1) := dk_42 (dk_at dksX1_putsCoat_4 19 rfl rfl)
theorem dX1_putsCoat_115 : decode cX1_putsCoat 115 = .ok (.getfield 42, 3) := dk_180 0 42 (dk_at dksX1_putsCoat_4 20 rfl rfl)
theorem dX1_putsCoat_118 : decode cX1_putsCoat 118 = .ok (.iload_n 1, 1) := dk_27 (dk_at dksX1_putsCoat_4 23 rfl rfl)
theorem dX1_putsCoat_119 : decode cX1_putsCoat 119 = .ok (.dup2, 1) := dk_92 (dk_at dksX1_putsCoat_5 0 rfl rfl)
theorem dX1_putsCoat_120 : decode cX1_putsCoat 120 = .ok (.iaload, 1) := dk_46 (dk_at dksX1_putsCoat_5 1 rfl rfl)
theorem dX1_putsCoat_121 : decode cX1_putsCoat 121 = .ok (.iconst 1, 1) := dk_4 (dk_at dksX1_putsCoat_5 2 rfl rfl)
theorem dX1_putsCoat_122 : decode cX1_putsCoat 122 = .ok (.iadd, 1) := dk_96 (dk_at dksX1_putsCoat_5 3 rfl rfl)
theorem dX1_putsCoat_123 : decode cX1_putsCoat 123 = .ok (.iastore, 1) := dk_79 (dk_at dksX1_putsCoat_5 4 rfl rfl)
theorem dX1_putsCoat_124 : decode cX1_putsCoat 124 = .ok (.return_, 1) := dk_177 (dk_at dksX1_putsCoat_5 5 rfl rfl)
abbrev cX1_closes : ByteArray := prog_13_method_24_code
def yX1_closes : MethodName := ⟨RX1, "closes", "([I)V"⟩
def dkwX1_closes_1 : List UInt8 := [181, 0, 108, 42, 180, 0, 108, 16, 24, 112, 16, 12, 160, 0, 8, 42, 43, 182, 0, 179, 177]
abbrev dktX1_closes_1 : List UInt8 := dkwX1_closes_1 ++ []
def dkwX1_closes_0 : List UInt8 := [42, 42, 180, 0, 108, 182, 0, 155, 153, 0, 7, 42, 182, 0, 176, 42, 89, 180, 0, 108, 4, 96]
abbrev dktX1_closes_0 : List UInt8 := dkwX1_closes_0 ++ dktX1_closes_1
theorem dksX1_closes_0 : cX1_closes.data.toList.drop 0 = dktX1_closes_0 := by decide +kernel
theorem dksX1_closes_1 : cX1_closes.data.toList.drop 22 = dktX1_closes_1 := dk_seg dksX1_closes_0 22 rfl rfl
theorem dX1_closes_0 : decode cX1_closes 0 = .ok (.aload_n 0, 1) := dk_42 (dk_at dksX1_closes_0 0 rfl rfl)
theorem dX1_closes_1 : decode cX1_closes 1 = .ok (.aload_n 0, 1) := dk_42 (dk_at dksX1_closes_0 1 rfl rfl)
theorem dX1_closes_2 : decode cX1_closes 2 = .ok (.getfield 108, 3) := dk_180 0 108 (dk_at dksX1_closes_0 2 rfl rfl)
theorem dX1_closes_5 : decode cX1_closes 5 = .ok (.invokevirtual 155, 3) := dk_182 0 155 (dk_at dksX1_closes_0 5 rfl rfl)
theorem dX1_closes_8 : decode cX1_closes 8 = .ok (.ifCond .eq 7, 3) := dk_153 0 7 (dk_at dksX1_closes_0 8 rfl rfl)
theorem dX1_closes_11 : decode cX1_closes 11 = .ok (.aload_n 0, 1) := dk_42 (dk_at dksX1_closes_0 11 rfl rfl)
theorem dX1_closes_12 : decode cX1_closes 12 = .ok (.invokevirtual 176, 3) := dk_182 0 176 (dk_at dksX1_closes_0 12 rfl rfl)
theorem dX1_closes_15 : decode cX1_closes 15 = .ok (.aload_n 0, 1) := dk_42 (dk_at dksX1_closes_0 15 rfl rfl)
theorem dX1_closes_16 : decode cX1_closes 16 = .ok (.dup, 1) := dk_89 (dk_at dksX1_closes_0 16 rfl rfl)
theorem dX1_closes_17 : decode cX1_closes 17 = .ok (.getfield 108, 3) := dk_180 0 108 (dk_at dksX1_closes_0 17 rfl rfl)
theorem dX1_closes_20 : decode cX1_closes 20 = .ok (.iconst 1, 1) := dk_4 (dk_at dksX1_closes_0 20 rfl rfl)
theorem dX1_closes_21 : decode cX1_closes 21 = .ok (.iadd, 1) := dk_96 (dk_at dksX1_closes_0 21 rfl rfl)
theorem dX1_closes_22 : decode cX1_closes 22 = .ok (.putfield 108, 3) := dk_181 0 108 (dk_at dksX1_closes_1 0 rfl rfl)
theorem dX1_closes_25 : decode cX1_closes 25 = .ok (.aload_n 0, 1) := dk_42 (dk_at dksX1_closes_1 3 rfl rfl)
theorem dX1_closes_26 : decode cX1_closes 26 = .ok (.getfield 108, 3) := dk_180 0 108 (dk_at dksX1_closes_1 4 rfl rfl)
theorem dX1_closes_29 : decode cX1_closes 29 = .ok (.bipush 24, 2) := dk_16 24 (dk_at dksX1_closes_1 7 rfl rfl)
theorem dX1_closes_31 : decode cX1_closes 31 = .ok (.irem, 1) := dk_112 (dk_at dksX1_closes_1 9 rfl rfl)
theorem dX1_closes_32 : decode cX1_closes 32 = .ok (.bipush 12, 2) := dk_16 12 (dk_at dksX1_closes_1 10 rfl rfl)
theorem dX1_closes_34 : decode cX1_closes 34 = .ok (.if_icmp .ne 8, 3) := dk_160 0 8 (dk_at dksX1_closes_1 12 rfl rfl)
theorem dX1_closes_37 : decode cX1_closes 37 = .ok (.aload_n 0, 1) := dk_42 (dk_at dksX1_closes_1 15 rfl rfl)
theorem dX1_closes_38 : decode cX1_closes 38 = .ok (.aload_n 1, 1) := dk_43 (dk_at dksX1_closes_1 16 rfl rfl)
theorem dX1_closes_39 : decode cX1_closes 39 = .ok (.invokevirtual 179, 3) := dk_182 0 179 (dk_at dksX1_closes_1 17 rfl rfl)
theorem dX1_closes_42 : decode cX1_closes 42 = .ok (.return_, 1) := dk_177 (dk_at dksX1_closes_1 20 rfl rfl)
abbrev cX1_washes : ByteArray := prog_13_method_22_code
def yX1_washes : MethodName := ⟨RX1, "washes", "()V"⟩
def dkwX1_washes_1 : List UInt8 := [46, 4, 100, 79, 167, 255, 238, 132, 1, 1, 167, 255, 224, 177]
abbrev dktX1_washes_1 : List UInt8 := dkwX1_washes_1 ++ []
def dkwX1_washes_0 : List UInt8 := [3, 60, 27, 42, 180, 0, 77, 162, 0, 30, 42, 27, 182, 0, 146, 153, 0, 16, 42, 180, 0, 42, 27, 92]
abbrev dktX1_washes_0 : List UInt8 := dkwX1_washes_0 ++ dktX1_washes_1
theorem dksX1_washes_0 : cX1_washes.data.toList.drop 0 = dktX1_washes_0 := by decide +kernel
theorem dksX1_washes_1 : cX1_washes.data.toList.drop 24 = dktX1_washes_1 := dk_seg dksX1_washes_0 24 rfl rfl
theorem dX1_washes_0 : decode cX1_washes 0 = .ok (.iconst 0, 1) := dk_3 (dk_at dksX1_washes_0 0 rfl rfl)
theorem dX1_washes_1 : decode cX1_washes 1 = .ok (.istore_n 1, 1) := dk_60 (dk_at dksX1_washes_0 1 rfl rfl)
theorem dX1_washes_2 : decode cX1_washes 2 = .ok (.iload_n 1, 1) := dk_27 (dk_at dksX1_washes_0 2 rfl rfl)
theorem dX1_washes_3 : decode cX1_washes 3 = .ok (.aload_n 0, 1) := dk_42 (dk_at dksX1_washes_0 3 rfl rfl)
theorem dX1_washes_4 : decode cX1_washes 4 = .ok (.getfield 77, 3) := dk_180 0 77 (dk_at dksX1_washes_0 4 rfl rfl)
theorem dX1_washes_7 : decode cX1_washes 7 = .ok (.if_icmp .ge 30, 3) := dk_162 0 30 (dk_at dksX1_washes_0 7 rfl rfl)
theorem dX1_washes_10 : decode cX1_washes 10 = .ok (.aload_n 0, 1) := dk_42 (dk_at dksX1_washes_0 10 rfl rfl)
theorem dX1_washes_11 : decode cX1_washes 11 = .ok (.iload_n 1, 1) := dk_27 (dk_at dksX1_washes_0 11 rfl rfl)
theorem dX1_washes_12 : decode cX1_washes 12 = .ok (.invokevirtual 146, 3) := dk_182 0 146 (dk_at dksX1_washes_0 12 rfl rfl)
theorem dX1_washes_15 : decode cX1_washes 15 = .ok (.ifCond .eq 16, 3) := dk_153 0 16 (dk_at dksX1_washes_0 15 rfl rfl)
theorem dX1_washes_18 : decode cX1_washes 18 = .ok (.aload_n 0, 1) := dk_42 (dk_at dksX1_washes_0 18 rfl rfl)
theorem dX1_washes_19 : decode cX1_washes 19 = .ok (.getfield 42, 3) := dk_180 0 42 (dk_at dksX1_washes_0 19 rfl rfl)
theorem dX1_washes_22 : decode cX1_washes 22 = .ok (.iload_n 1, 1) := dk_27 (dk_at dksX1_washes_0 22 rfl rfl)
theorem dX1_washes_23 : decode cX1_washes 23 = .ok (.dup2, 1) := dk_92 (dk_at dksX1_washes_0 23 rfl rfl)
theorem dX1_washes_24 : decode cX1_washes 24 = .ok (.iaload, 1) := dk_46 (dk_at dksX1_washes_1 0 rfl rfl)
theorem dX1_washes_25 : decode cX1_washes 25 = .ok (.iconst 1, 1) := dk_4 (dk_at dksX1_washes_1 1 rfl rfl)
theorem dX1_washes_26 : decode cX1_washes 26 = .ok (.isub, 1) := dk_100 (dk_at dksX1_washes_1 2 rfl rfl)
theorem dX1_washes_27 : decode cX1_washes 27 = .ok (.iastore, 1) := dk_79 (dk_at dksX1_washes_1 3 rfl rfl)
theorem dX1_washes_28 : decode cX1_washes 28 = .ok (.goto (-18), 3) := dk_167 255 238 (dk_at dksX1_washes_1 4 rfl rfl)
theorem dX1_washes_31 : decode cX1_washes 31 = .ok (.iinc 1 1, 3) := dk_132 1 1 (dk_at dksX1_washes_1 7 rfl rfl)
theorem dX1_washes_34 : decode cX1_washes 34 = .ok (.goto (-32), 3) := dk_167 255 224 (dk_at dksX1_washes_1 10 rfl rfl)
theorem dX1_washes_37 : decode cX1_washes 37 = .ok (.return_, 1) := dk_177 (dk_at dksX1_washes_1 13 rfl rfl)
abbrev cX1_paysRents : ByteArray := prog_13_method_23_code
def yX1_paysRents : MethodName := ⟨RX1, "paysRents", "([I)V"⟩
def dkwX1_paysRents_2 : List UInt8 := [79, 43, 29, 92, 46, 42, 180, 0, 18, 28, 46, 96, 79, 132, 2, 1, 167, 255, 194, 177]
abbrev dktX1_paysRents_2 : List UInt8 := dkwX1_paysRents_2 ++ []
def dkwX1_paysRents_1 : List UInt8 := [42, 180, 0, 51, 29, 17, 3, 231, 42, 180, 0, 51, 29, 46, 42, 180, 0, 18, 28, 46, 96, 184, 0, 171]
abbrev dktX1_paysRents_1 : List UInt8 := dkwX1_paysRents_1 ++ dktX1_paysRents_2
def dkwX1_paysRents_0 : List UInt8 := [3, 61, 28, 42, 180, 0, 74, 162, 0, 60, 42, 28, 182, 0, 152, 62, 29, 2, 160, 0, 6, 167, 0, 40]
abbrev dktX1_paysRents_0 : List UInt8 := dkwX1_paysRents_0 ++ dktX1_paysRents_1
theorem dksX1_paysRents_0 : cX1_paysRents.data.toList.drop 0 = dktX1_paysRents_0 := by decide +kernel
theorem dksX1_paysRents_1 : cX1_paysRents.data.toList.drop 24 = dktX1_paysRents_1 := dk_seg dksX1_paysRents_0 24 rfl rfl
theorem dksX1_paysRents_2 : cX1_paysRents.data.toList.drop 48 = dktX1_paysRents_2 := dk_seg dksX1_paysRents_1 24 rfl rfl
theorem dX1_paysRents_0 : decode cX1_paysRents 0 = .ok (.iconst 0, 1) := dk_3 (dk_at dksX1_paysRents_0 0 rfl rfl)
theorem dX1_paysRents_1 : decode cX1_paysRents 1 = .ok (.istore_n 2, 1) := dk_61 (dk_at dksX1_paysRents_0 1 rfl rfl)
theorem dX1_paysRents_2 : decode cX1_paysRents 2 = .ok (.iload_n 2, 1) := dk_28 (dk_at dksX1_paysRents_0 2 rfl rfl)
theorem dX1_paysRents_3 : decode cX1_paysRents 3 = .ok (.aload_n 0, 1) := dk_42 (dk_at dksX1_paysRents_0 3 rfl rfl)
theorem dX1_paysRents_4 : decode cX1_paysRents 4 = .ok (.getfield 74, 3) := dk_180 0 74 (dk_at dksX1_paysRents_0 4 rfl rfl)
theorem dX1_paysRents_7 : decode cX1_paysRents 7 = .ok (.if_icmp .ge 60, 3) := dk_162 0 60 (dk_at dksX1_paysRents_0 7 rfl rfl)
theorem dX1_paysRents_10 : decode cX1_paysRents 10 = .ok (.aload_n 0, 1) := dk_42 (dk_at dksX1_paysRents_0 10 rfl rfl)
theorem dX1_paysRents_11 : decode cX1_paysRents 11 = .ok (.iload_n 2, 1) := dk_28 (dk_at dksX1_paysRents_0 11 rfl rfl)
theorem dX1_paysRents_12 : decode cX1_paysRents 12 = .ok (.invokevirtual 152, 3) := dk_182 0 152 (dk_at dksX1_paysRents_0 12 rfl rfl)
theorem dX1_paysRents_15 : decode cX1_paysRents 15 = .ok (.istore_n 3, 1) := dk_62 (dk_at dksX1_paysRents_0 15 rfl rfl)
theorem dX1_paysRents_16 : decode cX1_paysRents 16 = .ok (.iload_n 3, 1) := dk_29 (dk_at dksX1_paysRents_0 16 rfl rfl)
theorem dX1_paysRents_17 : decode cX1_paysRents 17 = .ok (.iconst (-1), 1) := dk_2 (dk_at dksX1_paysRents_0 17 rfl rfl)
theorem dX1_paysRents_18 : decode cX1_paysRents 18 = .ok (.if_icmp .ne 6, 3) := dk_160 0 6 (dk_at dksX1_paysRents_0 18 rfl rfl)
theorem dX1_paysRents_21 : decode cX1_paysRents 21 = .ok (.goto 40, 3) := dk_167 0 40 (dk_at dksX1_paysRents_0 21 rfl rfl)
theorem dX1_paysRents_24 : decode cX1_paysRents 24 = .ok (.aload_n 0, 1) := dk_42 (dk_at dksX1_paysRents_1 0 rfl rfl)
theorem dX1_paysRents_25 : decode cX1_paysRents 25 = .ok (.getfield 51, 3) := dk_180 0 51 (dk_at dksX1_paysRents_1 1 rfl rfl)
theorem dX1_paysRents_28 : decode cX1_paysRents 28 = .ok (.iload_n 3, 1) := dk_29 (dk_at dksX1_paysRents_1 4 rfl rfl)
theorem dX1_paysRents_29 : decode cX1_paysRents 29 = .ok (.sipush 999, 3) := dk_17 3 231 (dk_at dksX1_paysRents_1 5 rfl rfl)
theorem dX1_paysRents_32 : decode cX1_paysRents 32 = .ok (.aload_n 0, 1) := dk_42 (dk_at dksX1_paysRents_1 8 rfl rfl)
theorem dX1_paysRents_33 : decode cX1_paysRents 33 = .ok (.getfield 51, 3) := dk_180 0 51 (dk_at dksX1_paysRents_1 9 rfl rfl)
theorem dX1_paysRents_36 : decode cX1_paysRents 36 = .ok (.iload_n 3, 1) := dk_29 (dk_at dksX1_paysRents_1 12 rfl rfl)
theorem dX1_paysRents_37 : decode cX1_paysRents 37 = .ok (.iaload, 1) := dk_46 (dk_at dksX1_paysRents_1 13 rfl rfl)
theorem dX1_paysRents_38 : decode cX1_paysRents 38 = .ok (.aload_n 0, 1) := dk_42 (dk_at dksX1_paysRents_1 14 rfl rfl)
theorem dX1_paysRents_39 : decode cX1_paysRents 39 = .ok (.getfield 18, 3) := dk_180 0 18 (dk_at dksX1_paysRents_1 15 rfl rfl)
theorem dX1_paysRents_42 : decode cX1_paysRents 42 = .ok (.iload_n 2, 1) := dk_28 (dk_at dksX1_paysRents_1 18 rfl rfl)
theorem dX1_paysRents_43 : decode cX1_paysRents 43 = .ok (.iaload, 1) := dk_46 (dk_at dksX1_paysRents_1 19 rfl rfl)
theorem dX1_paysRents_44 : decode cX1_paysRents 44 = .ok (.iadd, 1) := dk_96 (dk_at dksX1_paysRents_1 20 rfl rfl)
theorem dX1_paysRents_45 : decode cX1_paysRents 45 = .ok (.invokestatic 171, 3) := dk_184 0 171 (dk_at dksX1_paysRents_1 21 rfl rfl)
theorem dX1_paysRents_48 : decode cX1_paysRents 48 = .ok (.iastore, 1) := dk_79 (dk_at dksX1_paysRents_2 0 rfl rfl)
theorem dX1_paysRents_49 : decode cX1_paysRents 49 = .ok (.aload_n 1, 1) := dk_43 (dk_at dksX1_paysRents_2 1 rfl rfl)
theorem dX1_paysRents_50 : decode cX1_paysRents 50 = .ok (.iload_n 3, 1) := dk_29 (dk_at dksX1_paysRents_2 2 rfl rfl)
theorem dX1_paysRents_51 : decode cX1_paysRents 51 = .ok (.dup2, 1) := dk_92 (dk_at dksX1_paysRents_2 3 rfl rfl)
theorem dX1_paysRents_52 : decode cX1_paysRents 52 = .ok (.iaload, 1) := dk_46 (dk_at dksX1_paysRents_2 4 rfl rfl)
theorem dX1_paysRents_53 : decode cX1_paysRents 53 = .ok (.aload_n 0, 1) := dk_42 (dk_at dksX1_paysRents_2 5 rfl rfl)
theorem dX1_paysRents_54 : decode cX1_paysRents 54 = .ok (.getfield 18, 3) := dk_180 0 18 (dk_at dksX1_paysRents_2 6 rfl rfl)
theorem dX1_paysRents_57 : decode cX1_paysRents 57 = .ok (.iload_n 2, 1) := dk_28 (dk_at dksX1_paysRents_2 9 rfl rfl)
theorem dX1_paysRents_58 : decode cX1_paysRents 58 = .ok (.iaload, 1) := dk_46 (dk_at dksX1_paysRents_2 10 rfl rfl)
theorem dX1_paysRents_59 : decode cX1_paysRents 59 = .ok (.iadd, 1) := dk_96 (dk_at dksX1_paysRents_2 11 rfl rfl)
theorem dX1_paysRents_60 : decode cX1_paysRents 60 = .ok (.iastore, 1) := dk_79 (dk_at dksX1_paysRents_2 12 rfl rfl)
theorem dX1_paysRents_61 : decode cX1_paysRents 61 = .ok (.iinc 2 1, 3) := dk_132 2 1 (dk_at dksX1_paysRents_2 13 rfl rfl)
theorem dX1_paysRents_64 : decode cX1_paysRents 64 = .ok (.goto (-62), 3) := dk_167 255 194 (dk_at dksX1_paysRents_2 16 rfl rfl)
theorem dX1_paysRents_67 : decode cX1_paysRents 67 = .ok (.return_, 1) := dk_177 (dk_at dksX1_paysRents_2 19 rfl rfl)
abbrev cX1_bares : ByteArray := prog_13_method_26_code
def yX1_bares : MethodName := ⟨RX1, "bares", "(I)I"⟩
def dkwX1_bares_2 : List UInt8 := [167, 255, 220, 42, 89, 180, 0, 111, 4, 27, 120, 128, 181, 0, 111, 28, 172]
abbrev dktX1_bares_2 : List UInt8 := dkwX1_bares_2 ++ []
def dkwX1_bares_1 : List UInt8 := [162, 0, 25, 28, 42, 180, 0, 42, 29, 46, 96, 61, 42, 180, 0, 42, 29, 3, 79, 132, 3, 1]
abbrev dktX1_bares_1 : List UInt8 := dkwX1_bares_1 ++ dktX1_bares_2
def dkwX1_bares_0 : List UInt8 := [3, 61, 42, 180, 0, 9, 27, 46, 62, 29, 42, 180, 0, 9, 27, 46, 42, 180, 0, 15, 27, 46, 96]
abbrev dktX1_bares_0 : List UInt8 := dkwX1_bares_0 ++ dktX1_bares_1
theorem dksX1_bares_0 : cX1_bares.data.toList.drop 0 = dktX1_bares_0 := by decide +kernel
theorem dksX1_bares_1 : cX1_bares.data.toList.drop 23 = dktX1_bares_1 := dk_seg dksX1_bares_0 23 rfl rfl
theorem dksX1_bares_2 : cX1_bares.data.toList.drop 45 = dktX1_bares_2 := dk_seg dksX1_bares_1 22 rfl rfl
theorem dX1_bares_0 : decode cX1_bares 0 = .ok (.iconst 0, 1) := dk_3 (dk_at dksX1_bares_0 0 rfl rfl)
theorem dX1_bares_1 : decode cX1_bares 1 = .ok (.istore_n 2, 1) := dk_61 (dk_at dksX1_bares_0 1 rfl rfl)
theorem dX1_bares_2 : decode cX1_bares 2 = .ok (.aload_n 0, 1) := dk_42 (dk_at dksX1_bares_0 2 rfl rfl)
theorem dX1_bares_3 : decode cX1_bares 3 = .ok (.getfield 9, 3) := dk_180 0 9 (dk_at dksX1_bares_0 3 rfl rfl)
theorem dX1_bares_6 : decode cX1_bares 6 = .ok (.iload_n 1, 1) := dk_27 (dk_at dksX1_bares_0 6 rfl rfl)
theorem dX1_bares_7 : decode cX1_bares 7 = .ok (.iaload, 1) := dk_46 (dk_at dksX1_bares_0 7 rfl rfl)
theorem dX1_bares_8 : decode cX1_bares 8 = .ok (.istore_n 3, 1) := dk_62 (dk_at dksX1_bares_0 8 rfl rfl)
theorem dX1_bares_9 : decode cX1_bares 9 = .ok (.iload_n 3, 1) := dk_29 (dk_at dksX1_bares_0 9 rfl rfl)
theorem dX1_bares_10 : decode cX1_bares 10 = .ok (.aload_n 0, 1) := dk_42 (dk_at dksX1_bares_0 10 rfl rfl)
theorem dX1_bares_11 : decode cX1_bares 11 = .ok (.getfield 9, 3) := dk_180 0 9 (dk_at dksX1_bares_0 11 rfl rfl)
theorem dX1_bares_14 : decode cX1_bares 14 = .ok (.iload_n 1, 1) := dk_27 (dk_at dksX1_bares_0 14 rfl rfl)
theorem dX1_bares_15 : decode cX1_bares 15 = .ok (.iaload, 1) := dk_46 (dk_at dksX1_bares_0 15 rfl rfl)
theorem dX1_bares_16 : decode cX1_bares 16 = .ok (.aload_n 0, 1) := dk_42 (dk_at dksX1_bares_0 16 rfl rfl)
theorem dX1_bares_17 : decode cX1_bares 17 = .ok (.getfield 15, 3) := dk_180 0 15 (dk_at dksX1_bares_0 17 rfl rfl)
theorem dX1_bares_20 : decode cX1_bares 20 = .ok (.iload_n 1, 1) := dk_27 (dk_at dksX1_bares_0 20 rfl rfl)
theorem dX1_bares_21 : decode cX1_bares 21 = .ok (.iaload, 1) := dk_46 (dk_at dksX1_bares_0 21 rfl rfl)
theorem dX1_bares_22 : decode cX1_bares 22 = .ok (.iadd, 1) := dk_96 (dk_at dksX1_bares_0 22 rfl rfl)
theorem dX1_bares_23 : decode cX1_bares 23 = .ok (.if_icmp .ge 25, 3) := dk_162 0 25 (dk_at dksX1_bares_1 0 rfl rfl)
theorem dX1_bares_26 : decode cX1_bares 26 = .ok (.iload_n 2, 1) := dk_28 (dk_at dksX1_bares_1 3 rfl rfl)
theorem dX1_bares_27 : decode cX1_bares 27 = .ok (.aload_n 0, 1) := dk_42 (dk_at dksX1_bares_1 4 rfl rfl)
theorem dX1_bares_28 : decode cX1_bares 28 = .ok (.getfield 42, 3) := dk_180 0 42 (dk_at dksX1_bares_1 5 rfl rfl)
theorem dX1_bares_31 : decode cX1_bares 31 = .ok (.iload_n 3, 1) := dk_29 (dk_at dksX1_bares_1 8 rfl rfl)
theorem dX1_bares_32 : decode cX1_bares 32 = .ok (.iaload, 1) := dk_46 (dk_at dksX1_bares_1 9 rfl rfl)
theorem dX1_bares_33 : decode cX1_bares 33 = .ok (.iadd, 1) := dk_96 (dk_at dksX1_bares_1 10 rfl rfl)
theorem dX1_bares_34 : decode cX1_bares 34 = .ok (.istore_n 2, 1) := dk_61 (dk_at dksX1_bares_1 11 rfl rfl)
theorem dX1_bares_35 : decode cX1_bares 35 = .ok (.aload_n 0, 1) := dk_42 (dk_at dksX1_bares_1 12 rfl rfl)
theorem dX1_bares_36 : decode cX1_bares 36 = .ok (.getfield 42, 3) := dk_180 0 42 (dk_at dksX1_bares_1 13 rfl rfl)
theorem dX1_bares_39 : decode cX1_bares 39 = .ok (.iload_n 3, 1) := dk_29 (dk_at dksX1_bares_1 16 rfl rfl)
theorem dX1_bares_40 : decode cX1_bares 40 = .ok (.iconst 0, 1) := dk_3 (dk_at dksX1_bares_1 17 rfl rfl)
theorem dX1_bares_41 : decode cX1_bares 41 = .ok (.iastore, 1) := dk_79 (dk_at dksX1_bares_1 18 rfl rfl)
theorem dX1_bares_42 : decode cX1_bares 42 = .ok (.iinc 3 1, 3) := dk_132 3 1 (dk_at dksX1_bares_1 19 rfl rfl)
theorem dX1_bares_45 : decode cX1_bares 45 = .ok (.goto (-36), 3) := dk_167 255 220 (dk_at dksX1_bares_2 0 rfl rfl)
theorem dX1_bares_48 : decode cX1_bares 48 = .ok (.aload_n 0, 1) := dk_42 (dk_at dksX1_bares_2 3 rfl rfl)
theorem dX1_bares_49 : decode cX1_bares 49 = .ok (.dup, 1) := dk_89 (dk_at dksX1_bares_2 4 rfl rfl)
theorem dX1_bares_50 : decode cX1_bares 50 = .ok (.getfield 111, 3) := dk_180 0 111 (dk_at dksX1_bares_2 5 rfl rfl)
theorem dX1_bares_53 : decode cX1_bares 53 = .ok (.iconst 1, 1) := dk_4 (dk_at dksX1_bares_2 8 rfl rfl)
theorem dX1_bares_54 : decode cX1_bares 54 = .ok (.iload_n 1, 1) := dk_27 (dk_at dksX1_bares_2 9 rfl rfl)
theorem dX1_bares_55 : decode cX1_bares 55 = .ok (.ishl, 1) := dk_120 (dk_at dksX1_bares_2 10 rfl rfl)
theorem dX1_bares_56 : decode cX1_bares 56 = .ok (.ior, 1) := dk_128 (dk_at dksX1_bares_2 11 rfl rfl)
theorem dX1_bares_57 : decode cX1_bares 57 = .ok (.putfield 111, 3) := dk_181 0 111 (dk_at dksX1_bares_2 12 rfl rfl)
theorem dX1_bares_60 : decode cX1_bares 60 = .ok (.iload_n 2, 1) := dk_28 (dk_at dksX1_bares_2 15 rfl rfl)
theorem dX1_bares_61 : decode cX1_bares 61 = .ok (.ireturn, 1) := dk_172 (dk_at dksX1_bares_2 16 rfl rfl)
abbrev cX1_isOneColour : ByteArray := prog_13_method_27_code
def yX1_isOneColour : MethodName := ⟨RX1, "isOneColour", "()Z"⟩
def dkwX1_isOneColour_2 : List UInt8 := [159, 0, 5, 3, 172, 42, 180, 0, 24, 42, 28, 182, 0, 143, 46, 60, 132, 2, 1, 167, 255, 193, 4, 172]
abbrev dktX1_isOneColour_2 : List UInt8 := dkwX1_isOneColour_2 ++ []
def dkwX1_isOneColour_1 : List UInt8 := [180, 0, 42, 28, 46, 153, 0, 22, 27, 2, 159, 0, 19, 42, 180, 0, 24, 42, 28, 182, 0, 143, 46, 27]
abbrev dktX1_isOneColour_1 : List UInt8 := dkwX1_isOneColour_1 ++ dktX1_isOneColour_2
def dkwX1_isOneColour_0 : List UInt8 := [2, 60, 3, 61, 28, 42, 180, 0, 77, 162, 0, 61, 42, 28, 182, 0, 135, 153, 0, 6, 167, 0, 44, 42]
abbrev dktX1_isOneColour_0 : List UInt8 := dkwX1_isOneColour_0 ++ dktX1_isOneColour_1
theorem dksX1_isOneColour_0 : cX1_isOneColour.data.toList.drop 0 = dktX1_isOneColour_0 := by decide +kernel
theorem dksX1_isOneColour_1 : cX1_isOneColour.data.toList.drop 24 = dktX1_isOneColour_1 := dk_seg dksX1_isOneColour_0 24 rfl rfl
theorem dksX1_isOneColour_2 : cX1_isOneColour.data.toList.drop 48 = dktX1_isOneColour_2 := dk_seg dksX1_isOneColour_1 24 rfl rfl
theorem dX1_isOneColour_0 : decode cX1_isOneColour 0 = .ok (.iconst (-1), 1) := dk_2 (dk_at dksX1_isOneColour_0 0 rfl rfl)
theorem dX1_isOneColour_1 : decode cX1_isOneColour 1 = .ok (.istore_n 1, 1) := dk_60 (dk_at dksX1_isOneColour_0 1 rfl rfl)
theorem dX1_isOneColour_2 : decode cX1_isOneColour 2 = .ok (.iconst 0, 1) := dk_3 (dk_at dksX1_isOneColour_0 2 rfl rfl)
theorem dX1_isOneColour_3 : decode cX1_isOneColour 3 = .ok (.istore_n 2, 1) := dk_61 (dk_at dksX1_isOneColour_0 3 rfl rfl)
theorem dX1_isOneColour_4 : decode cX1_isOneColour 4 = .ok (.iload_n 2, 1) := dk_28 (dk_at dksX1_isOneColour_0 4 rfl rfl)
theorem dX1_isOneColour_5 : decode cX1_isOneColour 5 = .ok (.aload_n 0, 1) := dk_42 (dk_at dksX1_isOneColour_0 5 rfl rfl)
theorem dX1_isOneColour_6 : decode cX1_isOneColour 6 = .ok (.getfield 77, 3) := dk_180 0 77 (dk_at dksX1_isOneColour_0 6 rfl rfl)
theorem dX1_isOneColour_9 : decode cX1_isOneColour 9 = .ok (.if_icmp .ge 61, 3) := dk_162 0 61 (dk_at dksX1_isOneColour_0 9 rfl rfl)
theorem dX1_isOneColour_12 : decode cX1_isOneColour 12 = .ok (.aload_n 0, 1) := dk_42 (dk_at dksX1_isOneColour_0 12 rfl rfl)
theorem dX1_isOneColour_13 : decode cX1_isOneColour 13 = .ok (.iload_n 2, 1) := dk_28 (dk_at dksX1_isOneColour_0 13 rfl rfl)
theorem dX1_isOneColour_14 : decode cX1_isOneColour 14 = .ok (.invokevirtual 135, 3) := dk_182 0 135 (dk_at dksX1_isOneColour_0 14 rfl rfl)
theorem dX1_isOneColour_17 : decode cX1_isOneColour 17 = .ok (.ifCond .eq 6, 3) := dk_153 0 6 (dk_at dksX1_isOneColour_0 17 rfl rfl)
theorem dX1_isOneColour_20 : decode cX1_isOneColour 20 = .ok (.goto 44, 3) := dk_167 0 44 (dk_at dksX1_isOneColour_0 20 rfl rfl)
theorem dX1_isOneColour_23 : decode cX1_isOneColour 23 = .ok (.aload_n 0, 1) := dk_42 (dk_at dksX1_isOneColour_0 23 rfl rfl)
theorem dX1_isOneColour_24 : decode cX1_isOneColour 24 = .ok (.getfield 42, 3) := dk_180 0 42 (dk_at dksX1_isOneColour_1 0 rfl rfl)
theorem dX1_isOneColour_27 : decode cX1_isOneColour 27 = .ok (.iload_n 2, 1) := dk_28 (dk_at dksX1_isOneColour_1 3 rfl rfl)
theorem dX1_isOneColour_28 : decode cX1_isOneColour 28 = .ok (.iaload, 1) := dk_46 (dk_at dksX1_isOneColour_1 4 rfl rfl)
theorem dX1_isOneColour_29 : decode cX1_isOneColour 29 = .ok (.ifCond .eq 22, 3) := dk_153 0 22 (dk_at dksX1_isOneColour_1 5 rfl rfl)
theorem dX1_isOneColour_32 : decode cX1_isOneColour 32 = .ok (.iload_n 1, 1) := dk_27 (dk_at dksX1_isOneColour_1 8 rfl rfl)
theorem dX1_isOneColour_33 : decode cX1_isOneColour 33 = .ok (.iconst (-1), 1) := dk_2 (dk_at dksX1_isOneColour_1 9 rfl rfl)
theorem dX1_isOneColour_34 : decode cX1_isOneColour 34 = .ok (.if_icmp .eq 19, 3) := dk_159 0 19 (dk_at dksX1_isOneColour_1 10 rfl rfl)
theorem dX1_isOneColour_37 : decode cX1_isOneColour 37 = .ok (.aload_n 0, 1) := dk_42 (dk_at dksX1_isOneColour_1 13 rfl rfl)
theorem dX1_isOneColour_38 : decode cX1_isOneColour 38 = .ok (.getfield 24, 3) := dk_180 0 24 (dk_at dksX1_isOneColour_1 14 rfl rfl)
theorem dX1_isOneColour_41 : decode cX1_isOneColour 41 = .ok (.aload_n 0, 1) := dk_42 (dk_at dksX1_isOneColour_1 17 rfl rfl)
theorem dX1_isOneColour_42 : decode cX1_isOneColour 42 = .ok (.iload_n 2, 1) := dk_28 (dk_at dksX1_isOneColour_1 18 rfl rfl)
theorem dX1_isOneColour_43 : decode cX1_isOneColour 43 = .ok (.invokevirtual 143, 3) := dk_182 0 143 (dk_at dksX1_isOneColour_1 19 rfl rfl)
theorem dX1_isOneColour_46 : decode cX1_isOneColour 46 = .ok (.iaload, 1) := dk_46 (dk_at dksX1_isOneColour_1 22 rfl rfl)
theorem dX1_isOneColour_47 : decode cX1_isOneColour 47 = .ok (.iload_n 1, 1) := dk_27 (dk_at dksX1_isOneColour_1 23 rfl rfl)
theorem dX1_isOneColour_48 : decode cX1_isOneColour 48 = .ok (.if_icmp .eq 5, 3) := dk_159 0 5 (dk_at dksX1_isOneColour_2 0 rfl rfl)
theorem dX1_isOneColour_51 : decode cX1_isOneColour 51 = .ok (.iconst 0, 1) := dk_3 (dk_at dksX1_isOneColour_2 3 rfl rfl)
theorem dX1_isOneColour_52 : decode cX1_isOneColour 52 = .ok (.ireturn, 1) := dk_172 (dk_at dksX1_isOneColour_2 4 rfl rfl)
theorem dX1_isOneColour_53 : decode cX1_isOneColour 53 = .ok (.aload_n 0, 1) := dk_42 (dk_at dksX1_isOneColour_2 5 rfl rfl)
theorem dX1_isOneColour_54 : decode cX1_isOneColour 54 = .ok (.getfield 24, 3) := dk_180 0 24 (dk_at dksX1_isOneColour_2 6 rfl rfl)
theorem dX1_isOneColour_57 : decode cX1_isOneColour 57 = .ok (.aload_n 0, 1) := dk_42 (dk_at dksX1_isOneColour_2 9 rfl rfl)
theorem dX1_isOneColour_58 : decode cX1_isOneColour 58 = .ok (.iload_n 2, 1) := dk_28 (dk_at dksX1_isOneColour_2 10 rfl rfl)
theorem dX1_isOneColour_59 : decode cX1_isOneColour 59 = .ok (.invokevirtual 143, 3) := dk_182 0 143 (dk_at dksX1_isOneColour_2 11 rfl rfl)
theorem dX1_isOneColour_62 : decode cX1_isOneColour 62 = .ok (.iaload, 1) := dk_46 (dk_at dksX1_isOneColour_2 14 rfl rfl)
theorem dX1_isOneColour_63 : decode cX1_isOneColour 63 = .ok (.istore_n 1, 1) := dk_60 (dk_at dksX1_isOneColour_2 15 rfl rfl)
theorem dX1_isOneColour_64 : decode cX1_isOneColour 64 = .ok (.iinc 2 1, 3) := dk_132 2 1 (dk_at dksX1_isOneColour_2 16 rfl rfl)
theorem dX1_isOneColour_67 : decode cX1_isOneColour 67 = .ok (.goto (-63), 3) := dk_167 255 193 (dk_at dksX1_isOneColour_2 19 rfl rfl)
theorem dX1_isOneColour_70 : decode cX1_isOneColour 70 = .ok (.iconst 1, 1) := dk_4 (dk_at dksX1_isOneColour_2 22 rfl rfl)
theorem dX1_isOneColour_71 : decode cX1_isOneColour 71 = .ok (.ireturn, 1) := dk_172 (dk_at dksX1_isOneColour_2 23 rfl rfl)
theorem q130 : (Jvm.Cond.initialized "LatestCoat$Town") ∈ lw_all := lw_g (lw_at lw_m1 2 rfl) rfl
theorem q164 : (Jvm.Cond.instantiable "LatestCoat$Town" (30 : Nat)) ∈ lw_all := lw_g (lw_at lw_m1 36 rfl) rfl
theorem q166 : (Jvm.Cond.instanceMethod ({ cls := "LatestCoat$Town", name := "<init>", desc := "()V" } : Jvm.MethodName)) ∈ lw_all := lw_g (lw_at lw_m1 38 rfl) rfl
theorem q167 : (Jvm.Cond.code ({ cls := "LatestCoat$Town", name := "<init>", desc := "()V" } : Jvm.MethodName) prog_13_method_1_code (1 : Nat) (Option.none : Option Jvm.ClassFile.FieldType)) ∈ lw_all := lw_g (lw_at lw_m1 39 rfl) rfl
theorem q168 : (Jvm.Cond.methodLink "LatestCoat$Town" (3 : Nat) ({ cls := "java/lang/Object", name := "<init>", desc := "()V" } : Jvm.MethodName)) ∈ lw_all := lw_g (lw_at lw_m1 40 rfl) rfl
theorem q169 : (Jvm.Cond.fieldLink "LatestCoat$Town" (64 : Nat) "LatestCoat$Town" "dry" "I") ∈ lw_all := lw_g (lw_at lw_m1 41 rfl) rfl
theorem q172 : (Jvm.Cond.fieldLink "LatestCoat$Town" (68 : Nat) "LatestCoat$Town" "part" "I") ∈ lw_all := lw_g (lw_at lw_m1 44 rfl) rfl
theorem q175 : (Jvm.Cond.fieldLink "LatestCoat$Town" (71 : Nat) "LatestCoat$Town" "cost" "I") ∈ lw_all := lw_g (lw_at lw_m1 47 rfl) rfl
theorem q178 : (Jvm.Cond.fieldLink "LatestCoat$Town" (74 : Nat) "LatestCoat$Town" "thingMany" "I") ∈ lw_all := lw_g (lw_at lw_m1 50 rfl) rfl
theorem q181 : (Jvm.Cond.fieldLink "LatestCoat$Town" (77 : Nat) "LatestCoat$Town" "cellMany" "I") ∈ lw_all := lw_g (lw_at lw_m1 53 rfl) rfl
theorem q184 : (Jvm.Cond.fieldLink "LatestCoat$Town" (80 : Nat) "LatestCoat$Town" "painterMany" "I") ∈ lw_all := lw_g (lw_at lw_m1 56 rfl) rfl
theorem q187 : (Jvm.Cond.fieldLink "LatestCoat$Town" (83 : Nat) "LatestCoat$Town" "rainMany" "I") ∈ lw_all := lw_g (lw_at lw_m1 59 rfl) rfl
theorem q189 : (Jvm.Cond.fieldLink "LatestCoat$Town" (86 : Nat) "LatestCoat$Town" "suit" "I") ∈ lw_all := lw_g (lw_at lw_m1 61 rfl) rfl
theorem q192 : (Jvm.Cond.fieldLink "LatestCoat$Town" (89 : Nat) "LatestCoat$Town" "logMany" "I") ∈ lw_all := lw_g (lw_at lw_m1 64 rfl) rfl
theorem q194 : (Jvm.Cond.fieldLink "LatestCoat$Town" (92 : Nat) "LatestCoat$Town" "undoMany" "I") ∈ lw_all := lw_g (lw_at lw_m1 66 rfl) rfl
theorem q196 : (Jvm.Cond.fieldLink "LatestCoat$Town" (95 : Nat) "LatestCoat$Town" "toldBare" "I") ∈ lw_all := lw_g (lw_at lw_m1 68 rfl) rfl
theorem q198 : (Jvm.Cond.fieldLink "LatestCoat$Town" (108 : Nat) "LatestCoat$Town" "now" "I") ∈ lw_all := lw_g (lw_at lw_m1 70 rfl) rfl
theorem q200 : (Jvm.Cond.fieldLink "LatestCoat$Town" (111 : Nat) "LatestCoat$Town" "bare" "I") ∈ lw_all := lw_g (lw_at lw_m1 72 rfl) rfl
theorem q202 : (Jvm.Cond.fieldLink "LatestCoat$Town" (9 : Nat) "LatestCoat$Town" "first" "[I") ∈ lw_all := lw_g (lw_at lw_m1 74 rfl) rfl
theorem q205 : (Jvm.Cond.fieldLink "LatestCoat$Town" (15 : Nat) "LatestCoat$Town" "size" "[I") ∈ lw_all := lw_g (lw_at lw_m1 77 rfl) rfl
theorem q208 : (Jvm.Cond.fieldLink "LatestCoat$Town" (18 : Nat) "LatestCoat$Town" "rent" "[I") ∈ lw_all := lw_g (lw_at lw_m1 80 rfl) rfl
theorem q211 : (Jvm.Cond.fieldLink "LatestCoat$Town" (21 : Nat) "LatestCoat$Town" "thingOf" "[I") ∈ lw_all := lw_g (lw_at lw_m1 83 rfl) rfl
theorem q214 : (Jvm.Cond.fieldLink "LatestCoat$Town" (24 : Nat) "LatestCoat$Town" "colour" "[I") ∈ lw_all := lw_g (lw_at lw_m1 86 rfl) rfl
theorem q217 : (Jvm.Cond.fieldLink "LatestCoat$Town" (27 : Nat) "LatestCoat$Town" "toldPurse" "[I") ∈ lw_all := lw_g (lw_at lw_m1 89 rfl) rfl
theorem q219 : (Jvm.Cond.fieldLink "LatestCoat$Town" (30 : Nat) "LatestCoat$Town" "toldMany" "[I") ∈ lw_all := lw_g (lw_at lw_m1 91 rfl) rfl
theorem q221 : (Jvm.Cond.fieldLink "LatestCoat$Town" (33 : Nat) "LatestCoat$Town" "toldBy" "[I") ∈ lw_all := lw_g (lw_at lw_m1 93 rfl) rfl
theorem q223 : (Jvm.Cond.fieldLink "LatestCoat$Town" (36 : Nat) "LatestCoat$Town" "rains" "[I") ∈ lw_all := lw_g (lw_at lw_m1 95 rfl) rfl
theorem q225 : (Jvm.Cond.fieldLink "LatestCoat$Town" (39 : Nat) "LatestCoat$Town" "logs" "[I") ∈ lw_all := lw_g (lw_at lw_m1 97 rfl) rfl
theorem q227 : (Jvm.Cond.fieldLink "LatestCoat$Town" (42 : Nat) "LatestCoat$Town" "many" "[I") ∈ lw_all := lw_g (lw_at lw_m1 99 rfl) rfl
theorem q229 : (Jvm.Cond.fieldLink "LatestCoat$Town" (45 : Nat) "LatestCoat$Town" "by" "[I") ∈ lw_all := lw_g (lw_at lw_m1 101 rfl) rfl
theorem q231 : (Jvm.Cond.fieldLink "LatestCoat$Town" (48 : Nat) "LatestCoat$Town" "when" "[I") ∈ lw_all := lw_g (lw_at lw_m1 103 rfl) rfl
theorem q233 : (Jvm.Cond.fieldLink "LatestCoat$Town" (51 : Nat) "LatestCoat$Town" "purse" "[I") ∈ lw_all := lw_g (lw_at lw_m1 105 rfl) rfl
theorem q235 : (Jvm.Cond.fieldLink "LatestCoat$Town" (54 : Nat) "LatestCoat$Town" "undo" "[I") ∈ lw_all := lw_g (lw_at lw_m1 107 rfl) rfl
theorem q237 : (Jvm.Cond.fieldLink "LatestCoat$Town" (57 : Nat) "LatestCoat$Town" "words" "[J") ∈ lw_all := lw_g (lw_at lw_m1 109 rfl) rfl
theorem q238 : (Jvm.Cond.fieldLink "LatestCoat$Town" (61 : Nat) "LatestCoat$Town" "owns" "[I") ∈ lw_all := lw_g (lw_at lw_m1 110 rfl) rfl
theorem q239 : (Jvm.Cond.lays "LatestCoat$Town" "LatestCoat$Town" "dry" "I") ∈ lw_all := lw_g (lw_at lw_m1 111 rfl) rfl
theorem q240 : (Jvm.Cond.soleField "LatestCoat$Town" "dry") ∈ lw_all := lw_g (lw_at lw_m1 112 rfl) rfl
theorem q241 : (Jvm.Cond.lays "LatestCoat$Town" "LatestCoat$Town" "part" "I") ∈ lw_all := lw_g (lw_at lw_m1 113 rfl) rfl
theorem q242 : (Jvm.Cond.soleField "LatestCoat$Town" "part") ∈ lw_all := lw_g (lw_at lw_m1 114 rfl) rfl
theorem q243 : (Jvm.Cond.lays "LatestCoat$Town" "LatestCoat$Town" "cost" "I") ∈ lw_all := lw_g (lw_at lw_m1 115 rfl) rfl
theorem q244 : (Jvm.Cond.soleField "LatestCoat$Town" "cost") ∈ lw_all := lw_g (lw_at lw_m1 116 rfl) rfl
theorem q245 : (Jvm.Cond.lays "LatestCoat$Town" "LatestCoat$Town" "thingMany" "I") ∈ lw_all := lw_g (lw_at lw_m1 117 rfl) rfl
theorem q246 : (Jvm.Cond.soleField "LatestCoat$Town" "thingMany") ∈ lw_all := lw_g (lw_at lw_m1 118 rfl) rfl
theorem q247 : (Jvm.Cond.lays "LatestCoat$Town" "LatestCoat$Town" "cellMany" "I") ∈ lw_all := lw_g (lw_at lw_m1 119 rfl) rfl
theorem q248 : (Jvm.Cond.soleField "LatestCoat$Town" "cellMany") ∈ lw_all := lw_g (lw_at lw_m1 120 rfl) rfl
theorem q249 : (Jvm.Cond.lays "LatestCoat$Town" "LatestCoat$Town" "painterMany" "I") ∈ lw_all := lw_g (lw_at lw_m1 121 rfl) rfl
theorem q250 : (Jvm.Cond.soleField "LatestCoat$Town" "painterMany") ∈ lw_all := lw_g (lw_at lw_m1 122 rfl) rfl
theorem q251 : (Jvm.Cond.lays "LatestCoat$Town" "LatestCoat$Town" "rainMany" "I") ∈ lw_all := lw_g (lw_at lw_m1 123 rfl) rfl
theorem q252 : (Jvm.Cond.soleField "LatestCoat$Town" "rainMany") ∈ lw_all := lw_g (lw_at lw_m1 124 rfl) rfl
theorem q253 : (Jvm.Cond.lays "LatestCoat$Town" "LatestCoat$Town" "suit" "I") ∈ lw_all := lw_g (lw_at lw_m1 125 rfl) rfl
theorem q254 : (Jvm.Cond.soleField "LatestCoat$Town" "suit") ∈ lw_all := lw_g (lw_at lw_m1 126 rfl) rfl
theorem q255 : (Jvm.Cond.lays "LatestCoat$Town" "LatestCoat$Town" "logMany" "I") ∈ lw_all := lw_g (lw_at lw_m1 127 rfl) rfl
theorem q256 : (Jvm.Cond.soleField "LatestCoat$Town" "logMany") ∈ lw_all := lw_g (lw_at lw_m1 128 rfl) rfl
theorem q257 : (Jvm.Cond.lays "LatestCoat$Town" "LatestCoat$Town" "undoMany" "I") ∈ lw_all := lw_g (lw_at lw_m1 129 rfl) rfl
theorem q258 : (Jvm.Cond.soleField "LatestCoat$Town" "undoMany") ∈ lw_all := lw_g (lw_at lw_m1 130 rfl) rfl
theorem q259 : (Jvm.Cond.lays "LatestCoat$Town" "LatestCoat$Town" "toldBare" "I") ∈ lw_all := lw_g (lw_at lw_m1 131 rfl) rfl
theorem q260 : (Jvm.Cond.soleField "LatestCoat$Town" "toldBare") ∈ lw_all := lw_g (lw_at lw_m1 132 rfl) rfl
theorem q261 : (Jvm.Cond.lays "LatestCoat$Town" "LatestCoat$Town" "now" "I") ∈ lw_all := lw_g (lw_at lw_m1 133 rfl) rfl
theorem q262 : (Jvm.Cond.soleField "LatestCoat$Town" "now") ∈ lw_all := lw_g (lw_at lw_m1 134 rfl) rfl
theorem q263 : (Jvm.Cond.lays "LatestCoat$Town" "LatestCoat$Town" "bare" "I") ∈ lw_all := lw_g (lw_at lw_m1 135 rfl) rfl
theorem q264 : (Jvm.Cond.soleField "LatestCoat$Town" "bare") ∈ lw_all := lw_g (lw_at lw_m1 136 rfl) rfl
theorem q265 : (Jvm.Cond.laysFinal "LatestCoat$Town" "LatestCoat$Town" "first" "[I") ∈ lw_all := lw_g (lw_at lw_m1 137 rfl) rfl
theorem q266 : (Jvm.Cond.soleField "LatestCoat$Town" "first") ∈ lw_all := lw_g (lw_at lw_m1 138 rfl) rfl
theorem q267 : (Jvm.Cond.laysFinal "LatestCoat$Town" "LatestCoat$Town" "size" "[I") ∈ lw_all := lw_g (lw_at lw_m1 139 rfl) rfl
theorem q268 : (Jvm.Cond.soleField "LatestCoat$Town" "size") ∈ lw_all := lw_g (lw_at lw_m1 140 rfl) rfl
theorem q269 : (Jvm.Cond.laysFinal "LatestCoat$Town" "LatestCoat$Town" "rent" "[I") ∈ lw_all := lw_g (lw_at lw_m1 141 rfl) rfl
theorem q270 : (Jvm.Cond.soleField "LatestCoat$Town" "rent") ∈ lw_all := lw_g (lw_at lw_m1 142 rfl) rfl
theorem q271 : (Jvm.Cond.laysFinal "LatestCoat$Town" "LatestCoat$Town" "thingOf" "[I") ∈ lw_all := lw_g (lw_at lw_m1 143 rfl) rfl
theorem q272 : (Jvm.Cond.soleField "LatestCoat$Town" "thingOf") ∈ lw_all := lw_g (lw_at lw_m1 144 rfl) rfl
theorem q273 : (Jvm.Cond.laysFinal "LatestCoat$Town" "LatestCoat$Town" "colour" "[I") ∈ lw_all := lw_g (lw_at lw_m1 145 rfl) rfl
theorem q274 : (Jvm.Cond.soleField "LatestCoat$Town" "colour") ∈ lw_all := lw_g (lw_at lw_m1 146 rfl) rfl
theorem q275 : (Jvm.Cond.laysFinal "LatestCoat$Town" "LatestCoat$Town" "toldPurse" "[I") ∈ lw_all := lw_g (lw_at lw_m1 147 rfl) rfl
theorem q276 : (Jvm.Cond.soleField "LatestCoat$Town" "toldPurse") ∈ lw_all := lw_g (lw_at lw_m1 148 rfl) rfl
theorem q277 : (Jvm.Cond.laysFinal "LatestCoat$Town" "LatestCoat$Town" "toldMany" "[I") ∈ lw_all := lw_g (lw_at lw_m1 149 rfl) rfl
theorem q278 : (Jvm.Cond.soleField "LatestCoat$Town" "toldMany") ∈ lw_all := lw_g (lw_at lw_m1 150 rfl) rfl
theorem q279 : (Jvm.Cond.laysFinal "LatestCoat$Town" "LatestCoat$Town" "toldBy" "[I") ∈ lw_all := lw_g (lw_at lw_m1 151 rfl) rfl
theorem q280 : (Jvm.Cond.soleField "LatestCoat$Town" "toldBy") ∈ lw_all := lw_g (lw_at lw_m1 152 rfl) rfl
theorem q281 : (Jvm.Cond.laysFinal "LatestCoat$Town" "LatestCoat$Town" "rains" "[I") ∈ lw_all := lw_g (lw_at lw_m1 153 rfl) rfl
theorem q282 : (Jvm.Cond.soleField "LatestCoat$Town" "rains") ∈ lw_all := lw_g (lw_at lw_m1 154 rfl) rfl
theorem q283 : (Jvm.Cond.laysFinal "LatestCoat$Town" "LatestCoat$Town" "logs" "[I") ∈ lw_all := lw_g (lw_at lw_m1 155 rfl) rfl
theorem q284 : (Jvm.Cond.soleField "LatestCoat$Town" "logs") ∈ lw_all := lw_g (lw_at lw_m1 156 rfl) rfl
theorem q285 : (Jvm.Cond.laysFinal "LatestCoat$Town" "LatestCoat$Town" "many" "[I") ∈ lw_all := lw_g (lw_at lw_m1 157 rfl) rfl
theorem q286 : (Jvm.Cond.soleField "LatestCoat$Town" "many") ∈ lw_all := lw_g (lw_at lw_m1 158 rfl) rfl
theorem q287 : (Jvm.Cond.laysFinal "LatestCoat$Town" "LatestCoat$Town" "by" "[I") ∈ lw_all := lw_g (lw_at lw_m1 159 rfl) rfl
theorem q288 : (Jvm.Cond.soleField "LatestCoat$Town" "by") ∈ lw_all := lw_g (lw_at lw_m1 160 rfl) rfl
theorem q289 : (Jvm.Cond.laysFinal "LatestCoat$Town" "LatestCoat$Town" "when" "[I") ∈ lw_all := lw_g (lw_at lw_m1 161 rfl) rfl
theorem q290 : (Jvm.Cond.soleField "LatestCoat$Town" "when") ∈ lw_all := lw_g (lw_at lw_m1 162 rfl) rfl
theorem q291 : (Jvm.Cond.laysFinal "LatestCoat$Town" "LatestCoat$Town" "purse" "[I") ∈ lw_all := lw_g (lw_at lw_m1 163 rfl) rfl
theorem q292 : (Jvm.Cond.soleField "LatestCoat$Town" "purse") ∈ lw_all := lw_g (lw_at lw_m1 164 rfl) rfl
theorem q293 : (Jvm.Cond.laysFinal "LatestCoat$Town" "LatestCoat$Town" "undo" "[I") ∈ lw_all := lw_g (lw_at lw_m1 165 rfl) rfl
theorem q294 : (Jvm.Cond.soleField "LatestCoat$Town" "undo") ∈ lw_all := lw_g (lw_at lw_m1 166 rfl) rfl
theorem q295 : (Jvm.Cond.laysFinal "LatestCoat$Town" "LatestCoat$Town" "words" "[J") ∈ lw_all := lw_g (lw_at lw_m1 167 rfl) rfl
theorem q296 : (Jvm.Cond.soleField "LatestCoat$Town" "words") ∈ lw_all := lw_g (lw_at lw_m1 168 rfl) rfl
theorem q297 : (Jvm.Cond.laysFinal "LatestCoat$Town" "LatestCoat$Town" "owns" "[I") ∈ lw_all := lw_g (lw_at lw_m1 169 rfl) rfl
theorem q298 : (Jvm.Cond.soleField "LatestCoat$Town" "owns") ∈ lw_all := lw_g (lw_at lw_m1 170 rfl) rfl
theorem q299 : (Jvm.Cond.superclass "LatestCoat$Town" "java/lang/Object") ∈ lw_all := lw_g (lw_at lw_m1 171 rfl) rfl
theorem q535 : (Jvm.Cond.instanceMethod ({ cls := "LatestCoat$Town", name := "copies", desc := "(LLatestCoat$Town;)LLatestCoat$Town;" } : Jvm.MethodName)) ∈ lw_all := lw_g (lw_at lw_m2 167 rfl) rfl
theorem q536 : (Jvm.Cond.selects "LatestCoat$Town" ({ cls := "LatestCoat$Town", name := "copies", desc := "(LLatestCoat$Town;)LLatestCoat$Town;" } : Jvm.MethodName) ({ cls := "LatestCoat$Town", name := "copies", desc := "(LLatestCoat$Town;)LLatestCoat$Town;" } : Jvm.MethodName)) ∈ lw_all := lw_g (lw_at lw_m2 168 rfl) rfl
theorem q537 : (Jvm.Cond.code ({ cls := "LatestCoat$Town", name := "copies", desc := "(LLatestCoat$Town;)LLatestCoat$Town;" } : Jvm.MethodName) prog_13_method_2_code (2 : Nat) (Option.some (Jvm.ClassFile.FieldType.object "LatestCoat$Town"))) ∈ lw_all := lw_g (lw_at lw_m2 169 rfl) rfl
theorem q538 : (Jvm.Cond.methodLink "LatestCoat$Town" (98 : Nat) ({ cls := "java/lang/System", name := "arraycopy", desc := "(Ljava/lang/Object;ILjava/lang/Object;II)V" } : Jvm.MethodName)) ∈ lw_all := lw_g (lw_at lw_m2 170 rfl) rfl
theorem q541 : (Jvm.Cond.methodLink "LatestCoat$Town" (104 : Nat) ({ cls := "LatestCoat$Town", name := "standsAs", desc := "(LLatestCoat$Town;)LLatestCoat$Town;" } : Jvm.MethodName)) ∈ lw_all := lw_g (lw_at lw_m2 173 rfl) rfl
theorem q542 : (Jvm.Cond.instanceMethod ({ cls := "LatestCoat$Town", name := "standsAs", desc := "(LLatestCoat$Town;)LLatestCoat$Town;" } : Jvm.MethodName)) ∈ lw_all := lw_g (lw_at lw_m2 174 rfl) rfl
theorem q543 : (Jvm.Cond.selects "LatestCoat$Town" ({ cls := "LatestCoat$Town", name := "standsAs", desc := "(LLatestCoat$Town;)LLatestCoat$Town;" } : Jvm.MethodName) ({ cls := "LatestCoat$Town", name := "standsAs", desc := "(LLatestCoat$Town;)LLatestCoat$Town;" } : Jvm.MethodName)) ∈ lw_all := lw_g (lw_at lw_m2 175 rfl) rfl
theorem q544 : (Jvm.Cond.code ({ cls := "LatestCoat$Town", name := "standsAs", desc := "(LLatestCoat$Town;)LLatestCoat$Town;" } : Jvm.MethodName) prog_13_method_3_code (2 : Nat) (Option.some (Jvm.ClassFile.FieldType.object "LatestCoat$Town"))) ∈ lw_all := lw_g (lw_at lw_m2 176 rfl) rfl
theorem q657 : (Jvm.Cond.instanceMethod ({ cls := "LatestCoat$Town", name := "begins", desc := "()V" } : Jvm.MethodName)) ∈ lw_all := lw_g (lw_at lw_m3 49 rfl) rfl
theorem q658 : (Jvm.Cond.selects "LatestCoat$Town" ({ cls := "LatestCoat$Town", name := "begins", desc := "()V" } : Jvm.MethodName) ({ cls := "LatestCoat$Town", name := "begins", desc := "()V" } : Jvm.MethodName)) ∈ lw_all := lw_g (lw_at lw_m3 50 rfl) rfl
theorem q659 : (Jvm.Cond.code ({ cls := "LatestCoat$Town", name := "begins", desc := "()V" } : Jvm.MethodName) prog_13_method_6_code (3 : Nat) (Option.none : Option Jvm.ClassFile.FieldType)) ∈ lw_all := lw_g (lw_at lw_m3 51 rfl) rfl
theorem q660 : (Jvm.Cond.methodLinkNest "LatestCoat$Town" (114 : Nat) ({ cls := "LatestCoat", name := "has", desc := "(II)Z" } : Jvm.MethodName) "LatestCoat") ∈ lw_tbl := lw_at lw_m3 52 rfl
theorem q854 : (Jvm.Cond.instanceMethod ({ cls := "LatestCoat$Town", name := "ownerOf", desc := "(I)I" } : Jvm.MethodName)) ∈ lw_all := lw_g (lw_at lw_m4 6 rfl) rfl
theorem q855 : (Jvm.Cond.selects "LatestCoat$Town" ({ cls := "LatestCoat$Town", name := "ownerOf", desc := "(I)I" } : Jvm.MethodName) ({ cls := "LatestCoat$Town", name := "ownerOf", desc := "(I)I" } : Jvm.MethodName)) ∈ lw_all := lw_g (lw_at lw_m4 7 rfl) rfl
theorem q856 : (Jvm.Cond.code ({ cls := "LatestCoat$Town", name := "ownerOf", desc := "(I)I" } : Jvm.MethodName) prog_13_method_12_code (2 : Nat) (Option.some Jvm.ClassFile.FieldType.int)) ∈ lw_all := lw_g (lw_at lw_m4 8 rfl) rfl
theorem q857 : (Jvm.Cond.constant "LatestCoat$Town" (118 : Nat) (2147483647 : Int32)) ∈ lw_all := lw_g (lw_at lw_m4 9 rfl) rfl
theorem q858 : (Jvm.Cond.methodLink "LatestCoat$Town" (119 : Nat) ({ cls := "LatestCoat$Town", name := "ownerAt", desc := "(III)I" } : Jvm.MethodName)) ∈ lw_all := lw_g (lw_at lw_m4 10 rfl) rfl
theorem q859 : (Jvm.Cond.instanceMethod ({ cls := "LatestCoat$Town", name := "ownerAt", desc := "(III)I" } : Jvm.MethodName)) ∈ lw_all := lw_g (lw_at lw_m4 11 rfl) rfl
theorem q860 : (Jvm.Cond.selects "LatestCoat$Town" ({ cls := "LatestCoat$Town", name := "ownerAt", desc := "(III)I" } : Jvm.MethodName) ({ cls := "LatestCoat$Town", name := "ownerAt", desc := "(III)I" } : Jvm.MethodName)) ∈ lw_all := lw_g (lw_at lw_m4 12 rfl) rfl
theorem q861 : (Jvm.Cond.code ({ cls := "LatestCoat$Town", name := "ownerAt", desc := "(III)I" } : Jvm.MethodName) prog_13_method_11_code (6 : Nat) (Option.some Jvm.ClassFile.FieldType.int)) ∈ lw_all := lw_g (lw_at lw_m4 13 rfl) rfl
theorem q863 : (Jvm.Cond.instanceMethod ({ cls := "LatestCoat$Town", name := "top", desc := "(I)I" } : Jvm.MethodName)) ∈ lw_all := lw_g (lw_at lw_m4 15 rfl) rfl
theorem q864 : (Jvm.Cond.selects "LatestCoat$Town" ({ cls := "LatestCoat$Town", name := "top", desc := "(I)I" } : Jvm.MethodName) ({ cls := "LatestCoat$Town", name := "top", desc := "(I)I" } : Jvm.MethodName)) ∈ lw_all := lw_g (lw_at lw_m4 16 rfl) rfl
theorem q865 : (Jvm.Cond.code ({ cls := "LatestCoat$Town", name := "top", desc := "(I)I" } : Jvm.MethodName) prog_13_method_9_code (2 : Nat) (Option.some Jvm.ClassFile.FieldType.int)) ∈ lw_all := lw_g (lw_at lw_m4 17 rfl) rfl
theorem q867 : (Jvm.Cond.instanceMethod ({ cls := "LatestCoat$Town", name := "isWet", desc := "(I)Z" } : Jvm.MethodName)) ∈ lw_all := lw_g (lw_at lw_m4 19 rfl) rfl
theorem q868 : (Jvm.Cond.selects "LatestCoat$Town" ({ cls := "LatestCoat$Town", name := "isWet", desc := "(I)Z" } : Jvm.MethodName) ({ cls := "LatestCoat$Town", name := "isWet", desc := "(I)Z" } : Jvm.MethodName)) ∈ lw_all := lw_g (lw_at lw_m4 20 rfl) rfl
theorem q869 : (Jvm.Cond.code ({ cls := "LatestCoat$Town", name := "isWet", desc := "(I)Z" } : Jvm.MethodName) prog_13_method_10_code (2 : Nat) (Option.some Jvm.ClassFile.FieldType.boolean)) ∈ lw_all := lw_g (lw_at lw_m4 21 rfl) rfl
theorem q888 : (Jvm.Cond.instanceMethod ({ cls := "LatestCoat$Town", name := "whose", desc := "(I)I" } : Jvm.MethodName)) ∈ lw_all := lw_g (lw_at lw_m4 40 rfl) rfl
theorem q889 : (Jvm.Cond.selects "LatestCoat$Town" ({ cls := "LatestCoat$Town", name := "whose", desc := "(I)I" } : Jvm.MethodName) ({ cls := "LatestCoat$Town", name := "whose", desc := "(I)I" } : Jvm.MethodName)) ∈ lw_all := lw_g (lw_at lw_m4 41 rfl) rfl
theorem q890 : (Jvm.Cond.code ({ cls := "LatestCoat$Town", name := "whose", desc := "(I)I" } : Jvm.MethodName) prog_13_method_15_code (2 : Nat) (Option.some Jvm.ClassFile.FieldType.int)) ∈ lw_all := lw_g (lw_at lw_m4 42 rfl) rfl
theorem q891 : (Jvm.Cond.methodLink "LatestCoat$Town" (127 : Nat) ({ cls := "LatestCoat$Town", name := "thingAt", desc := "(IIII)I" } : Jvm.MethodName)) ∈ lw_all := lw_g (lw_at lw_m4 43 rfl) rfl
theorem q892 : (Jvm.Cond.instanceMethod ({ cls := "LatestCoat$Town", name := "thingAt", desc := "(IIII)I" } : Jvm.MethodName)) ∈ lw_all := lw_g (lw_at lw_m4 44 rfl) rfl
theorem q893 : (Jvm.Cond.selects "LatestCoat$Town" ({ cls := "LatestCoat$Town", name := "thingAt", desc := "(IIII)I" } : Jvm.MethodName) ({ cls := "LatestCoat$Town", name := "thingAt", desc := "(IIII)I" } : Jvm.MethodName)) ∈ lw_all := lw_g (lw_at lw_m4 45 rfl) rfl
theorem q894 : (Jvm.Cond.code ({ cls := "LatestCoat$Town", name := "thingAt", desc := "(IIII)I" } : Jvm.MethodName) prog_13_method_14_code (7 : Nat) (Option.some Jvm.ClassFile.FieldType.int)) ∈ lw_all := lw_g (lw_at lw_m4 46 rfl) rfl
theorem q895 : (Jvm.Cond.methodLink "LatestCoat$Town" (123 : Nat) ({ cls := "LatestCoat$Town", name := "holder", desc := "(II)I" } : Jvm.MethodName)) ∈ lw_all := lw_g (lw_at lw_m4 47 rfl) rfl
theorem q896 : (Jvm.Cond.privateMethod ({ cls := "LatestCoat$Town", name := "holder", desc := "(II)I" } : Jvm.MethodName)) ∈ lw_tbl := lw_at lw_m4 48 rfl
theorem q897 : (Jvm.Cond.instanceMethod ({ cls := "LatestCoat$Town", name := "holder", desc := "(II)I" } : Jvm.MethodName)) ∈ lw_all := lw_g (lw_at lw_m4 49 rfl) rfl
theorem q898 : (Jvm.Cond.code ({ cls := "LatestCoat$Town", name := "holder", desc := "(II)I" } : Jvm.MethodName) prog_13_method_13_code (6 : Nat) (Option.some Jvm.ClassFile.FieldType.int)) ∈ lw_all := lw_g (lw_at lw_m4 50 rfl) rfl
theorem q913 : (Jvm.Cond.instanceMethod ({ cls := "LatestCoat$Town", name := "isRain", desc := "(I)Z" } : Jvm.MethodName)) ∈ lw_all := lw_g (lw_at lw_m4 65 rfl) rfl
theorem q914 : (Jvm.Cond.selects "LatestCoat$Town" ({ cls := "LatestCoat$Town", name := "isRain", desc := "(I)Z" } : Jvm.MethodName) ({ cls := "LatestCoat$Town", name := "isRain", desc := "(I)Z" } : Jvm.MethodName)) ∈ lw_all := lw_g (lw_at lw_m4 66 rfl) rfl
theorem q915 : (Jvm.Cond.code ({ cls := "LatestCoat$Town", name := "isRain", desc := "(I)Z" } : Jvm.MethodName) prog_13_method_7_code (3 : Nat) (Option.some Jvm.ClassFile.FieldType.boolean)) ∈ lw_all := lw_g (lw_at lw_m4 67 rfl) rfl
theorem q921 : (Jvm.Cond.instanceMethod ({ cls := "LatestCoat$Town", name := "takes", desc := "(I)V" } : Jvm.MethodName)) ∈ lw_all := lw_g (lw_at lw_m4 73 rfl) rfl
theorem q922 : (Jvm.Cond.selects "LatestCoat$Town" ({ cls := "LatestCoat$Town", name := "takes", desc := "(I)V" } : Jvm.MethodName) ({ cls := "LatestCoat$Town", name := "takes", desc := "(I)V" } : Jvm.MethodName)) ∈ lw_all := lw_g (lw_at lw_m4 74 rfl) rfl
theorem q923 : (Jvm.Cond.code ({ cls := "LatestCoat$Town", name := "takes", desc := "(I)V" } : Jvm.MethodName) prog_13_method_5_code (3 : Nat) (Option.none : Option Jvm.ClassFile.FieldType)) ∈ lw_all := lw_g (lw_at lw_m4 75 rfl) rfl
theorem q934 : (Jvm.Cond.instanceMethod ({ cls := "LatestCoat$Town", name := "lays", desc := "(I)V" } : Jvm.MethodName)) ∈ lw_all := lw_g (lw_at lw_m4 86 rfl) rfl
theorem q935 : (Jvm.Cond.selects "LatestCoat$Town" ({ cls := "LatestCoat$Town", name := "lays", desc := "(I)V" } : Jvm.MethodName) ({ cls := "LatestCoat$Town", name := "lays", desc := "(I)V" } : Jvm.MethodName)) ∈ lw_all := lw_g (lw_at lw_m4 87 rfl) rfl
theorem q936 : (Jvm.Cond.code ({ cls := "LatestCoat$Town", name := "lays", desc := "(I)V" } : Jvm.MethodName) prog_13_method_4_code (3 : Nat) (Option.none : Option Jvm.ClassFile.FieldType)) ∈ lw_all := lw_g (lw_at lw_m4 88 rfl) rfl
theorem q942 : (Jvm.Cond.instanceMethod ({ cls := "LatestCoat$Town", name := "passes", desc := "(LLatestCoat$Rule;[I)I" } : Jvm.MethodName)) ∈ lw_all := lw_g (lw_at lw_m4 94 rfl) rfl
theorem q943 : (Jvm.Cond.selects "LatestCoat$Town" ({ cls := "LatestCoat$Town", name := "passes", desc := "(LLatestCoat$Rule;[I)I" } : Jvm.MethodName) ({ cls := "LatestCoat$Town", name := "passes", desc := "(LLatestCoat$Rule;[I)I" } : Jvm.MethodName)) ∈ lw_all := lw_g (lw_at lw_m4 95 rfl) rfl
theorem q944 : (Jvm.Cond.code ({ cls := "LatestCoat$Town", name := "passes", desc := "(LLatestCoat$Rule;[I)I" } : Jvm.MethodName) prog_13_method_25_code (6 : Nat) (Option.some Jvm.ClassFile.FieldType.int)) ∈ lw_all := lw_g (lw_at lw_m4 96 rfl) rfl
theorem q945 : (Jvm.Cond.methodLink "LatestCoat$Town" (183 : Nat) ({ cls := "LatestCoat$Town", name := "cellBy", desc := "(ILLatestCoat$Rule;)I" } : Jvm.MethodName)) ∈ lw_all := lw_g (lw_at lw_m4 97 rfl) rfl
theorem q946 : (Jvm.Cond.privateMethod ({ cls := "LatestCoat$Town", name := "cellBy", desc := "(ILLatestCoat$Rule;)I" } : Jvm.MethodName)) ∈ lw_tbl := lw_at lw_m4 98 rfl
theorem q947 : (Jvm.Cond.instanceMethod ({ cls := "LatestCoat$Town", name := "cellBy", desc := "(ILLatestCoat$Rule;)I" } : Jvm.MethodName)) ∈ lw_all := lw_g (lw_at lw_m4 99 rfl) rfl
theorem q948 : (Jvm.Cond.code ({ cls := "LatestCoat$Town", name := "cellBy", desc := "(ILLatestCoat$Rule;)I" } : Jvm.MethodName) prog_13_method_21_code (9 : Nat) (Option.some Jvm.ClassFile.FieldType.int)) ∈ lw_all := lw_g (lw_at lw_m4 100 rfl) rfl
theorem q949 : (Jvm.Cond.methodLink "LatestCoat$Town" (158 : Nat) ({ cls := "LatestCoat$Town", name := "canPaint", desc := "(II)Z" } : Jvm.MethodName)) ∈ lw_all := lw_g (lw_at lw_m4 101 rfl) rfl
theorem q950 : (Jvm.Cond.instanceMethod ({ cls := "LatestCoat$Town", name := "canPaint", desc := "(II)Z" } : Jvm.MethodName)) ∈ lw_all := lw_g (lw_at lw_m4 102 rfl) rfl
theorem q951 : (Jvm.Cond.selects "LatestCoat$Town" ({ cls := "LatestCoat$Town", name := "canPaint", desc := "(II)Z" } : Jvm.MethodName) ({ cls := "LatestCoat$Town", name := "canPaint", desc := "(II)Z" } : Jvm.MethodName)) ∈ lw_all := lw_g (lw_at lw_m4 103 rfl) rfl
theorem q952 : (Jvm.Cond.code ({ cls := "LatestCoat$Town", name := "canPaint", desc := "(II)Z" } : Jvm.MethodName) prog_13_method_18_code (3 : Nat) (Option.some Jvm.ClassFile.FieldType.boolean)) ∈ lw_all := lw_g (lw_at lw_m4 104 rfl) rfl
theorem q953 : (Jvm.Cond.methodLink "LatestCoat$Town" (135 : Nat) ({ cls := "LatestCoat$Town", name := "isBareCell", desc := "(I)Z" } : Jvm.MethodName)) ∈ lw_all := lw_g (lw_at lw_m4 105 rfl) rfl
theorem q954 : (Jvm.Cond.instanceMethod ({ cls := "LatestCoat$Town", name := "isBareCell", desc := "(I)Z" } : Jvm.MethodName)) ∈ lw_all := lw_g (lw_at lw_m4 106 rfl) rfl
theorem q955 : (Jvm.Cond.selects "LatestCoat$Town" ({ cls := "LatestCoat$Town", name := "isBareCell", desc := "(I)Z" } : Jvm.MethodName) ({ cls := "LatestCoat$Town", name := "isBareCell", desc := "(I)Z" } : Jvm.MethodName)) ∈ lw_all := lw_g (lw_at lw_m4 107 rfl) rfl
theorem q956 : (Jvm.Cond.code ({ cls := "LatestCoat$Town", name := "isBareCell", desc := "(I)Z" } : Jvm.MethodName) prog_13_method_8_code (2 : Nat) (Option.some Jvm.ClassFile.FieldType.boolean)) ∈ lw_all := lw_g (lw_at lw_m4 108 rfl) rfl
theorem q957 : (Jvm.Cond.methodLink "LatestCoat$Town" (161 : Nat) ({ cls := "LatestCoat$Town", name := "fillsWords", desc := "(II)V" } : Jvm.MethodName)) ∈ lw_all := lw_g (lw_at lw_m4 109 rfl) rfl
theorem q958 : (Jvm.Cond.privateMethod ({ cls := "LatestCoat$Town", name := "fillsWords", desc := "(II)V" } : Jvm.MethodName)) ∈ lw_tbl := lw_at lw_m4 110 rfl
theorem q959 : (Jvm.Cond.instanceMethod ({ cls := "LatestCoat$Town", name := "fillsWords", desc := "(II)V" } : Jvm.MethodName)) ∈ lw_all := lw_g (lw_at lw_m4 111 rfl) rfl
theorem q960 : (Jvm.Cond.code ({ cls := "LatestCoat$Town", name := "fillsWords", desc := "(II)V" } : Jvm.MethodName) prog_13_method_20_code (4 : Nat) (Option.none : Option Jvm.ClassFile.FieldType)) ∈ lw_all := lw_g (lw_at lw_m4 112 rfl) rfl
theorem q961 : (Jvm.Cond.methodLink "LatestCoat$Town" (143 : Nat) ({ cls := "LatestCoat$Town", name := "top", desc := "(I)I" } : Jvm.MethodName)) ∈ lw_all := lw_g (lw_at lw_m4 113 rfl) rfl
theorem q962 : (Jvm.Cond.methodLink "LatestCoat$Town" (146 : Nat) ({ cls := "LatestCoat$Town", name := "isWet", desc := "(I)Z" } : Jvm.MethodName)) ∈ lw_all := lw_g (lw_at lw_m4 114 rfl) rfl
theorem q963 : (Jvm.Cond.methodLink "LatestCoat$Town" (131 : Nat) ({ cls := "LatestCoat$Town", name := "ownerOf", desc := "(I)I" } : Jvm.MethodName)) ∈ lw_all := lw_g (lw_at lw_m4 115 rfl) rfl
theorem q964 : (Jvm.Cond.methodLink "LatestCoat$Town" (149 : Nat) ({ cls := "LatestCoat$Town", name := "cellsOf", desc := "(II)I" } : Jvm.MethodName)) ∈ lw_all := lw_g (lw_at lw_m4 116 rfl) rfl
theorem q965 : (Jvm.Cond.instanceMethod ({ cls := "LatestCoat$Town", name := "cellsOf", desc := "(II)I" } : Jvm.MethodName)) ∈ lw_all := lw_g (lw_at lw_m4 117 rfl) rfl
theorem q966 : (Jvm.Cond.selects "LatestCoat$Town" ({ cls := "LatestCoat$Town", name := "cellsOf", desc := "(II)I" } : Jvm.MethodName) ({ cls := "LatestCoat$Town", name := "cellsOf", desc := "(II)I" } : Jvm.MethodName)) ∈ lw_all := lw_g (lw_at lw_m4 118 rfl) rfl
theorem q967 : (Jvm.Cond.code ({ cls := "LatestCoat$Town", name := "cellsOf", desc := "(II)I" } : Jvm.MethodName) prog_13_method_16_code (5 : Nat) (Option.some Jvm.ClassFile.FieldType.int)) ∈ lw_all := lw_g (lw_at lw_m4 119 rfl) rfl
theorem q968 : (Jvm.Cond.methodLink "LatestCoat$Town" (152 : Nat) ({ cls := "LatestCoat$Town", name := "whose", desc := "(I)I" } : Jvm.MethodName)) ∈ lw_all := lw_g (lw_at lw_m4 120 rfl) rfl
theorem q969 : (Jvm.Cond.methodLink "LatestCoat$Town" (155 : Nat) ({ cls := "LatestCoat$Town", name := "isRain", desc := "(I)Z" } : Jvm.MethodName)) ∈ lw_all := lw_g (lw_at lw_m4 121 rfl) rfl
theorem q970 : (Jvm.Cond.methodLink "LatestCoat$Town" (165 : Nat) ({ cls := "LatestCoat$Rule", name := "summed", desc := "([J)J" } : Jvm.MethodName)) ∈ lw_all := lw_g (lw_at lw_m4 122 rfl) rfl
theorem q1006 : (Jvm.Cond.methodLink "LatestCoat$Town" (187 : Nat) ({ cls := "LatestCoat$Town", name := "paints", desc := "(II)V" } : Jvm.MethodName)) ∈ lw_all := lw_g (lw_at lw_m4 158 rfl) rfl
theorem q1007 : (Jvm.Cond.instanceMethod ({ cls := "LatestCoat$Town", name := "paints", desc := "(II)V" } : Jvm.MethodName)) ∈ lw_all := lw_g (lw_at lw_m4 159 rfl) rfl
theorem q1008 : (Jvm.Cond.selects "LatestCoat$Town" ({ cls := "LatestCoat$Town", name := "paints", desc := "(II)V" } : Jvm.MethodName) ({ cls := "LatestCoat$Town", name := "paints", desc := "(II)V" } : Jvm.MethodName)) ∈ lw_all := lw_g (lw_at lw_m4 160 rfl) rfl
theorem q1009 : (Jvm.Cond.code ({ cls := "LatestCoat$Town", name := "paints", desc := "(II)V" } : Jvm.MethodName) prog_13_method_19_code (3 : Nat) (Option.none : Option Jvm.ClassFile.FieldType)) ∈ lw_all := lw_g (lw_at lw_m4 161 rfl) rfl
theorem q1010 : (Jvm.Cond.methodLink "LatestCoat$Town" (139 : Nat) ({ cls := "LatestCoat$Town", name := "putsCoat", desc := "(III)V" } : Jvm.MethodName)) ∈ lw_all := lw_g (lw_at lw_m4 162 rfl) rfl
theorem q1011 : (Jvm.Cond.instanceMethod ({ cls := "LatestCoat$Town", name := "putsCoat", desc := "(III)V" } : Jvm.MethodName)) ∈ lw_all := lw_g (lw_at lw_m4 163 rfl) rfl
theorem q1012 : (Jvm.Cond.selects "LatestCoat$Town" ({ cls := "LatestCoat$Town", name := "putsCoat", desc := "(III)V" } : Jvm.MethodName) ({ cls := "LatestCoat$Town", name := "putsCoat", desc := "(III)V" } : Jvm.MethodName)) ∈ lw_all := lw_g (lw_at lw_m4 164 rfl) rfl
theorem q1013 : (Jvm.Cond.code ({ cls := "LatestCoat$Town", name := "putsCoat", desc := "(III)V" } : Jvm.MethodName) prog_13_method_17_code (6 : Nat) (Option.none : Option Jvm.ClassFile.FieldType)) ∈ lw_all := lw_g (lw_at lw_m4 165 rfl) rfl
theorem q1014 : (Jvm.Cond.methodLink "LatestCoat$Town" (190 : Nat) ({ cls := "LatestCoat$Town", name := "closes", desc := "([I)V" } : Jvm.MethodName)) ∈ lw_all := lw_g (lw_at lw_m4 166 rfl) rfl
theorem q1015 : (Jvm.Cond.instanceMethod ({ cls := "LatestCoat$Town", name := "closes", desc := "([I)V" } : Jvm.MethodName)) ∈ lw_all := lw_g (lw_at lw_m4 167 rfl) rfl
theorem q1016 : (Jvm.Cond.selects "LatestCoat$Town" ({ cls := "LatestCoat$Town", name := "closes", desc := "([I)V" } : Jvm.MethodName) ({ cls := "LatestCoat$Town", name := "closes", desc := "([I)V" } : Jvm.MethodName)) ∈ lw_all := lw_g (lw_at lw_m4 168 rfl) rfl
theorem q1017 : (Jvm.Cond.code ({ cls := "LatestCoat$Town", name := "closes", desc := "([I)V" } : Jvm.MethodName) prog_13_method_24_code (2 : Nat) (Option.none : Option Jvm.ClassFile.FieldType)) ∈ lw_all := lw_g (lw_at lw_m4 169 rfl) rfl
theorem q1018 : (Jvm.Cond.methodLink "LatestCoat$Town" (176 : Nat) ({ cls := "LatestCoat$Town", name := "washes", desc := "()V" } : Jvm.MethodName)) ∈ lw_all := lw_g (lw_at lw_m4 170 rfl) rfl
theorem q1019 : (Jvm.Cond.instanceMethod ({ cls := "LatestCoat$Town", name := "washes", desc := "()V" } : Jvm.MethodName)) ∈ lw_all := lw_g (lw_at lw_m4 171 rfl) rfl
theorem q1020 : (Jvm.Cond.selects "LatestCoat$Town" ({ cls := "LatestCoat$Town", name := "washes", desc := "()V" } : Jvm.MethodName) ({ cls := "LatestCoat$Town", name := "washes", desc := "()V" } : Jvm.MethodName)) ∈ lw_all := lw_g (lw_at lw_m4 172 rfl) rfl
theorem q1021 : (Jvm.Cond.code ({ cls := "LatestCoat$Town", name := "washes", desc := "()V" } : Jvm.MethodName) prog_13_method_22_code (2 : Nat) (Option.none : Option Jvm.ClassFile.FieldType)) ∈ lw_all := lw_g (lw_at lw_m4 173 rfl) rfl
theorem q1022 : (Jvm.Cond.methodLink "LatestCoat$Town" (179 : Nat) ({ cls := "LatestCoat$Town", name := "paysRents", desc := "([I)V" } : Jvm.MethodName)) ∈ lw_all := lw_g (lw_at lw_m4 174 rfl) rfl
theorem q1023 : (Jvm.Cond.privateMethod ({ cls := "LatestCoat$Town", name := "paysRents", desc := "([I)V" } : Jvm.MethodName)) ∈ lw_tbl := lw_at lw_m4 175 rfl
theorem q1024 : (Jvm.Cond.instanceMethod ({ cls := "LatestCoat$Town", name := "paysRents", desc := "([I)V" } : Jvm.MethodName)) ∈ lw_all := lw_g (lw_at lw_m4 176 rfl) rfl
theorem q1025 : (Jvm.Cond.code ({ cls := "LatestCoat$Town", name := "paysRents", desc := "([I)V" } : Jvm.MethodName) prog_13_method_23_code (4 : Nat) (Option.none : Option Jvm.ClassFile.FieldType)) ∈ lw_all := lw_g (lw_at lw_m4 177 rfl) rfl
theorem q1026 : (Jvm.Cond.methodLink "LatestCoat$Town" (171 : Nat) ({ cls := "java/lang/Math", name := "min", desc := "(II)I" } : Jvm.MethodName)) ∈ lw_all := lw_g (lw_at lw_m4 178 rfl) rfl
theorem q1042 : (Jvm.Cond.instanceMethod ({ cls := "LatestCoat$Town", name := "bares", desc := "(I)I" } : Jvm.MethodName)) ∈ lw_all := lw_g (lw_at lw_m4 194 rfl) rfl
theorem q1043 : (Jvm.Cond.selects "LatestCoat$Town" ({ cls := "LatestCoat$Town", name := "bares", desc := "(I)I" } : Jvm.MethodName) ({ cls := "LatestCoat$Town", name := "bares", desc := "(I)I" } : Jvm.MethodName)) ∈ lw_all := lw_g (lw_at lw_m4 195 rfl) rfl
theorem q1044 : (Jvm.Cond.code ({ cls := "LatestCoat$Town", name := "bares", desc := "(I)I" } : Jvm.MethodName) prog_13_method_26_code (4 : Nat) (Option.some Jvm.ClassFile.FieldType.int)) ∈ lw_all := lw_g (lw_at lw_m4 196 rfl) rfl
theorem q1131 : (Jvm.Cond.instanceMethod ({ cls := "LatestCoat$Town", name := "isOneColour", desc := "()Z" } : Jvm.MethodName)) ∈ lw_all := lw_g (lw_at lw_m5 43 rfl) rfl
theorem q1132 : (Jvm.Cond.selects "LatestCoat$Town" ({ cls := "LatestCoat$Town", name := "isOneColour", desc := "()Z" } : Jvm.MethodName) ({ cls := "LatestCoat$Town", name := "isOneColour", desc := "()Z" } : Jvm.MethodName)) ∈ lw_all := lw_g (lw_at lw_m5 44 rfl) rfl
theorem q1133 : (Jvm.Cond.code ({ cls := "LatestCoat$Town", name := "isOneColour", desc := "()Z" } : Jvm.MethodName) prog_13_method_27_code (3 : Nat) (Option.some Jvm.ClassFile.FieldType.boolean)) ∈ lw_all := lw_g (lw_at lw_m5 45 rfl) rfl
theorem in_X1 : ∀ w ∈ wsX10, w ∈ lw_all := lw_in wsX10 [239, 241, 243, 245, 247, 249, 251, 253, 255, 257, 259, 261, 263, 265, 267, 269, 271, 273, 275, 277, 279, 281, 283, 285, 287, 289, 291, 293, 295, 297] (by decide +kernel) (by decide +kernel)
/-! LatestCoat -/
set_option maxRecDepth 100000
def RX0 : String := "LatestCoat"
def TX0 : u_T := fun k => match k with
  | 0 => ("LatestCoat", "town", "LLatestCoat$Town;", false)
  | 1 => ("LatestCoat", "own", "LLatestCoat$Town;", true)
  | 2 => ("LatestCoat", "spare", "LLatestCoat$Town;", true)
  | 3 => ("LatestCoat", "turn", "[LLatestCoat$Town;", true)
  | 4 => ("LatestCoat", "reading", "LLatestCoat$Town;", true)
  | 5 => ("LatestCoat", "blank", "LLatestCoat$Town;", true)
  | 6 => ("LatestCoat", "got", "[I", true)
  | 7 => ("LatestCoat", "x", "I", false)
  | 8 => ("LatestCoat", "inForce", "I", false)
  | 9 => ("LatestCoat", "fault", "LLatestCoat$Fault;", true)
  | 10 => ("LatestCoat", "tape", "[B", true)
  | 11 => ("LatestCoat", "taped", "I", false)
  | 12 => ("LatestCoat", "lineWords", "[Ljava/lang/String;", true)
  | 13 => ("LatestCoat", "clauseWords", "[Ljava/lang/String;", true)
  | 14 => ("LatestCoat", "wordNames", "[Ljava/lang/String;", true)
  | 15 => ("LatestCoat", "rules", "[LLatestCoat$Rule;", true)
  | 16 => ("LatestCoat", "ruleMany", "I", false)
  | 17 => ("LatestCoat", "row", "[I", true)
  | 18 => ("LatestCoat", "bestRow", "[I", true)
  | 19 => ("LatestCoat", "bestMany", "I", false)
  | 20 => ("LatestCoat", "firstCell", "I", false)
  | 21 => ("LatestCoat", "isFit", "[Z", true)
  | 22 => ("LatestCoat", "whoThen", "[I", true)
  | 23 => ("LatestCoat", "drawX", "I", false)
  | _ => ("LatestCoat", "images", "[LLatestCoat$Image;", true)
def tyX0 : Nat → FieldType := fun k => match k with
  | 0 => .object "LatestCoat$Town"
  | 1 => .object "LatestCoat$Town"
  | 2 => .object "LatestCoat$Town"
  | 3 => .array (.object "LatestCoat$Town")
  | 4 => .object "LatestCoat$Town"
  | 5 => .object "LatestCoat$Town"
  | 6 => .array .int
  | 7 => .int
  | 8 => .int
  | 9 => .object "LatestCoat$Fault"
  | 10 => .array .byte
  | 11 => .int
  | 12 => .array (.object "java/lang/String")
  | 13 => .array (.object "java/lang/String")
  | 14 => .array (.object "java/lang/String")
  | 15 => .array (.object "LatestCoat$Rule")
  | 16 => .int
  | 17 => .array .int
  | 18 => .array .int
  | 19 => .int
  | 20 => .int
  | 21 => .array .boolean
  | 22 => .array .int
  | 23 => .int
  | _ => .array (.object "LatestCoat$Image")
abbrev wsX00 : List Cond := u_ws RX0 TX0 25
set_option maxRecDepth 100000 in
theorem nmX0 : ∀ a, a < 25 → ∀ b, b < 25 → a ≠ b → (TX0 a).2.1 ≠ (TX0 b).2.1 := by decide +kernel
set_option maxRecDepth 100000 in
theorem tyX0_ok : ∀ k, k < 25 → parseFieldDescriptor (TX0 k).2.2.1 = some (tyX0 k) := by decide +kernel
abbrev cX0_init : ByteArray := prog_1_method_3_code
def yX0_init : MethodName := ⟨RX0, "<init>", "()V"⟩
def dkwX0_init_13 : List UInt8 := [181, 0, 110, 42, 16, 28, 188, 10, 181, 0, 114, 42, 7, 189, 0, 117, 181, 0, 119, 177]
abbrev dktX0_init_13 : List UInt8 := dkwX0_init_13 ++ []
def dkwX0_init_12 : List UInt8 := [181, 0, 100, 42, 16, 6, 188, 10, 181, 0, 104, 42, 16, 6, 188, 10, 181, 0, 107, 42, 16, 7, 188, 4]
abbrev dktX0_init_12 : List UInt8 := dkwX0_init_12 ++ dktX0_init_13
def dkwX0_init_11 : List UInt8 := [83, 89, 16, 11, 18, 93, 83, 89, 16, 12, 18, 62, 83, 181, 0, 95, 42, 16, 6, 189, 0, 98]
abbrev dktX0_init_11 : List UInt8 := dkwX0_init_11 ++ dktX0_init_12
def dkwX0_init_10 : List UInt8 := [83, 89, 16, 7, 18, 85, 83, 89, 16, 8, 18, 87, 83, 89, 16, 9, 18, 89, 83, 89, 16, 10, 18, 91]
abbrev dktX0_init_10 : List UInt8 := dkwX0_init_10 ++ dktX0_init_11
def dkwX0_init_9 : List UInt8 := [5, 18, 54, 83, 89, 6, 18, 77, 83, 89, 7, 18, 79, 83, 89, 8, 18, 81, 83, 89, 16, 6, 18, 83]
abbrev dktX0_init_9 : List UInt8 := dkwX0_init_9 ++ dktX0_init_10
def dkwX0_init_8 : List UInt8 := [3, 18, 70, 83, 181, 0, 72, 42, 16, 13, 189, 0, 50, 89, 3, 18, 56, 83, 89, 4, 18, 75, 83, 89]
abbrev dktX0_init_8 : List UInt8 := dkwX0_init_8 ++ dktX0_init_9
def dkwX0_init_7 : List UInt8 := [7, 18, 60, 83, 89, 8, 18, 62, 83, 89, 16, 6, 18, 64, 83, 181, 0, 66, 42, 4, 189, 0, 50, 89]
abbrev dktX0_init_7 : List UInt8 := dkwX0_init_7 ++ dktX0_init_8
def dkwX0_init_6 : List UInt8 := [189, 0, 50, 89, 3, 18, 52, 83, 89, 4, 18, 54, 83, 89, 5, 18, 56, 83, 89, 6, 18, 58, 83, 89]
abbrev dktX0_init_6 : List UInt8 := dkwX0_init_6 ++ dktX0_init_7
def dkwX0_init_5 : List UInt8 := [187, 0, 39, 89, 183, 0, 41, 181, 0, 42, 42, 17, 1, 144, 188, 8, 181, 0, 46, 42, 16, 7]
abbrev dktX0_init_5 : List UInt8 := dkwX0_init_5 ++ dktX0_init_6
def dkwX0_init_4 : List UInt8 := [42, 187, 0, 9, 89, 183, 0, 11, 181, 0, 28, 42, 7, 188, 10, 181, 0, 31, 42, 2, 181, 0, 35, 42]
abbrev dktX0_init_4 : List UInt8 := dkwX0_init_4 ++ dktX0_init_5
def dkwX0_init_3 : List UInt8 := [89, 7, 187, 0, 9, 89, 183, 0, 11, 83, 181, 0, 21, 42, 187, 0, 9, 89, 183, 0, 11, 181, 0, 25]
abbrev dktX0_init_3 : List UInt8 := dkwX0_init_3 ++ dktX0_init_4
def dkwX0_init_2 : List UInt8 := [183, 0, 11, 83, 89, 5, 187, 0, 9, 89, 183, 0, 11, 83, 89, 6, 187, 0, 9, 89, 183, 0, 11, 83]
abbrev dktX0_init_2 : List UInt8 := dkwX0_init_2 ++ dktX0_init_3
def dkwX0_init_1 : List UInt8 := [181, 0, 18, 42, 8, 189, 0, 9, 89, 3, 187, 0, 9, 89, 183, 0, 11, 83, 89, 4, 187, 0, 9, 89]
abbrev dktX0_init_1 : List UInt8 := dkwX0_init_1 ++ dktX0_init_2
def dkwX0_init_0 : List UInt8 := [42, 183, 0, 3, 42, 187, 0, 9, 89, 183, 0, 11, 181, 0, 12, 42, 187, 0, 9, 89, 183, 0, 11]
abbrev dktX0_init_0 : List UInt8 := dkwX0_init_0 ++ dktX0_init_1
theorem dksX0_init_0 : cX0_init.data.toList.drop 0 = dktX0_init_0 := by decide +kernel
theorem dksX0_init_1 : cX0_init.data.toList.drop 23 = dktX0_init_1 := dk_seg dksX0_init_0 23 rfl rfl
theorem dksX0_init_2 : cX0_init.data.toList.drop 47 = dktX0_init_2 := dk_seg dksX0_init_1 24 rfl rfl
theorem dksX0_init_3 : cX0_init.data.toList.drop 71 = dktX0_init_3 := dk_seg dksX0_init_2 24 rfl rfl
theorem dksX0_init_4 : cX0_init.data.toList.drop 95 = dktX0_init_4 := dk_seg dksX0_init_3 24 rfl rfl
theorem dksX0_init_5 : cX0_init.data.toList.drop 119 = dktX0_init_5 := dk_seg dksX0_init_4 24 rfl rfl
theorem dksX0_init_6 : cX0_init.data.toList.drop 141 = dktX0_init_6 := dk_seg dksX0_init_5 22 rfl rfl
theorem dksX0_init_7 : cX0_init.data.toList.drop 165 = dktX0_init_7 := dk_seg dksX0_init_6 24 rfl rfl
theorem dksX0_init_8 : cX0_init.data.toList.drop 189 = dktX0_init_8 := dk_seg dksX0_init_7 24 rfl rfl
theorem dksX0_init_9 : cX0_init.data.toList.drop 213 = dktX0_init_9 := dk_seg dksX0_init_8 24 rfl rfl
theorem dksX0_init_10 : cX0_init.data.toList.drop 237 = dktX0_init_10 := dk_seg dksX0_init_9 24 rfl rfl
theorem dksX0_init_11 : cX0_init.data.toList.drop 261 = dktX0_init_11 := dk_seg dksX0_init_10 24 rfl rfl
theorem dksX0_init_12 : cX0_init.data.toList.drop 283 = dktX0_init_12 := dk_seg dksX0_init_11 22 rfl rfl
theorem dksX0_init_13 : cX0_init.data.toList.drop 307 = dktX0_init_13 := dk_seg dksX0_init_12 24 rfl rfl
theorem dX0_init_0 : decode cX0_init 0 = .ok (.aload_n 0, 1) := dk_42 (dk_at dksX0_init_0 0 rfl rfl)
theorem dX0_init_1 : decode cX0_init 1 = .ok (.invokespecial 3, 3) := dk_183 0 3 (dk_at dksX0_init_0 1 rfl rfl)
theorem dX0_init_4 : decode cX0_init 4 = .ok (.aload_n 0, 1) := dk_42 (dk_at dksX0_init_0 4 rfl rfl)
theorem dX0_init_5 : decode cX0_init 5 = .ok (.new 9, 3) := dk_187 0 9 (dk_at dksX0_init_0 5 rfl rfl)
theorem dX0_init_8 : decode cX0_init 8 = .ok (.dup, 1) := dk_89 (dk_at dksX0_init_0 8 rfl rfl)
theorem dX0_init_9 : decode cX0_init 9 = .ok (.invokespecial 11, 3) := dk_183 0 11 (dk_at dksX0_init_0 9 rfl rfl)
theorem dX0_init_12 : decode cX0_init 12 = .ok (.putfield 12, 3) := dk_181 0 12 (dk_at dksX0_init_0 12 rfl rfl)
theorem dX0_init_15 : decode cX0_init 15 = .ok (.aload_n 0, 1) := dk_42 (dk_at dksX0_init_0 15 rfl rfl)
theorem dX0_init_16 : decode cX0_init 16 = .ok (.new 9, 3) := dk_187 0 9 (dk_at dksX0_init_0 16 rfl rfl)
theorem dX0_init_19 : decode cX0_init 19 = .ok (.dup, 1) := dk_89 (dk_at dksX0_init_0 19 rfl rfl)
theorem dX0_init_20 : decode cX0_init 20 = .ok (.invokespecial 11, 3) := dk_183 0 11 (dk_at dksX0_init_0 20 rfl rfl)
theorem dX0_init_23 : decode cX0_init 23 = .ok (.putfield 18, 3) := dk_181 0 18 (dk_at dksX0_init_1 0 rfl rfl)
theorem dX0_init_26 : decode cX0_init 26 = .ok (.aload_n 0, 1) := dk_42 (dk_at dksX0_init_1 3 rfl rfl)
theorem dX0_init_27 : decode cX0_init 27 = .ok (.iconst 5, 1) := dk_8 (dk_at dksX0_init_1 4 rfl rfl)
theorem dX0_init_28 : decode cX0_init 28 = .ok (.anewarray 9, 3) := dk_189 0 9 (dk_at dksX0_init_1 5 rfl rfl)
theorem dX0_init_31 : decode cX0_init 31 = .ok (.dup, 1) := dk_89 (dk_at dksX0_init_1 8 rfl rfl)
theorem dX0_init_32 : decode cX0_init 32 = .ok (.iconst 0, 1) := dk_3 (dk_at dksX0_init_1 9 rfl rfl)
theorem dX0_init_33 : decode cX0_init 33 = .ok (.new 9, 3) := dk_187 0 9 (dk_at dksX0_init_1 10 rfl rfl)
theorem dX0_init_36 : decode cX0_init 36 = .ok (.dup, 1) := dk_89 (dk_at dksX0_init_1 13 rfl rfl)
theorem dX0_init_37 : decode cX0_init 37 = .ok (.invokespecial 11, 3) := dk_183 0 11 (dk_at dksX0_init_1 14 rfl rfl)
theorem dX0_init_40 : decode cX0_init 40 = .ok (.aastore, 1) := dk_83 (dk_at dksX0_init_1 17 rfl rfl)
theorem dX0_init_41 : decode cX0_init 41 = .ok (.dup, 1) := dk_89 (dk_at dksX0_init_1 18 rfl rfl)
theorem dX0_init_42 : decode cX0_init 42 = .ok (.iconst 1, 1) := dk_4 (dk_at dksX0_init_1 19 rfl rfl)
theorem dX0_init_43 : decode cX0_init 43 = .ok (.new 9, 3) := dk_187 0 9 (dk_at dksX0_init_1 20 rfl rfl)
theorem dX0_init_46 : decode cX0_init 46 = .ok (.dup, 1) := dk_89 (dk_at dksX0_init_1 23 rfl rfl)
theorem dX0_init_47 : decode cX0_init 47 = .ok (.invokespecial 11, 3) := dk_183 0 11 (dk_at dksX0_init_2 0 rfl rfl)
theorem dX0_init_50 : decode cX0_init 50 = .ok (.aastore, 1) := dk_83 (dk_at dksX0_init_2 3 rfl rfl)
theorem dX0_init_51 : decode cX0_init 51 = .ok (.dup, 1) := dk_89 (dk_at dksX0_init_2 4 rfl rfl)
theorem dX0_init_52 : decode cX0_init 52 = .ok (.iconst 2, 1) := dk_5 (dk_at dksX0_init_2 5 rfl rfl)
theorem dX0_init_53 : decode cX0_init 53 = .ok (.new 9, 3) := dk_187 0 9 (dk_at dksX0_init_2 6 rfl rfl)
theorem dX0_init_56 : decode cX0_init 56 = .ok (.dup, 1) := dk_89 (dk_at dksX0_init_2 9 rfl rfl)
theorem dX0_init_57 : decode cX0_init 57 = .ok (.invokespecial 11, 3) := dk_183 0 11 (dk_at dksX0_init_2 10 rfl rfl)
theorem dX0_init_60 : decode cX0_init 60 = .ok (.aastore, 1) := dk_83 (dk_at dksX0_init_2 13 rfl rfl)
theorem dX0_init_61 : decode cX0_init 61 = .ok (.dup, 1) := dk_89 (dk_at dksX0_init_2 14 rfl rfl)
theorem dX0_init_62 : decode cX0_init 62 = .ok (.iconst 3, 1) := dk_6 (dk_at dksX0_init_2 15 rfl rfl)
theorem dX0_init_63 : decode cX0_init 63 = .ok (.new 9, 3) := dk_187 0 9 (dk_at dksX0_init_2 16 rfl rfl)
theorem dX0_init_66 : decode cX0_init 66 = .ok (.dup, 1) := dk_89 (dk_at dksX0_init_2 19 rfl rfl)
theorem dX0_init_67 : decode cX0_init 67 = .ok (.invokespecial 11, 3) := dk_183 0 11 (dk_at dksX0_init_2 20 rfl rfl)
theorem dX0_init_70 : decode cX0_init 70 = .ok (.aastore, 1) := dk_83 (dk_at dksX0_init_2 23 rfl rfl)
theorem dX0_init_71 : decode cX0_init 71 = .ok (.dup, 1) := dk_89 (dk_at dksX0_init_3 0 rfl rfl)
theorem dX0_init_72 : decode cX0_init 72 = .ok (.iconst 4, 1) := dk_7 (dk_at dksX0_init_3 1 rfl rfl)
theorem dX0_init_73 : decode cX0_init 73 = .ok (.new 9, 3) := dk_187 0 9 (dk_at dksX0_init_3 2 rfl rfl)
theorem dX0_init_76 : decode cX0_init 76 = .ok (.dup, 1) := dk_89 (dk_at dksX0_init_3 5 rfl rfl)
theorem dX0_init_77 : decode cX0_init 77 = .ok (.invokespecial 11, 3) := dk_183 0 11 (dk_at dksX0_init_3 6 rfl rfl)
theorem dX0_init_80 : decode cX0_init 80 = .ok (.aastore, 1) := dk_83 (dk_at dksX0_init_3 9 rfl rfl)
theorem dX0_init_81 : decode cX0_init 81 = .ok (.putfield 21, 3) := dk_181 0 21 (dk_at dksX0_init_3 10 rfl rfl)
theorem dX0_init_84 : decode cX0_init 84 = .ok (.aload_n 0, 1) := dk_42 (dk_at dksX0_init_3 13 rfl rfl)
theorem dX0_init_85 : decode cX0_init 85 = .ok (.new 9, 3) := dk_187 0 9 (dk_at dksX0_init_3 14 rfl rfl)
theorem dX0_init_88 : decode cX0_init 88 = .ok (.dup, 1) := dk_89 (dk_at dksX0_init_3 17 rfl rfl)
theorem dX0_init_89 : decode cX0_init 89 = .ok (.invokespecial 11, 3) := dk_183 0 11 (dk_at dksX0_init_3 18 rfl rfl)
theorem dX0_init_92 : decode cX0_init 92 = .ok (.putfield 25, 3) := dk_181 0 25 (dk_at dksX0_init_3 21 rfl rfl)
theorem dX0_init_95 : decode cX0_init 95 = .ok (.aload_n 0, 1) := dk_42 (dk_at dksX0_init_4 0 rfl rfl)
theorem dX0_init_96 : decode cX0_init 96 = .ok (.new 9, 3) := dk_187 0 9 (dk_at dksX0_init_4 1 rfl rfl)
theorem dX0_init_99 : decode cX0_init 99 = .ok (.dup, 1) := dk_89 (dk_at dksX0_init_4 4 rfl rfl)
theorem dX0_init_100 : decode cX0_init 100 = .ok (.invokespecial 11, 3) := dk_183 0 11 (dk_at dksX0_init_4 5 rfl rfl)
theorem dX0_init_103 : decode cX0_init 103 = .ok (.putfield 28, 3) := dk_181 0 28 (dk_at dksX0_init_4 8 rfl rfl)
theorem dX0_init_106 : decode cX0_init 106 = .ok (.aload_n 0, 1) := dk_42 (dk_at dksX0_init_4 11 rfl rfl)
theorem dX0_init_107 : decode cX0_init 107 = .ok (.iconst 4, 1) := dk_7 (dk_at dksX0_init_4 12 rfl rfl)
theorem dX0_init_108 : decode cX0_init 108 = .ok (.newarray .int, 2) := dk_188_10 (dk_at dksX0_init_4 13 rfl rfl)
theorem dX0_init_110 : decode cX0_init 110 = .ok (.putfield 31, 3) := dk_181 0 31 (dk_at dksX0_init_4 15 rfl rfl)
theorem dX0_init_113 : decode cX0_init 113 = .ok (.aload_n 0, 1) := dk_42 (dk_at dksX0_init_4 18 rfl rfl)
theorem dX0_init_114 : decode cX0_init 114 = .ok (.iconst (-1), 1) := dk_2 (dk_at dksX0_init_4 19 rfl rfl)
theorem dX0_init_115 : decode cX0_init 115 = .ok (.putfield 35, 3) := dk_181 0 35 (dk_at dksX0_init_4 20 rfl rfl)
theorem dX0_init_118 : decode cX0_init 118 = .ok (.aload_n 0, 1) := dk_42 (dk_at dksX0_init_4 23 rfl rfl)
theorem dX0_init_119 : decode cX0_init 119 = .ok (.new 39, 3) := dk_187 0 39 (dk_at dksX0_init_5 0 rfl rfl)
theorem dX0_init_122 : decode cX0_init 122 = .ok (.dup, 1) := dk_89 (dk_at dksX0_init_5 3 rfl rfl)
theorem dX0_init_123 : decode cX0_init 123 = .ok (.invokespecial 41, 3) := dk_183 0 41 (dk_at dksX0_init_5 4 rfl rfl)
theorem dX0_init_126 : decode cX0_init 126 = .ok (.putfield 42, 3) := dk_181 0 42 (dk_at dksX0_init_5 7 rfl rfl)
theorem dX0_init_129 : decode cX0_init 129 = .ok (.aload_n 0, 1) := dk_42 (dk_at dksX0_init_5 10 rfl rfl)
theorem dX0_init_130 : decode cX0_init 130 = .ok (.sipush 400, 3) := dk_17 1 144 (dk_at dksX0_init_5 11 rfl rfl)
theorem dX0_init_133 : decode cX0_init 133 = .ok (.newarray .byte, 2) := dk_188_8 (dk_at dksX0_init_5 14 rfl rfl)
theorem dX0_init_135 : decode cX0_init 135 = .ok (.putfield 46, 3) := dk_181 0 46 (dk_at dksX0_init_5 16 rfl rfl)
theorem dX0_init_138 : decode cX0_init 138 = .ok (.aload_n 0, 1) := dk_42 (dk_at dksX0_init_5 19 rfl rfl)
theorem dX0_init_139 : decode cX0_init 139 = .ok (.bipush 7, 2) := dk_16 7 (dk_at dksX0_init_5 20 rfl rfl)
theorem dX0_init_141 : decode cX0_init 141 = .ok (.anewarray 50, 3) := dk_189 0 50 (dk_at dksX0_init_6 0 rfl rfl)
theorem dX0_init_144 : decode cX0_init 144 = .ok (.dup, 1) := dk_89 (dk_at dksX0_init_6 3 rfl rfl)
theorem dX0_init_145 : decode cX0_init 145 = .ok (.iconst 0, 1) := dk_3 (dk_at dksX0_init_6 4 rfl rfl)
theorem dX0_init_146 : decode cX0_init 146 = .ok (.ldc 52, 2) := dk_18 52 (dk_at dksX0_init_6 5 rfl rfl)
theorem dX0_init_148 : decode cX0_init 148 = .ok (.aastore, 1) := dk_83 (dk_at dksX0_init_6 7 rfl rfl)
theorem dX0_init_149 : decode cX0_init 149 = .ok (.dup, 1) := dk_89 (dk_at dksX0_init_6 8 rfl rfl)
theorem dX0_init_150 : decode cX0_init 150 = .ok (.iconst 1, 1) := dk_4 (dk_at dksX0_init_6 9 rfl rfl)
theorem dX0_init_151 : decode cX0_init 151 = .ok (.ldc 54, 2) := dk_18 54 (dk_at dksX0_init_6 10 rfl rfl)
theorem dX0_init_153 : decode cX0_init 153 = .ok (.aastore, 1) := dk_83 (dk_at dksX0_init_6 12 rfl rfl)
theorem dX0_init_154 : decode cX0_init 154 = .ok (.dup, 1) := dk_89 (dk_at dksX0_init_6 13 rfl rfl)
theorem dX0_init_155 : decode cX0_init 155 = .ok (.iconst 2, 1) := dk_5 (dk_at dksX0_init_6 14 rfl rfl)
theorem dX0_init_156 : decode cX0_init 156 = .ok (.ldc 56, 2) := dk_18 56 (dk_at dksX0_init_6 15 rfl rfl)
theorem dX0_init_158 : decode cX0_init 158 = .ok (.aastore, 1) := dk_83 (dk_at dksX0_init_6 17 rfl rfl)
theorem dX0_init_159 : decode cX0_init 159 = .ok (.dup, 1) := dk_89 (dk_at dksX0_init_6 18 rfl rfl)
theorem dX0_init_160 : decode cX0_init 160 = .ok (.iconst 3, 1) := dk_6 (dk_at dksX0_init_6 19 rfl rfl)
theorem dX0_init_161 : decode cX0_init 161 = .ok (.ldc 58, 2) := dk_18 58 (dk_at dksX0_init_6 20 rfl rfl)
theorem dX0_init_163 : decode cX0_init 163 = .ok (.aastore, 1) := dk_83 (dk_at dksX0_init_6 22 rfl rfl)
theorem dX0_init_164 : decode cX0_init 164 = .ok (.dup, 1) := dk_89 (dk_at dksX0_init_6 23 rfl rfl)
theorem dX0_init_165 : decode cX0_init 165 = .ok (.iconst 4, 1) := dk_7 (dk_at dksX0_init_7 0 rfl rfl)
theorem dX0_init_166 : decode cX0_init 166 = .ok (.ldc 60, 2) := dk_18 60 (dk_at dksX0_init_7 1 rfl rfl)
theorem dX0_init_168 : decode cX0_init 168 = .ok (.aastore, 1) := dk_83 (dk_at dksX0_init_7 3 rfl rfl)
theorem dX0_init_169 : decode cX0_init 169 = .ok (.dup, 1) := dk_89 (dk_at dksX0_init_7 4 rfl rfl)
theorem dX0_init_170 : decode cX0_init 170 = .ok (.iconst 5, 1) := dk_8 (dk_at dksX0_init_7 5 rfl rfl)
theorem dX0_init_171 : decode cX0_init 171 = .ok (.ldc 62, 2) := dk_18 62 (dk_at dksX0_init_7 6 rfl rfl)
theorem dX0_init_173 : decode cX0_init 173 = .ok (.aastore, 1) := dk_83 (dk_at dksX0_init_7 8 rfl rfl)
theorem dX0_init_174 : decode cX0_init 174 = .ok (.dup, 1) := dk_89 (dk_at dksX0_init_7 9 rfl rfl)
theorem dX0_init_175 : decode cX0_init 175 = .ok (.bipush 6, 2) := dk_16 6 (dk_at dksX0_init_7 10 rfl rfl)
theorem dX0_init_177 : decode cX0_init 177 = .ok (.ldc 64, 2) := dk_18 64 (dk_at dksX0_init_7 12 rfl rfl)
theorem dX0_init_179 : decode cX0_init 179 = .ok (.aastore, 1) := dk_83 (dk_at dksX0_init_7 14 rfl rfl)
theorem dX0_init_180 : decode cX0_init 180 = .ok (.putfield 66, 3) := dk_181 0 66 (dk_at dksX0_init_7 15 rfl rfl)
theorem dX0_init_183 : decode cX0_init 183 = .ok (.aload_n 0, 1) := dk_42 (dk_at dksX0_init_7 18 rfl rfl)
theorem dX0_init_184 : decode cX0_init 184 = .ok (.iconst 1, 1) := dk_4 (dk_at dksX0_init_7 19 rfl rfl)
theorem dX0_init_185 : decode cX0_init 185 = .ok (.anewarray 50, 3) := dk_189 0 50 (dk_at dksX0_init_7 20 rfl rfl)
theorem dX0_init_188 : decode cX0_init 188 = .ok (.dup, 1) := dk_89 (dk_at dksX0_init_7 23 rfl rfl)
theorem dX0_init_189 : decode cX0_init 189 = .ok (.iconst 0, 1) := dk_3 (dk_at dksX0_init_8 0 rfl rfl)
theorem dX0_init_190 : decode cX0_init 190 = .ok (.ldc 70, 2) := dk_18 70 (dk_at dksX0_init_8 1 rfl rfl)
theorem dX0_init_192 : decode cX0_init 192 = .ok (.aastore, 1) := dk_83 (dk_at dksX0_init_8 3 rfl rfl)
theorem dX0_init_193 : decode cX0_init 193 = .ok (.putfield 72, 3) := dk_181 0 72 (dk_at dksX0_init_8 4 rfl rfl)
theorem dX0_init_196 : decode cX0_init 196 = .ok (.aload_n 0, 1) := dk_42 (dk_at dksX0_init_8 7 rfl rfl)
theorem dX0_init_197 : decode cX0_init 197 = .ok (.bipush 13, 2) := dk_16 13 (dk_at dksX0_init_8 8 rfl rfl)
theorem dX0_init_199 : decode cX0_init 199 = .ok (.anewarray 50, 3) := dk_189 0 50 (dk_at dksX0_init_8 10 rfl rfl)
theorem dX0_init_202 : decode cX0_init 202 = .ok (.dup, 1) := dk_89 (dk_at dksX0_init_8 13 rfl rfl)
theorem dX0_init_203 : decode cX0_init 203 = .ok (.iconst 0, 1) := dk_3 (dk_at dksX0_init_8 14 rfl rfl)
theorem dX0_init_204 : decode cX0_init 204 = .ok (.ldc 56, 2) := dk_18 56 (dk_at dksX0_init_8 15 rfl rfl)
theorem dX0_init_206 : decode cX0_init 206 = .ok (.aastore, 1) := dk_83 (dk_at dksX0_init_8 17 rfl rfl)
theorem dX0_init_207 : decode cX0_init 207 = .ok (.dup, 1) := dk_89 (dk_at dksX0_init_8 18 rfl rfl)
theorem dX0_init_208 : decode cX0_init 208 = .ok (.iconst 1, 1) := dk_4 (dk_at dksX0_init_8 19 rfl rfl)
theorem dX0_init_209 : decode cX0_init 209 = .ok (.ldc 75, 2) := dk_18 75 (dk_at dksX0_init_8 20 rfl rfl)
theorem dX0_init_211 : decode cX0_init 211 = .ok (.aastore, 1) := dk_83 (dk_at dksX0_init_8 22 rfl rfl)
theorem dX0_init_212 : decode cX0_init 212 = .ok (.dup, 1) := dk_89 (dk_at dksX0_init_8 23 rfl rfl)
theorem dX0_init_213 : decode cX0_init 213 = .ok (.iconst 2, 1) := dk_5 (dk_at dksX0_init_9 0 rfl rfl)
theorem dX0_init_214 : decode cX0_init 214 = .ok (.ldc 54, 2) := dk_18 54 (dk_at dksX0_init_9 1 rfl rfl)
theorem dX0_init_216 : decode cX0_init 216 = .ok (.aastore, 1) := dk_83 (dk_at dksX0_init_9 3 rfl rfl)
theorem dX0_init_217 : decode cX0_init 217 = .ok (.dup, 1) := dk_89 (dk_at dksX0_init_9 4 rfl rfl)
theorem dX0_init_218 : decode cX0_init 218 = .ok (.iconst 3, 1) := dk_6 (dk_at dksX0_init_9 5 rfl rfl)
theorem dX0_init_219 : decode cX0_init 219 = .ok (.ldc 77, 2) := dk_18 77 (dk_at dksX0_init_9 6 rfl rfl)
theorem dX0_init_221 : decode cX0_init 221 = .ok (.aastore, 1) := dk_83 (dk_at dksX0_init_9 8 rfl rfl)
theorem dX0_init_222 : decode cX0_init 222 = .ok (.dup, 1) := dk_89 (dk_at dksX0_init_9 9 rfl rfl)
theorem dX0_init_223 : decode cX0_init 223 = .ok (.iconst 4, 1) := dk_7 (dk_at dksX0_init_9 10 rfl rfl)
theorem dX0_init_224 : decode cX0_init 224 = .ok (.ldc 79, 2) := dk_18 79 (dk_at dksX0_init_9 11 rfl rfl)
theorem dX0_init_226 : decode cX0_init 226 = .ok (.aastore, 1) := dk_83 (dk_at dksX0_init_9 13 rfl rfl)
theorem dX0_init_227 : decode cX0_init 227 = .ok (.dup, 1) := dk_89 (dk_at dksX0_init_9 14 rfl rfl)
theorem dX0_init_228 : decode cX0_init 228 = .ok (.iconst 5, 1) := dk_8 (dk_at dksX0_init_9 15 rfl rfl)
theorem dX0_init_229 : decode cX0_init 229 = .ok (.ldc 81, 2) := dk_18 81 (dk_at dksX0_init_9 16 rfl rfl)
theorem dX0_init_231 : decode cX0_init 231 = .ok (.aastore, 1) := dk_83 (dk_at dksX0_init_9 18 rfl rfl)
theorem dX0_init_232 : decode cX0_init 232 = .ok (.dup, 1) := dk_89 (dk_at dksX0_init_9 19 rfl rfl)
theorem dX0_init_233 : decode cX0_init 233 = .ok (.bipush 6, 2) := dk_16 6 (dk_at dksX0_init_9 20 rfl rfl)
theorem dX0_init_235 : decode cX0_init 235 = .ok (.ldc 83, 2) := dk_18 83 (dk_at dksX0_init_9 22 rfl rfl)
theorem dX0_init_237 : decode cX0_init 237 = .ok (.aastore, 1) := dk_83 (dk_at dksX0_init_10 0 rfl rfl)
theorem dX0_init_238 : decode cX0_init 238 = .ok (.dup, 1) := dk_89 (dk_at dksX0_init_10 1 rfl rfl)
theorem dX0_init_239 : decode cX0_init 239 = .ok (.bipush 7, 2) := dk_16 7 (dk_at dksX0_init_10 2 rfl rfl)
theorem dX0_init_241 : decode cX0_init 241 = .ok (.ldc 85, 2) := dk_18 85 (dk_at dksX0_init_10 4 rfl rfl)
theorem dX0_init_243 : decode cX0_init 243 = .ok (.aastore, 1) := dk_83 (dk_at dksX0_init_10 6 rfl rfl)
theorem dX0_init_244 : decode cX0_init 244 = .ok (.dup, 1) := dk_89 (dk_at dksX0_init_10 7 rfl rfl)
theorem dX0_init_245 : decode cX0_init 245 = .ok (.bipush 8, 2) := dk_16 8 (dk_at dksX0_init_10 8 rfl rfl)
theorem dX0_init_247 : decode cX0_init 247 = .ok (.ldc 87, 2) := dk_18 87 (dk_at dksX0_init_10 10 rfl rfl)
theorem dX0_init_249 : decode cX0_init 249 = .ok (.aastore, 1) := dk_83 (dk_at dksX0_init_10 12 rfl rfl)
theorem dX0_init_250 : decode cX0_init 250 = .ok (.dup, 1) := dk_89 (dk_at dksX0_init_10 13 rfl rfl)
theorem dX0_init_251 : decode cX0_init 251 = .ok (.bipush 9, 2) := dk_16 9 (dk_at dksX0_init_10 14 rfl rfl)
theorem dX0_init_253 : decode cX0_init 253 = .ok (.ldc 89, 2) := dk_18 89 (dk_at dksX0_init_10 16 rfl rfl)
theorem dX0_init_255 : decode cX0_init 255 = .ok (.aastore, 1) := dk_83 (dk_at dksX0_init_10 18 rfl rfl)
theorem dX0_init_256 : decode cX0_init 256 = .ok (.dup, 1) := dk_89 (dk_at dksX0_init_10 19 rfl rfl)
theorem dX0_init_257 : decode cX0_init 257 = .ok (.bipush 10, 2) := dk_16 10 (dk_at dksX0_init_10 20 rfl rfl)
theorem dX0_init_259 : decode cX0_init 259 = .ok (.ldc 91, 2) := dk_18 91 (dk_at dksX0_init_10 22 rfl rfl)
theorem dX0_init_261 : decode cX0_init 261 = .ok (.aastore, 1) := dk_83 (dk_at dksX0_init_11 0 rfl rfl)
theorem dX0_init_262 : decode cX0_init 262 = .ok (.dup, 1) := dk_89 (dk_at dksX0_init_11 1 rfl rfl)
theorem dX0_init_263 : decode cX0_init 263 = .ok (.bipush 11, 2) := dk_16 11 (dk_at dksX0_init_11 2 rfl rfl)
theorem dX0_init_265 : decode cX0_init 265 = .ok (.ldc 93, 2) := dk_18 93 (dk_at dksX0_init_11 4 rfl rfl)
theorem dX0_init_267 : decode cX0_init 267 = .ok (.aastore, 1) := dk_83 (dk_at dksX0_init_11 6 rfl rfl)
theorem dX0_init_268 : decode cX0_init 268 = .ok (.dup, 1) := dk_89 (dk_at dksX0_init_11 7 rfl rfl)
theorem dX0_init_269 : decode cX0_init 269 = .ok (.bipush 12, 2) := dk_16 12 (dk_at dksX0_init_11 8 rfl rfl)
theorem dX0_init_271 : decode cX0_init 271 = .ok (.ldc 62, 2) := dk_18 62 (dk_at dksX0_init_11 10 rfl rfl)
theorem dX0_init_273 : decode cX0_init 273 = .ok (.aastore, 1) := dk_83 (dk_at dksX0_init_11 12 rfl rfl)
theorem dX0_init_274 : decode cX0_init 274 = .ok (.putfield 95, 3) := dk_181 0 95 (dk_at dksX0_init_11 13 rfl rfl)
theorem dX0_init_277 : decode cX0_init 277 = .ok (.aload_n 0, 1) := dk_42 (dk_at dksX0_init_11 16 rfl rfl)
theorem dX0_init_278 : decode cX0_init 278 = .ok (.bipush 6, 2) := dk_16 6 (dk_at dksX0_init_11 17 rfl rfl)
theorem dX0_init_280 : decode cX0_init 280 = .ok (.anewarray 98, 3) := dk_189 0 98 (dk_at dksX0_init_11 19 rfl rfl)
theorem dX0_init_283 : decode cX0_init 283 = .ok (.putfield 100, 3) := dk_181 0 100 (dk_at dksX0_init_12 0 rfl rfl)
theorem dX0_init_286 : decode cX0_init 286 = .ok (.aload_n 0, 1) := dk_42 (dk_at dksX0_init_12 3 rfl rfl)
theorem dX0_init_287 : decode cX0_init 287 = .ok (.bipush 6, 2) := dk_16 6 (dk_at dksX0_init_12 4 rfl rfl)
theorem dX0_init_289 : decode cX0_init 289 = .ok (.newarray .int, 2) := dk_188_10 (dk_at dksX0_init_12 6 rfl rfl)
theorem dX0_init_291 : decode cX0_init 291 = .ok (.putfield 104, 3) := dk_181 0 104 (dk_at dksX0_init_12 8 rfl rfl)
theorem dX0_init_294 : decode cX0_init 294 = .ok (.aload_n 0, 1) := dk_42 (dk_at dksX0_init_12 11 rfl rfl)
theorem dX0_init_295 : decode cX0_init 295 = .ok (.bipush 6, 2) := dk_16 6 (dk_at dksX0_init_12 12 rfl rfl)
theorem dX0_init_297 : decode cX0_init 297 = .ok (.newarray .int, 2) := dk_188_10 (dk_at dksX0_init_12 14 rfl rfl)
theorem dX0_init_299 : decode cX0_init 299 = .ok (.putfield 107, 3) := dk_181 0 107 (dk_at dksX0_init_12 16 rfl rfl)
theorem dX0_init_302 : decode cX0_init 302 = .ok (.aload_n 0, 1) := dk_42 (dk_at dksX0_init_12 19 rfl rfl)
theorem dX0_init_303 : decode cX0_init 303 = .ok (.bipush 7, 2) := dk_16 7 (dk_at dksX0_init_12 20 rfl rfl)
theorem dX0_init_305 : decode cX0_init 305 = .ok (.newarray .boolean, 2) := dk_188_4 (dk_at dksX0_init_12 22 rfl rfl)
theorem dX0_init_307 : decode cX0_init 307 = .ok (.putfield 110, 3) := dk_181 0 110 (dk_at dksX0_init_13 0 rfl rfl)
theorem dX0_init_310 : decode cX0_init 310 = .ok (.aload_n 0, 1) := dk_42 (dk_at dksX0_init_13 3 rfl rfl)
theorem dX0_init_311 : decode cX0_init 311 = .ok (.bipush 28, 2) := dk_16 28 (dk_at dksX0_init_13 4 rfl rfl)
theorem dX0_init_313 : decode cX0_init 313 = .ok (.newarray .int, 2) := dk_188_10 (dk_at dksX0_init_13 6 rfl rfl)
theorem dX0_init_315 : decode cX0_init 315 = .ok (.putfield 114, 3) := dk_181 0 114 (dk_at dksX0_init_13 8 rfl rfl)
theorem dX0_init_318 : decode cX0_init 318 = .ok (.aload_n 0, 1) := dk_42 (dk_at dksX0_init_13 11 rfl rfl)
theorem dX0_init_319 : decode cX0_init 319 = .ok (.iconst 4, 1) := dk_7 (dk_at dksX0_init_13 12 rfl rfl)
theorem dX0_init_320 : decode cX0_init 320 = .ok (.anewarray 117, 3) := dk_189 0 117 (dk_at dksX0_init_13 13 rfl rfl)
theorem dX0_init_323 : decode cX0_init 323 = .ok (.putfield 119, 3) := dk_181 0 119 (dk_at dksX0_init_13 16 rfl rfl)
theorem dX0_init_326 : decode cX0_init 326 = .ok (.return_, 1) := dk_177 (dk_at dksX0_init_13 19 rfl rfl)
abbrev cX0_feed : ByteArray := prog_1_method_4_code
def yX0_feed : MethodName := ⟨RX0, "feed", "(IIIII)I"⟩
def dkwX0_feed_2 : List UInt8 := [172]
abbrev dktX0_feed_2 : List UInt8 := dkwX0_feed_2 ++ []
def dkwX0_feed_1 : List UInt8 := [182, 0, 126, 42, 29, 182, 0, 126, 42, 21, 4, 182, 0, 126, 42, 21, 5, 182, 0, 126, 42, 180, 0, 123]
abbrev dktX0_feed_1 : List UInt8 := dkwX0_feed_1 ++ dktX0_feed_2
def dkwX0_feed_0 : List UInt8 := [42, 180, 0, 123, 16, 20, 96, 17, 1, 144, 164, 0, 5, 2, 172, 42, 27, 182, 0, 126, 42, 28]
abbrev dktX0_feed_0 : List UInt8 := dkwX0_feed_0 ++ dktX0_feed_1
theorem dksX0_feed_0 : cX0_feed.data.toList.drop 0 = dktX0_feed_0 := by decide +kernel
theorem dksX0_feed_1 : cX0_feed.data.toList.drop 22 = dktX0_feed_1 := dk_seg dksX0_feed_0 22 rfl rfl
theorem dksX0_feed_2 : cX0_feed.data.toList.drop 46 = dktX0_feed_2 := dk_seg dksX0_feed_1 24 rfl rfl
theorem dX0_feed_0 : decode cX0_feed 0 = .ok (.aload_n 0, 1) := dk_42 (dk_at dksX0_feed_0 0 rfl rfl)
theorem dX0_feed_1 : decode cX0_feed 1 = .ok (.getfield 123, 3) := dk_180 0 123 (dk_at dksX0_feed_0 1 rfl rfl)
theorem dX0_feed_4 : decode cX0_feed 4 = .ok (.bipush 20, 2) := dk_16 20 (dk_at dksX0_feed_0 4 rfl rfl)
theorem dX0_feed_6 : decode cX0_feed 6 = .ok (.iadd, 1) := dk_96 (dk_at dksX0_feed_0 6 rfl rfl)
theorem dX0_feed_7 : decode cX0_feed 7 = .ok (.sipush 400, 3) := dk_17 1 144 (dk_at dksX0_feed_0 7 rfl rfl)
theorem dX0_feed_10 : decode cX0_feed 10 = .ok (.if_icmp .le 5, 3) := dk_164 0 5 (dk_at dksX0_feed_0 10 rfl rfl)
theorem dX0_feed_13 : decode cX0_feed 13 = .ok (.iconst (-1), 1) := dk_2 (dk_at dksX0_feed_0 13 rfl rfl)
theorem dX0_feed_14 : decode cX0_feed 14 = .ok (.ireturn, 1) := dk_172 (dk_at dksX0_feed_0 14 rfl rfl)
theorem dX0_feed_15 : decode cX0_feed 15 = .ok (.aload_n 0, 1) := dk_42 (dk_at dksX0_feed_0 15 rfl rfl)
theorem dX0_feed_16 : decode cX0_feed 16 = .ok (.iload_n 1, 1) := dk_27 (dk_at dksX0_feed_0 16 rfl rfl)
theorem dX0_feed_17 : decode cX0_feed 17 = .ok (.invokevirtual 126, 3) := dk_182 0 126 (dk_at dksX0_feed_0 17 rfl rfl)
theorem dX0_feed_20 : decode cX0_feed 20 = .ok (.aload_n 0, 1) := dk_42 (dk_at dksX0_feed_0 20 rfl rfl)
theorem dX0_feed_21 : decode cX0_feed 21 = .ok (.iload_n 2, 1) := dk_28 (dk_at dksX0_feed_0 21 rfl rfl)
theorem dX0_feed_22 : decode cX0_feed 22 = .ok (.invokevirtual 126, 3) := dk_182 0 126 (dk_at dksX0_feed_1 0 rfl rfl)
theorem dX0_feed_25 : decode cX0_feed 25 = .ok (.aload_n 0, 1) := dk_42 (dk_at dksX0_feed_1 3 rfl rfl)
theorem dX0_feed_26 : decode cX0_feed 26 = .ok (.iload_n 3, 1) := dk_29 (dk_at dksX0_feed_1 4 rfl rfl)
theorem dX0_feed_27 : decode cX0_feed 27 = .ok (.invokevirtual 126, 3) := dk_182 0 126 (dk_at dksX0_feed_1 5 rfl rfl)
theorem dX0_feed_30 : decode cX0_feed 30 = .ok (.aload_n 0, 1) := dk_42 (dk_at dksX0_feed_1 8 rfl rfl)
theorem dX0_feed_31 : decode cX0_feed 31 = .ok (.iload 4, 2) := dk_21 4 (dk_at dksX0_feed_1 9 rfl rfl)
theorem dX0_feed_33 : decode cX0_feed 33 = .ok (.invokevirtual 126, 3) := dk_182 0 126 (dk_at dksX0_feed_1 11 rfl rfl)
theorem dX0_feed_36 : decode cX0_feed 36 = .ok (.aload_n 0, 1) := dk_42 (dk_at dksX0_feed_1 14 rfl rfl)
theorem dX0_feed_37 : decode cX0_feed 37 = .ok (.iload 5, 2) := dk_21 5 (dk_at dksX0_feed_1 15 rfl rfl)
theorem dX0_feed_39 : decode cX0_feed 39 = .ok (.invokevirtual 126, 3) := dk_182 0 126 (dk_at dksX0_feed_1 17 rfl rfl)
theorem dX0_feed_42 : decode cX0_feed 42 = .ok (.aload_n 0, 1) := dk_42 (dk_at dksX0_feed_1 20 rfl rfl)
theorem dX0_feed_43 : decode cX0_feed 43 = .ok (.getfield 123, 3) := dk_180 0 123 (dk_at dksX0_feed_1 21 rfl rfl)
theorem dX0_feed_46 : decode cX0_feed 46 = .ok (.ireturn, 1) := dk_172 (dk_at dksX0_feed_2 0 rfl rfl)
abbrev cX0_four : ByteArray := prog_1_method_5_code
def yX0_four : MethodName := ⟨RX0, "four", "(I)V"⟩
def dkwX0_four_1 : List UInt8 := [180, 0, 123, 4, 96, 181, 0, 123, 132, 2, 248, 167, 255, 226, 177]
abbrev dktX0_four_1 : List UInt8 := dkwX0_four_1 ++ []
def dkwX0_four_0 : List UInt8 := [16, 24, 61, 28, 155, 0, 32, 42, 180, 0, 46, 42, 180, 0, 123, 27, 28, 122, 145, 84, 42, 89]
abbrev dktX0_four_0 : List UInt8 := dkwX0_four_0 ++ dktX0_four_1
theorem dksX0_four_0 : cX0_four.data.toList.drop 0 = dktX0_four_0 := by decide +kernel
theorem dksX0_four_1 : cX0_four.data.toList.drop 22 = dktX0_four_1 := dk_seg dksX0_four_0 22 rfl rfl
theorem dX0_four_0 : decode cX0_four 0 = .ok (.bipush 24, 2) := dk_16 24 (dk_at dksX0_four_0 0 rfl rfl)
theorem dX0_four_2 : decode cX0_four 2 = .ok (.istore_n 2, 1) := dk_61 (dk_at dksX0_four_0 2 rfl rfl)
theorem dX0_four_3 : decode cX0_four 3 = .ok (.iload_n 2, 1) := dk_28 (dk_at dksX0_four_0 3 rfl rfl)
theorem dX0_four_4 : decode cX0_four 4 = .ok (.ifCond .lt 32, 3) := dk_155 0 32 (dk_at dksX0_four_0 4 rfl rfl)
theorem dX0_four_7 : decode cX0_four 7 = .ok (.aload_n 0, 1) := dk_42 (dk_at dksX0_four_0 7 rfl rfl)
theorem dX0_four_8 : decode cX0_four 8 = .ok (.getfield 46, 3) := dk_180 0 46 (dk_at dksX0_four_0 8 rfl rfl)
theorem dX0_four_11 : decode cX0_four 11 = .ok (.aload_n 0, 1) := dk_42 (dk_at dksX0_four_0 11 rfl rfl)
theorem dX0_four_12 : decode cX0_four 12 = .ok (.getfield 123, 3) := dk_180 0 123 (dk_at dksX0_four_0 12 rfl rfl)
theorem dX0_four_15 : decode cX0_four 15 = .ok (.iload_n 1, 1) := dk_27 (dk_at dksX0_four_0 15 rfl rfl)
theorem dX0_four_16 : decode cX0_four 16 = .ok (.iload_n 2, 1) := dk_28 (dk_at dksX0_four_0 16 rfl rfl)
theorem dX0_four_17 : decode cX0_four 17 = .ok (.ishr, 1) := dk_122 (dk_at dksX0_four_0 17 rfl rfl)
theorem dX0_four_18 : decode cX0_four 18 = .ok (.i2b, 1) := dk_145 (dk_at dksX0_four_0 18 rfl rfl)
theorem dX0_four_19 : decode cX0_four 19 = .ok (.bastore, 1) := dk_84 (dk_at dksX0_four_0 19 rfl rfl)
theorem dX0_four_20 : decode cX0_four 20 = .ok (.aload_n 0, 1) := dk_42 (dk_at dksX0_four_0 20 rfl rfl)
theorem dX0_four_21 : decode cX0_four 21 = .ok (.dup, 1) := dk_89 (dk_at dksX0_four_0 21 rfl rfl)
theorem dX0_four_22 : decode cX0_four 22 = .ok (.getfield 123, 3) := dk_180 0 123 (dk_at dksX0_four_1 0 rfl rfl)
theorem dX0_four_25 : decode cX0_four 25 = .ok (.iconst 1, 1) := dk_4 (dk_at dksX0_four_1 3 rfl rfl)
theorem dX0_four_26 : decode cX0_four 26 = .ok (.iadd, 1) := dk_96 (dk_at dksX0_four_1 4 rfl rfl)
theorem dX0_four_27 : decode cX0_four 27 = .ok (.putfield 123, 3) := dk_181 0 123 (dk_at dksX0_four_1 5 rfl rfl)
theorem dX0_four_30 : decode cX0_four 30 = .ok (.iinc 2 (-8), 3) := dk_132 2 248 (dk_at dksX0_four_1 8 rfl rfl)
theorem dX0_four_33 : decode cX0_four 33 = .ok (.goto (-30), 3) := dk_167 255 226 (dk_at dksX0_four_1 11 rfl rfl)
theorem dX0_four_36 : decode cX0_four 36 = .ok (.return_, 1) := dk_177 (dk_at dksX0_four_1 14 rfl rfl)
abbrev cX0_end : ByteArray := prog_1_method_6_code
def yX0_end : MethodName := ⟨RX0, "end", "(I)I"⟩
def dkwX0_end_0 : List UInt8 := [27, 155, 0, 11, 27, 42, 180, 0, 123, 164, 0, 5, 2, 172, 42, 27, 181, 0, 123, 27, 172]
abbrev dktX0_end_0 : List UInt8 := dkwX0_end_0 ++ []
theorem dksX0_end_0 : cX0_end.data.toList.drop 0 = dktX0_end_0 := by decide +kernel
theorem dX0_end_0 : decode cX0_end 0 = .ok (.iload_n 1, 1) := dk_27 (dk_at dksX0_end_0 0 rfl rfl)
theorem dX0_end_1 : decode cX0_end 1 = .ok (.ifCond .lt 11, 3) := dk_155 0 11 (dk_at dksX0_end_0 1 rfl rfl)
theorem dX0_end_4 : decode cX0_end 4 = .ok (.iload_n 1, 1) := dk_27 (dk_at dksX0_end_0 4 rfl rfl)
theorem dX0_end_5 : decode cX0_end 5 = .ok (.aload_n 0, 1) := dk_42 (dk_at dksX0_end_0 5 rfl rfl)
theorem dX0_end_6 : decode cX0_end 6 = .ok (.getfield 123, 3) := dk_180 0 123 (dk_at dksX0_end_0 6 rfl rfl)
theorem dX0_end_9 : decode cX0_end 9 = .ok (.if_icmp .le 5, 3) := dk_164 0 5 (dk_at dksX0_end_0 9 rfl rfl)
theorem dX0_end_12 : decode cX0_end 12 = .ok (.iconst (-1), 1) := dk_2 (dk_at dksX0_end_0 12 rfl rfl)
theorem dX0_end_13 : decode cX0_end 13 = .ok (.ireturn, 1) := dk_172 (dk_at dksX0_end_0 13 rfl rfl)
theorem dX0_end_14 : decode cX0_end 14 = .ok (.aload_n 0, 1) := dk_42 (dk_at dksX0_end_0 14 rfl rfl)
theorem dX0_end_15 : decode cX0_end 15 = .ok (.iload_n 1, 1) := dk_27 (dk_at dksX0_end_0 15 rfl rfl)
theorem dX0_end_16 : decode cX0_end 16 = .ok (.putfield 123, 3) := dk_181 0 123 (dk_at dksX0_end_0 16 rfl rfl)
theorem dX0_end_19 : decode cX0_end 19 = .ok (.iload_n 1, 1) := dk_27 (dk_at dksX0_end_0 19 rfl rfl)
theorem dX0_end_20 : decode cX0_end 20 = .ok (.ireturn, 1) := dk_172 (dk_at dksX0_end_0 20 rfl rfl)
abbrev cX0_street : ByteArray := prog_1_method_8_code
def yX0_street : MethodName := ⟨RX0, "street", "()I"⟩
def dkwX0_street_1 : List UInt8 := [180, 0, 149, 180, 0, 152, 60, 167, 0, 9, 77, 42, 182, 0, 155, 60, 42, 3, 181, 0, 123, 27, 172]
abbrev dktX0_street_1 : List UInt8 := dkwX0_street_1 ++ []
def dkwX0_street_0 : List UInt8 := [42, 42, 180, 0, 12, 187, 0, 136, 89, 42, 183, 0, 138, 182, 0, 141, 182, 0, 145, 181, 0, 149, 42]
abbrev dktX0_street_0 : List UInt8 := dkwX0_street_0 ++ dktX0_street_1
theorem dksX0_street_0 : cX0_street.data.toList.drop 0 = dktX0_street_0 := by decide +kernel
theorem dksX0_street_1 : cX0_street.data.toList.drop 23 = dktX0_street_1 := dk_seg dksX0_street_0 23 rfl rfl
theorem dX0_street_0 : decode cX0_street 0 = .ok (.aload_n 0, 1) := dk_42 (dk_at dksX0_street_0 0 rfl rfl)
theorem dX0_street_1 : decode cX0_street 1 = .ok (.aload_n 0, 1) := dk_42 (dk_at dksX0_street_0 1 rfl rfl)
theorem dX0_street_2 : decode cX0_street 2 = .ok (.getfield 12, 3) := dk_180 0 12 (dk_at dksX0_street_0 2 rfl rfl)
theorem dX0_street_5 : decode cX0_street 5 = .ok (.new 136, 3) := dk_187 0 136 (dk_at dksX0_street_0 5 rfl rfl)
theorem dX0_street_8 : decode cX0_street 8 = .ok (.dup, 1) := dk_89 (dk_at dksX0_street_0 8 rfl rfl)
theorem dX0_street_9 : decode cX0_street 9 = .ok (.aload_n 0, 1) := dk_42 (dk_at dksX0_street_0 9 rfl rfl)
theorem dX0_street_10 : decode cX0_street 10 = .ok (.invokespecial 138, 3) := dk_183 0 138 (dk_at dksX0_street_0 10 rfl rfl)
theorem dX0_street_13 : decode cX0_street 13 = .ok (.invokevirtual 141, 3) := dk_182 0 141 (dk_at dksX0_street_0 13 rfl rfl)
theorem dX0_street_16 : decode cX0_street 16 = .ok (.invokevirtual 145, 3) := dk_182 0 145 (dk_at dksX0_street_0 16 rfl rfl)
theorem dX0_street_19 : decode cX0_street 19 = .ok (.putfield 149, 3) := dk_181 0 149 (dk_at dksX0_street_0 19 rfl rfl)
theorem dX0_street_22 : decode cX0_street 22 = .ok (.aload_n 0, 1) := dk_42 (dk_at dksX0_street_0 22 rfl rfl)
theorem dX0_street_23 : decode cX0_street 23 = .ok (.getfield 149, 3) := dk_180 0 149 (dk_at dksX0_street_1 0 rfl rfl)
theorem dX0_street_26 : decode cX0_street 26 = .ok (.getfield 152, 3) := dk_180 0 152 (dk_at dksX0_street_1 3 rfl rfl)
theorem dX0_street_29 : decode cX0_street 29 = .ok (.istore_n 1, 1) := dk_60 (dk_at dksX0_street_1 6 rfl rfl)
theorem dX0_street_30 : decode cX0_street 30 = .ok (.goto 9, 3) := dk_167 0 9 (dk_at dksX0_street_1 7 rfl rfl)
theorem dX0_street_33 : decode cX0_street 33 = .ok (.astore_n 2, 1) := dk_77 (dk_at dksX0_street_1 10 rfl rfl)
theorem dX0_street_34 : decode cX0_street 34 = .ok (.aload_n 0, 1) := dk_42 (dk_at dksX0_street_1 11 rfl rfl)
theorem dX0_street_35 : decode cX0_street 35 = .ok (.invokevirtual 155, 3) := dk_182 0 155 (dk_at dksX0_street_1 12 rfl rfl)
theorem dX0_street_38 : decode cX0_street 38 = .ok (.istore_n 1, 1) := dk_60 (dk_at dksX0_street_1 15 rfl rfl)
theorem dX0_street_39 : decode cX0_street 39 = .ok (.aload_n 0, 1) := dk_42 (dk_at dksX0_street_1 16 rfl rfl)
theorem dX0_street_40 : decode cX0_street 40 = .ok (.iconst 0, 1) := dk_3 (dk_at dksX0_street_1 17 rfl rfl)
theorem dX0_street_41 : decode cX0_street 41 = .ok (.putfield 123, 3) := dk_181 0 123 (dk_at dksX0_street_1 18 rfl rfl)
theorem dX0_street_44 : decode cX0_street 44 = .ok (.iload_n 1, 1) := dk_27 (dk_at dksX0_street_1 21 rfl rfl)
theorem dX0_street_45 : decode cX0_street 45 = .ok (.ireturn, 1) := dk_172 (dk_at dksX0_street_1 22 rfl rfl)
abbrev cX0_in : ByteArray := prog_1_method_1_code
def yX0_in : MethodName := ⟨RX0, "in", "(JJJ)Z"⟩
def dkwX0_in_0 : List UInt8 := [30, 32, 148, 155, 0, 14, 30, 22, 4, 148, 157, 0, 7, 4, 167, 0, 4, 3, 172]
abbrev dktX0_in_0 : List UInt8 := dkwX0_in_0 ++ []
theorem dksX0_in_0 : cX0_in.data.toList.drop 0 = dktX0_in_0 := by decide +kernel
theorem dX0_in_0 : decode cX0_in 0 = .ok (.lload_n 0, 1) := dk_30 (dk_at dksX0_in_0 0 rfl rfl)
theorem dX0_in_1 : decode cX0_in 1 = .ok (.lload_n 2, 1) := dk_32 (dk_at dksX0_in_0 1 rfl rfl)
theorem dX0_in_2 : decode cX0_in 2 = .ok (.lcmp, 1) := dk_148 (dk_at dksX0_in_0 2 rfl rfl)
theorem dX0_in_3 : decode cX0_in 3 = .ok (.ifCond .lt 14, 3) := dk_155 0 14 (dk_at dksX0_in_0 3 rfl rfl)
theorem dX0_in_6 : decode cX0_in 6 = .ok (.lload_n 0, 1) := dk_30 (dk_at dksX0_in_0 6 rfl rfl)
theorem dX0_in_7 : decode cX0_in 7 = .ok (.lload 4, 2) := dk_22 4 (dk_at dksX0_in_0 7 rfl rfl)
theorem dX0_in_9 : decode cX0_in 9 = .ok (.lcmp, 1) := dk_148 (dk_at dksX0_in_0 9 rfl rfl)
theorem dX0_in_10 : decode cX0_in 10 = .ok (.ifCond .gt 7, 3) := dk_157 0 7 (dk_at dksX0_in_0 10 rfl rfl)
theorem dX0_in_13 : decode cX0_in 13 = .ok (.iconst 1, 1) := dk_4 (dk_at dksX0_in_0 13 rfl rfl)
theorem dX0_in_14 : decode cX0_in 14 = .ok (.goto 4, 3) := dk_167 0 4 (dk_at dksX0_in_0 14 rfl rfl)
theorem dX0_in_17 : decode cX0_in 17 = .ok (.iconst 0, 1) := dk_3 (dk_at dksX0_in_0 17 rfl rfl)
theorem dX0_in_18 : decode cX0_in 18 = .ok (.ireturn, 1) := dk_172 (dk_at dksX0_in_0 18 rfl rfl)
abbrev cX0_has : ByteArray := prog_1_method_2_code
def yX0_has : MethodName := ⟨RX0, "has", "(II)Z"⟩
def dkwX0_has_0 : List UInt8 := [26, 27, 122, 4, 126, 4, 160, 0, 7, 4, 167, 0, 4, 3, 172]
abbrev dktX0_has_0 : List UInt8 := dkwX0_has_0 ++ []
theorem dksX0_has_0 : cX0_has.data.toList.drop 0 = dktX0_has_0 := by decide +kernel
theorem dX0_has_0 : decode cX0_has 0 = .ok (.iload_n 0, 1) := dk_26 (dk_at dksX0_has_0 0 rfl rfl)
theorem dX0_has_1 : decode cX0_has 1 = .ok (.iload_n 1, 1) := dk_27 (dk_at dksX0_has_0 1 rfl rfl)
theorem dX0_has_2 : decode cX0_has 2 = .ok (.ishr, 1) := dk_122 (dk_at dksX0_has_0 2 rfl rfl)
theorem dX0_has_3 : decode cX0_has 3 = .ok (.iconst 1, 1) := dk_4 (dk_at dksX0_has_0 3 rfl rfl)
theorem dX0_has_4 : decode cX0_has 4 = .ok (.iand, 1) := dk_126 (dk_at dksX0_has_0 4 rfl rfl)
theorem dX0_has_5 : decode cX0_has 5 = .ok (.iconst 1, 1) := dk_4 (dk_at dksX0_has_0 5 rfl rfl)
theorem dX0_has_6 : decode cX0_has 6 = .ok (.if_icmp .ne 7, 3) := dk_160 0 7 (dk_at dksX0_has_0 6 rfl rfl)
theorem dX0_has_9 : decode cX0_has 9 = .ok (.iconst 1, 1) := dk_4 (dk_at dksX0_has_0 9 rfl rfl)
theorem dX0_has_10 : decode cX0_has 10 = .ok (.goto 4, 3) := dk_167 0 4 (dk_at dksX0_has_0 10 rfl rfl)
theorem dX0_has_13 : decode cX0_has 13 = .ok (.iconst 0, 1) := dk_3 (dk_at dksX0_has_0 13 rfl rfl)
theorem dX0_has_14 : decode cX0_has 14 = .ok (.ireturn, 1) := dk_172 (dk_at dksX0_has_0 14 rfl rfl)
abbrev cX0_faulted : ByteArray := prog_1_method_7_code
def yX0_faulted : MethodName := ⟨RX0, "faulted", "()I"⟩
def dkwX0_faulted_0 : List UInt8 := [16, 254, 4, 16, 8, 42, 180, 0, 42, 180, 0, 130, 104, 96, 42, 180, 0, 42, 180, 0, 133, 96, 100, 172]
abbrev dktX0_faulted_0 : List UInt8 := dkwX0_faulted_0 ++ []
theorem dksX0_faulted_0 : cX0_faulted.data.toList.drop 0 = dktX0_faulted_0 := by decide +kernel
theorem dX0_faulted_0 : decode cX0_faulted 0 = .ok (.bipush (-2), 2) := dk_16 254 (dk_at dksX0_faulted_0 0 rfl rfl)
theorem dX0_faulted_2 : decode cX0_faulted 2 = .ok (.iconst 1, 1) := dk_4 (dk_at dksX0_faulted_0 2 rfl rfl)
theorem dX0_faulted_3 : decode cX0_faulted 3 = .ok (.bipush 8, 2) := dk_16 8 (dk_at dksX0_faulted_0 3 rfl rfl)
theorem dX0_faulted_5 : decode cX0_faulted 5 = .ok (.aload_n 0, 1) := dk_42 (dk_at dksX0_faulted_0 5 rfl rfl)
theorem dX0_faulted_6 : decode cX0_faulted 6 = .ok (.getfield 42, 3) := dk_180 0 42 (dk_at dksX0_faulted_0 6 rfl rfl)
theorem dX0_faulted_9 : decode cX0_faulted 9 = .ok (.getfield 130, 3) := dk_180 0 130 (dk_at dksX0_faulted_0 9 rfl rfl)
theorem dX0_faulted_12 : decode cX0_faulted 12 = .ok (.imul, 1) := dk_104 (dk_at dksX0_faulted_0 12 rfl rfl)
theorem dX0_faulted_13 : decode cX0_faulted 13 = .ok (.iadd, 1) := dk_96 (dk_at dksX0_faulted_0 13 rfl rfl)
theorem dX0_faulted_14 : decode cX0_faulted 14 = .ok (.aload_n 0, 1) := dk_42 (dk_at dksX0_faulted_0 14 rfl rfl)
theorem dX0_faulted_15 : decode cX0_faulted 15 = .ok (.getfield 42, 3) := dk_180 0 42 (dk_at dksX0_faulted_0 15 rfl rfl)
theorem dX0_faulted_18 : decode cX0_faulted 18 = .ok (.getfield 133, 3) := dk_180 0 133 (dk_at dksX0_faulted_0 18 rfl rfl)
theorem dX0_faulted_21 : decode cX0_faulted 21 = .ok (.iadd, 1) := dk_96 (dk_at dksX0_faulted_0 21 rfl rfl)
theorem dX0_faulted_22 : decode cX0_faulted 22 = .ok (.isub, 1) := dk_100 (dk_at dksX0_faulted_0 22 rfl rfl)
theorem dX0_faulted_23 : decode cX0_faulted 23 = .ok (.ireturn, 1) := dk_172 (dk_at dksX0_faulted_0 23 rfl rfl)
abbrev cX0_rule : ByteArray := prog_1_method_9_code
def yX0_rule : MethodName := ⟨RX0, "rule", "()I"⟩
def dkwX0_rule_2 : List UInt8 := [167, 0, 9, 77, 42, 182, 0, 155, 60, 42, 3, 181, 0, 123, 27, 172]
abbrev dktX0_rule_2 : List UInt8 := dkwX0_rule_2 ++ []
def dkwX0_rule_1 : List UInt8 := [187, 0, 136, 89, 42, 183, 0, 138, 182, 0, 162, 83, 42, 89, 180, 0, 159, 4, 96, 181, 0, 159]
abbrev dktX0_rule_1 : List UInt8 := dkwX0_rule_1 ++ dktX0_rule_2
def dkwX0_rule_0 : List UInt8 := [42, 180, 0, 159, 16, 6, 160, 0, 5, 2, 172, 42, 180, 0, 159, 60, 42, 180, 0, 100, 42, 180, 0, 159]
abbrev dktX0_rule_0 : List UInt8 := dkwX0_rule_0 ++ dktX0_rule_1
theorem dksX0_rule_0 : cX0_rule.data.toList.drop 0 = dktX0_rule_0 := by decide +kernel
theorem dksX0_rule_1 : cX0_rule.data.toList.drop 24 = dktX0_rule_1 := dk_seg dksX0_rule_0 24 rfl rfl
theorem dksX0_rule_2 : cX0_rule.data.toList.drop 46 = dktX0_rule_2 := dk_seg dksX0_rule_1 22 rfl rfl
theorem dX0_rule_0 : decode cX0_rule 0 = .ok (.aload_n 0, 1) := dk_42 (dk_at dksX0_rule_0 0 rfl rfl)
theorem dX0_rule_1 : decode cX0_rule 1 = .ok (.getfield 159, 3) := dk_180 0 159 (dk_at dksX0_rule_0 1 rfl rfl)
theorem dX0_rule_4 : decode cX0_rule 4 = .ok (.bipush 6, 2) := dk_16 6 (dk_at dksX0_rule_0 4 rfl rfl)
theorem dX0_rule_6 : decode cX0_rule 6 = .ok (.if_icmp .ne 5, 3) := dk_160 0 5 (dk_at dksX0_rule_0 6 rfl rfl)
theorem dX0_rule_9 : decode cX0_rule 9 = .ok (.iconst (-1), 1) := dk_2 (dk_at dksX0_rule_0 9 rfl rfl)
theorem dX0_rule_10 : decode cX0_rule 10 = .ok (.ireturn, 1) := dk_172 (dk_at dksX0_rule_0 10 rfl rfl)
theorem dX0_rule_11 : decode cX0_rule 11 = .ok (.aload_n 0, 1) := dk_42 (dk_at dksX0_rule_0 11 rfl rfl)
theorem dX0_rule_12 : decode cX0_rule 12 = .ok (.getfield 159, 3) := dk_180 0 159 (dk_at dksX0_rule_0 12 rfl rfl)
theorem dX0_rule_15 : decode cX0_rule 15 = .ok (.istore_n 1, 1) := dk_60 (dk_at dksX0_rule_0 15 rfl rfl)
theorem dX0_rule_16 : decode cX0_rule 16 = .ok (.aload_n 0, 1) := dk_42 (dk_at dksX0_rule_0 16 rfl rfl)
theorem dX0_rule_17 : decode cX0_rule 17 = .ok (.getfield 100, 3) := dk_180 0 100 (dk_at dksX0_rule_0 17 rfl rfl)
theorem dX0_rule_20 : decode cX0_rule 20 = .ok (.aload_n 0, 1) := dk_42 (dk_at dksX0_rule_0 20 rfl rfl)
theorem dX0_rule_21 : decode cX0_rule 21 = .ok (.getfield 159, 3) := dk_180 0 159 (dk_at dksX0_rule_0 21 rfl rfl)
theorem dX0_rule_24 : decode cX0_rule 24 = .ok (.new 136, 3) := dk_187 0 136 (dk_at dksX0_rule_1 0 rfl rfl)
theorem dX0_rule_27 : decode cX0_rule 27 = .ok (.dup, 1) := dk_89 (dk_at dksX0_rule_1 3 rfl rfl)
theorem dX0_rule_28 : decode cX0_rule 28 = .ok (.aload_n 0, 1) := dk_42 (dk_at dksX0_rule_1 4 rfl rfl)
theorem dX0_rule_29 : decode cX0_rule 29 = .ok (.invokespecial 138, 3) := dk_183 0 138 (dk_at dksX0_rule_1 5 rfl rfl)
theorem dX0_rule_32 : decode cX0_rule 32 = .ok (.invokevirtual 162, 3) := dk_182 0 162 (dk_at dksX0_rule_1 8 rfl rfl)
theorem dX0_rule_35 : decode cX0_rule 35 = .ok (.aastore, 1) := dk_83 (dk_at dksX0_rule_1 11 rfl rfl)
theorem dX0_rule_36 : decode cX0_rule 36 = .ok (.aload_n 0, 1) := dk_42 (dk_at dksX0_rule_1 12 rfl rfl)
theorem dX0_rule_37 : decode cX0_rule 37 = .ok (.dup, 1) := dk_89 (dk_at dksX0_rule_1 13 rfl rfl)
theorem dX0_rule_38 : decode cX0_rule 38 = .ok (.getfield 159, 3) := dk_180 0 159 (dk_at dksX0_rule_1 14 rfl rfl)
theorem dX0_rule_41 : decode cX0_rule 41 = .ok (.iconst 1, 1) := dk_4 (dk_at dksX0_rule_1 17 rfl rfl)
theorem dX0_rule_42 : decode cX0_rule 42 = .ok (.iadd, 1) := dk_96 (dk_at dksX0_rule_1 18 rfl rfl)
theorem dX0_rule_43 : decode cX0_rule 43 = .ok (.putfield 159, 3) := dk_181 0 159 (dk_at dksX0_rule_1 19 rfl rfl)
theorem dX0_rule_46 : decode cX0_rule 46 = .ok (.goto 9, 3) := dk_167 0 9 (dk_at dksX0_rule_2 0 rfl rfl)
theorem dX0_rule_49 : decode cX0_rule 49 = .ok (.astore_n 2, 1) := dk_77 (dk_at dksX0_rule_2 3 rfl rfl)
theorem dX0_rule_50 : decode cX0_rule 50 = .ok (.aload_n 0, 1) := dk_42 (dk_at dksX0_rule_2 4 rfl rfl)
theorem dX0_rule_51 : decode cX0_rule 51 = .ok (.invokevirtual 155, 3) := dk_182 0 155 (dk_at dksX0_rule_2 5 rfl rfl)
theorem dX0_rule_54 : decode cX0_rule 54 = .ok (.istore_n 1, 1) := dk_60 (dk_at dksX0_rule_2 8 rfl rfl)
theorem dX0_rule_55 : decode cX0_rule 55 = .ok (.aload_n 0, 1) := dk_42 (dk_at dksX0_rule_2 9 rfl rfl)
theorem dX0_rule_56 : decode cX0_rule 56 = .ok (.iconst 0, 1) := dk_3 (dk_at dksX0_rule_2 10 rfl rfl)
theorem dX0_rule_57 : decode cX0_rule 57 = .ok (.putfield 123, 3) := dk_181 0 123 (dk_at dksX0_rule_2 11 rfl rfl)
theorem dX0_rule_60 : decode cX0_rule 60 = .ok (.iload_n 1, 1) := dk_27 (dk_at dksX0_rule_2 14 rfl rfl)
theorem dX0_rule_61 : decode cX0_rule 61 = .ok (.ireturn, 1) := dk_172 (dk_at dksX0_rule_2 15 rfl rfl)
abbrev cX0_force : ByteArray := prog_1_method_10_code
def yX0_force : MethodName := ⟨RX0, "force", "(I)I"⟩
def dkwX0_force_1 : List UInt8 := [61, 42, 27, 181, 0, 35, 28, 172]
abbrev dktX0_force_1 : List UInt8 := dkwX0_force_1 ++ []
def dkwX0_force_0 : List UInt8 := [27, 2, 159, 0, 18, 27, 155, 0, 11, 27, 42, 180, 0, 159, 161, 0, 6, 16, 254, 172, 42, 180, 0, 35]
abbrev dktX0_force_0 : List UInt8 := dkwX0_force_0 ++ dktX0_force_1
theorem dksX0_force_0 : cX0_force.data.toList.drop 0 = dktX0_force_0 := by decide +kernel
theorem dksX0_force_1 : cX0_force.data.toList.drop 24 = dktX0_force_1 := dk_seg dksX0_force_0 24 rfl rfl
theorem dX0_force_0 : decode cX0_force 0 = .ok (.iload_n 1, 1) := dk_27 (dk_at dksX0_force_0 0 rfl rfl)
theorem dX0_force_1 : decode cX0_force 1 = .ok (.iconst (-1), 1) := dk_2 (dk_at dksX0_force_0 1 rfl rfl)
theorem dX0_force_2 : decode cX0_force 2 = .ok (.if_icmp .eq 18, 3) := dk_159 0 18 (dk_at dksX0_force_0 2 rfl rfl)
theorem dX0_force_5 : decode cX0_force 5 = .ok (.iload_n 1, 1) := dk_27 (dk_at dksX0_force_0 5 rfl rfl)
theorem dX0_force_6 : decode cX0_force 6 = .ok (.ifCond .lt 11, 3) := dk_155 0 11 (dk_at dksX0_force_0 6 rfl rfl)
theorem dX0_force_9 : decode cX0_force 9 = .ok (.iload_n 1, 1) := dk_27 (dk_at dksX0_force_0 9 rfl rfl)
theorem dX0_force_10 : decode cX0_force 10 = .ok (.aload_n 0, 1) := dk_42 (dk_at dksX0_force_0 10 rfl rfl)
theorem dX0_force_11 : decode cX0_force 11 = .ok (.getfield 159, 3) := dk_180 0 159 (dk_at dksX0_force_0 11 rfl rfl)
theorem dX0_force_14 : decode cX0_force 14 = .ok (.if_icmp .lt 6, 3) := dk_161 0 6 (dk_at dksX0_force_0 14 rfl rfl)
theorem dX0_force_17 : decode cX0_force 17 = .ok (.bipush (-2), 2) := dk_16 254 (dk_at dksX0_force_0 17 rfl rfl)
theorem dX0_force_19 : decode cX0_force 19 = .ok (.ireturn, 1) := dk_172 (dk_at dksX0_force_0 19 rfl rfl)
theorem dX0_force_20 : decode cX0_force 20 = .ok (.aload_n 0, 1) := dk_42 (dk_at dksX0_force_0 20 rfl rfl)
theorem dX0_force_21 : decode cX0_force 21 = .ok (.getfield 35, 3) := dk_180 0 35 (dk_at dksX0_force_0 21 rfl rfl)
theorem dX0_force_24 : decode cX0_force 24 = .ok (.istore_n 2, 1) := dk_61 (dk_at dksX0_force_1 0 rfl rfl)
theorem dX0_force_25 : decode cX0_force 25 = .ok (.aload_n 0, 1) := dk_42 (dk_at dksX0_force_1 1 rfl rfl)
theorem dX0_force_26 : decode cX0_force 26 = .ok (.iload_n 1, 1) := dk_27 (dk_at dksX0_force_1 2 rfl rfl)
theorem dX0_force_27 : decode cX0_force 27 = .ok (.putfield 35, 3) := dk_181 0 35 (dk_at dksX0_force_1 3 rfl rfl)
theorem dX0_force_30 : decode cX0_force 30 = .ok (.iload_n 2, 1) := dk_28 (dk_at dksX0_force_1 6 rfl rfl)
theorem dX0_force_31 : decode cX0_force 31 = .ok (.ireturn, 1) := dk_172 (dk_at dksX0_force_1 7 rfl rfl)
abbrev cX0_cell : ByteArray := prog_1_method_15_code
def yX0_cell : MethodName := ⟨RX0, "cell", "(II)I"⟩
def dkwX0_cell_4 : List UInt8 := [153, 0, 7, 4, 167, 0, 4, 3, 172, 16, 254, 172]
abbrev dktX0_cell_4 : List UInt8 := dkwX0_cell_4 ++ []
def dkwX0_cell_3 : List UInt8 := [27, 182, 0, 182, 172, 42, 180, 0, 149, 27, 182, 0, 186, 172, 42, 180, 0, 149, 27, 182, 0, 188]
abbrev dktX0_cell_3 : List UInt8 := dkwX0_cell_3 ++ dktX0_cell_4
def dkwX0_cell_2 : List UInt8 := [42, 180, 0, 149, 180, 0, 176, 27, 46, 172, 42, 180, 0, 149, 180, 0, 179, 27, 46, 172, 42, 180, 0, 149]
abbrev dktX0_cell_2 : List UInt8 := dkwX0_cell_2 ++ dktX0_cell_3
def dkwX0_cell_1 : List UInt8 := [170, 0, 0, 0, 0, 0, 0, 91, 0, 0, 0, 0, 0, 0, 0, 4, 0, 0, 0, 36, 0, 0, 0, 46, 0, 0, 0, 56, 0, 0, 0, 65, 0, 0, 0, 74]
abbrev dktX0_cell_1 : List UInt8 := dkwX0_cell_1 ++ dktX0_cell_2
def dkwX0_cell_0 : List UInt8 := [42, 27, 182, 0, 172, 154, 0, 6, 16, 254, 172, 28]
abbrev dktX0_cell_0 : List UInt8 := dkwX0_cell_0 ++ dktX0_cell_1
theorem dksX0_cell_0 : cX0_cell.data.toList.drop 0 = dktX0_cell_0 := by decide +kernel
theorem dksX0_cell_1 : cX0_cell.data.toList.drop 12 = dktX0_cell_1 := dk_seg dksX0_cell_0 12 rfl rfl
theorem dksX0_cell_2 : cX0_cell.data.toList.drop 48 = dktX0_cell_2 := dk_seg dksX0_cell_1 36 rfl rfl
theorem dksX0_cell_3 : cX0_cell.data.toList.drop 72 = dktX0_cell_3 := dk_seg dksX0_cell_2 24 rfl rfl
theorem dksX0_cell_4 : cX0_cell.data.toList.drop 94 = dktX0_cell_4 := dk_seg dksX0_cell_3 22 rfl rfl
theorem dX0_cell_0 : decode cX0_cell 0 = .ok (.aload_n 0, 1) := dk_42 (dk_at dksX0_cell_0 0 rfl rfl)
theorem dX0_cell_1 : decode cX0_cell 1 = .ok (.iload_n 1, 1) := dk_27 (dk_at dksX0_cell_0 1 rfl rfl)
theorem dX0_cell_2 : decode cX0_cell 2 = .ok (.invokevirtual 172, 3) := dk_182 0 172 (dk_at dksX0_cell_0 2 rfl rfl)
theorem dX0_cell_5 : decode cX0_cell 5 = .ok (.ifCond .ne 6, 3) := dk_154 0 6 (dk_at dksX0_cell_0 5 rfl rfl)
theorem dX0_cell_8 : decode cX0_cell 8 = .ok (.bipush (-2), 2) := dk_16 254 (dk_at dksX0_cell_0 8 rfl rfl)
theorem dX0_cell_10 : decode cX0_cell 10 = .ok (.ireturn, 1) := dk_172 (dk_at dksX0_cell_0 10 rfl rfl)
theorem dX0_cell_11 : decode cX0_cell 11 = .ok (.iload_n 2, 1) := dk_28 (dk_at dksX0_cell_0 11 rfl rfl)
theorem dX0_cell_12 : decode cX0_cell 12 = .ok (.tableswitch 91 0 4 #[36, 46, 56, 65, 74], 36) := by decide +kernel
theorem dX0_cell_48 : decode cX0_cell 48 = .ok (.aload_n 0, 1) := dk_42 (dk_at dksX0_cell_2 0 rfl rfl)
theorem dX0_cell_49 : decode cX0_cell 49 = .ok (.getfield 149, 3) := dk_180 0 149 (dk_at dksX0_cell_2 1 rfl rfl)
theorem dX0_cell_52 : decode cX0_cell 52 = .ok (.getfield 176, 3) := dk_180 0 176 (dk_at dksX0_cell_2 4 rfl rfl)
theorem dX0_cell_55 : decode cX0_cell 55 = .ok (.iload_n 1, 1) := dk_27 (dk_at dksX0_cell_2 7 rfl rfl)
theorem dX0_cell_56 : decode cX0_cell 56 = .ok (.iaload, 1) := dk_46 (dk_at dksX0_cell_2 8 rfl rfl)
theorem dX0_cell_57 : decode cX0_cell 57 = .ok (.ireturn, 1) := dk_172 (dk_at dksX0_cell_2 9 rfl rfl)
theorem dX0_cell_58 : decode cX0_cell 58 = .ok (.aload_n 0, 1) := dk_42 (dk_at dksX0_cell_2 10 rfl rfl)
theorem dX0_cell_59 : decode cX0_cell 59 = .ok (.getfield 149, 3) := dk_180 0 149 (dk_at dksX0_cell_2 11 rfl rfl)
theorem dX0_cell_62 : decode cX0_cell 62 = .ok (.getfield 179, 3) := dk_180 0 179 (dk_at dksX0_cell_2 14 rfl rfl)
theorem dX0_cell_65 : decode cX0_cell 65 = .ok (.iload_n 1, 1) := dk_27 (dk_at dksX0_cell_2 17 rfl rfl)
theorem dX0_cell_66 : decode cX0_cell 66 = .ok (.iaload, 1) := dk_46 (dk_at dksX0_cell_2 18 rfl rfl)
theorem dX0_cell_67 : decode cX0_cell 67 = .ok (.ireturn, 1) := dk_172 (dk_at dksX0_cell_2 19 rfl rfl)
theorem dX0_cell_68 : decode cX0_cell 68 = .ok (.aload_n 0, 1) := dk_42 (dk_at dksX0_cell_2 20 rfl rfl)
theorem dX0_cell_69 : decode cX0_cell 69 = .ok (.getfield 149, 3) := dk_180 0 149 (dk_at dksX0_cell_2 21 rfl rfl)
theorem dX0_cell_72 : decode cX0_cell 72 = .ok (.iload_n 1, 1) := dk_27 (dk_at dksX0_cell_3 0 rfl rfl)
theorem dX0_cell_73 : decode cX0_cell 73 = .ok (.invokevirtual 182, 3) := dk_182 0 182 (dk_at dksX0_cell_3 1 rfl rfl)
theorem dX0_cell_76 : decode cX0_cell 76 = .ok (.ireturn, 1) := dk_172 (dk_at dksX0_cell_3 4 rfl rfl)
theorem dX0_cell_77 : decode cX0_cell 77 = .ok (.aload_n 0, 1) := dk_42 (dk_at dksX0_cell_3 5 rfl rfl)
theorem dX0_cell_78 : decode cX0_cell 78 = .ok (.getfield 149, 3) := dk_180 0 149 (dk_at dksX0_cell_3 6 rfl rfl)
theorem dX0_cell_81 : decode cX0_cell 81 = .ok (.iload_n 1, 1) := dk_27 (dk_at dksX0_cell_3 9 rfl rfl)
theorem dX0_cell_82 : decode cX0_cell 82 = .ok (.invokevirtual 186, 3) := dk_182 0 186 (dk_at dksX0_cell_3 10 rfl rfl)
theorem dX0_cell_85 : decode cX0_cell 85 = .ok (.ireturn, 1) := dk_172 (dk_at dksX0_cell_3 13 rfl rfl)
theorem dX0_cell_86 : decode cX0_cell 86 = .ok (.aload_n 0, 1) := dk_42 (dk_at dksX0_cell_3 14 rfl rfl)
theorem dX0_cell_87 : decode cX0_cell 87 = .ok (.getfield 149, 3) := dk_180 0 149 (dk_at dksX0_cell_3 15 rfl rfl)
theorem dX0_cell_90 : decode cX0_cell 90 = .ok (.iload_n 1, 1) := dk_27 (dk_at dksX0_cell_3 18 rfl rfl)
theorem dX0_cell_91 : decode cX0_cell 91 = .ok (.invokevirtual 188, 3) := dk_182 0 188 (dk_at dksX0_cell_3 19 rfl rfl)
theorem dX0_cell_94 : decode cX0_cell 94 = .ok (.ifCond .eq 7, 3) := dk_153 0 7 (dk_at dksX0_cell_4 0 rfl rfl)
theorem dX0_cell_97 : decode cX0_cell 97 = .ok (.iconst 1, 1) := dk_4 (dk_at dksX0_cell_4 3 rfl rfl)
theorem dX0_cell_98 : decode cX0_cell 98 = .ok (.goto 4, 3) := dk_167 0 4 (dk_at dksX0_cell_4 4 rfl rfl)
theorem dX0_cell_101 : decode cX0_cell 101 = .ok (.iconst 0, 1) := dk_3 (dk_at dksX0_cell_4 7 rfl rfl)
theorem dX0_cell_102 : decode cX0_cell 102 = .ok (.ireturn, 1) := dk_172 (dk_at dksX0_cell_4 8 rfl rfl)
theorem dX0_cell_103 : decode cX0_cell 103 = .ok (.bipush (-2), 2) := dk_16 254 (dk_at dksX0_cell_4 9 rfl rfl)
theorem dX0_cell_105 : decode cX0_cell 105 = .ok (.ireturn, 1) := dk_172 (dk_at dksX0_cell_4 11 rfl rfl)
abbrev cX0_isCell : ByteArray := prog_1_method_12_code
def yX0_isCell : MethodName := ⟨RX0, "isCell", "(I)Z"⟩
def dkwX0_isCell_1 : List UInt8 := [167, 0, 4, 3, 172]
abbrev dktX0_isCell_1 : List UInt8 := dkwX0_isCell_1 ++ []
def dkwX0_isCell_0 : List UInt8 := [42, 180, 0, 149, 198, 0, 22, 27, 155, 0, 18, 27, 42, 180, 0, 149, 180, 0, 152, 162, 0, 7, 4]
abbrev dktX0_isCell_0 : List UInt8 := dkwX0_isCell_0 ++ dktX0_isCell_1
theorem dksX0_isCell_0 : cX0_isCell.data.toList.drop 0 = dktX0_isCell_0 := by decide +kernel
theorem dksX0_isCell_1 : cX0_isCell.data.toList.drop 23 = dktX0_isCell_1 := dk_seg dksX0_isCell_0 23 rfl rfl
theorem dX0_isCell_0 : decode cX0_isCell 0 = .ok (.aload_n 0, 1) := dk_42 (dk_at dksX0_isCell_0 0 rfl rfl)
theorem dX0_isCell_1 : decode cX0_isCell 1 = .ok (.getfield 149, 3) := dk_180 0 149 (dk_at dksX0_isCell_0 1 rfl rfl)
theorem dX0_isCell_4 : decode cX0_isCell 4 = .ok (.ifnull 22, 3) := dk_198 0 22 (dk_at dksX0_isCell_0 4 rfl rfl)
theorem dX0_isCell_7 : decode cX0_isCell 7 = .ok (.iload_n 1, 1) := dk_27 (dk_at dksX0_isCell_0 7 rfl rfl)
theorem dX0_isCell_8 : decode cX0_isCell 8 = .ok (.ifCond .lt 18, 3) := dk_155 0 18 (dk_at dksX0_isCell_0 8 rfl rfl)
theorem dX0_isCell_11 : decode cX0_isCell 11 = .ok (.iload_n 1, 1) := dk_27 (dk_at dksX0_isCell_0 11 rfl rfl)
theorem dX0_isCell_12 : decode cX0_isCell 12 = .ok (.aload_n 0, 1) := dk_42 (dk_at dksX0_isCell_0 12 rfl rfl)
theorem dX0_isCell_13 : decode cX0_isCell 13 = .ok (.getfield 149, 3) := dk_180 0 149 (dk_at dksX0_isCell_0 13 rfl rfl)
theorem dX0_isCell_16 : decode cX0_isCell 16 = .ok (.getfield 152, 3) := dk_180 0 152 (dk_at dksX0_isCell_0 16 rfl rfl)
theorem dX0_isCell_19 : decode cX0_isCell 19 = .ok (.if_icmp .ge 7, 3) := dk_162 0 7 (dk_at dksX0_isCell_0 19 rfl rfl)
theorem dX0_isCell_22 : decode cX0_isCell 22 = .ok (.iconst 1, 1) := dk_4 (dk_at dksX0_isCell_0 22 rfl rfl)
theorem dX0_isCell_23 : decode cX0_isCell 23 = .ok (.goto 4, 3) := dk_167 0 4 (dk_at dksX0_isCell_1 0 rfl rfl)
theorem dX0_isCell_26 : decode cX0_isCell 26 = .ok (.iconst 0, 1) := dk_3 (dk_at dksX0_isCell_1 3 rfl rfl)
theorem dX0_isCell_27 : decode cX0_isCell 27 = .ok (.ireturn, 1) := dk_172 (dk_at dksX0_isCell_1 4 rfl rfl)
abbrev cX0_coat : ByteArray := prog_1_method_16_code
def yX0_coat : MethodName := ⟨RX0, "coat", "(III)I"⟩
def dkwX0_coat_5 : List UInt8 := [184, 0, 206, 172]
abbrev dktX0_coat_5 : List UInt8 := dkwX0_coat_5 ++ []
def dkwX0_coat_4 : List UInt8 := [180, 0, 149, 180, 0, 197, 21, 4, 46, 46, 167, 0, 17, 2, 42, 180, 0, 149, 180, 0, 203, 21, 4, 46]
abbrev dktX0_coat_4 : List UInt8 := dkwX0_coat_4 ++ dktX0_coat_5
def dkwX0_coat_3 : List UInt8 := [180, 0, 197, 21, 4, 46, 167, 0, 43, 29, 4, 160, 0, 24, 42, 180, 0, 149, 180, 0, 200, 42]
abbrev dktX0_coat_3 : List UInt8 := dkwX0_coat_3 ++ dktX0_coat_4
def dkwX0_coat_2 : List UInt8 := [180, 0, 149, 180, 0, 179, 27, 46, 96, 4, 100, 28, 100, 54, 4, 29, 154, 0, 16, 42, 180, 0, 149]
abbrev dktX0_coat_2 : List UInt8 := dkwX0_coat_2 ++ dktX0_coat_3
def dkwX0_coat_1 : List UInt8 := [162, 0, 15, 29, 133, 9, 20, 0, 191, 184, 0, 193, 154, 0, 6, 16, 254, 172, 8, 27, 104, 42]
abbrev dktX0_coat_1 : List UInt8 := dkwX0_coat_1 ++ dktX0_coat_2
def dkwX0_coat_0 : List UInt8 := [42, 27, 182, 0, 172, 153, 0, 32, 28, 155, 0, 28, 28, 42, 180, 0, 149, 180, 0, 179, 27, 46]
abbrev dktX0_coat_0 : List UInt8 := dkwX0_coat_0 ++ dktX0_coat_1
theorem dksX0_coat_0 : cX0_coat.data.toList.drop 0 = dktX0_coat_0 := by decide +kernel
theorem dksX0_coat_1 : cX0_coat.data.toList.drop 22 = dktX0_coat_1 := dk_seg dksX0_coat_0 22 rfl rfl
theorem dksX0_coat_2 : cX0_coat.data.toList.drop 44 = dktX0_coat_2 := dk_seg dksX0_coat_1 22 rfl rfl
theorem dksX0_coat_3 : cX0_coat.data.toList.drop 67 = dktX0_coat_3 := dk_seg dksX0_coat_2 23 rfl rfl
theorem dksX0_coat_4 : cX0_coat.data.toList.drop 89 = dktX0_coat_4 := dk_seg dksX0_coat_3 22 rfl rfl
theorem dksX0_coat_5 : cX0_coat.data.toList.drop 113 = dktX0_coat_5 := dk_seg dksX0_coat_4 24 rfl rfl
theorem dX0_coat_0 : decode cX0_coat 0 = .ok (.aload_n 0, 1) := dk_42 (dk_at dksX0_coat_0 0 rfl rfl)
theorem dX0_coat_1 : decode cX0_coat 1 = .ok (.iload_n 1, 1) := dk_27 (dk_at dksX0_coat_0 1 rfl rfl)
theorem dX0_coat_2 : decode cX0_coat 2 = .ok (.invokevirtual 172, 3) := dk_182 0 172 (dk_at dksX0_coat_0 2 rfl rfl)
theorem dX0_coat_5 : decode cX0_coat 5 = .ok (.ifCond .eq 32, 3) := dk_153 0 32 (dk_at dksX0_coat_0 5 rfl rfl)
theorem dX0_coat_8 : decode cX0_coat 8 = .ok (.iload_n 2, 1) := dk_28 (dk_at dksX0_coat_0 8 rfl rfl)
theorem dX0_coat_9 : decode cX0_coat 9 = .ok (.ifCond .lt 28, 3) := dk_155 0 28 (dk_at dksX0_coat_0 9 rfl rfl)
theorem dX0_coat_12 : decode cX0_coat 12 = .ok (.iload_n 2, 1) := dk_28 (dk_at dksX0_coat_0 12 rfl rfl)
theorem dX0_coat_13 : decode cX0_coat 13 = .ok (.aload_n 0, 1) := dk_42 (dk_at dksX0_coat_0 13 rfl rfl)
theorem dX0_coat_14 : decode cX0_coat 14 = .ok (.getfield 149, 3) := dk_180 0 149 (dk_at dksX0_coat_0 14 rfl rfl)
theorem dX0_coat_17 : decode cX0_coat 17 = .ok (.getfield 179, 3) := dk_180 0 179 (dk_at dksX0_coat_0 17 rfl rfl)
theorem dX0_coat_20 : decode cX0_coat 20 = .ok (.iload_n 1, 1) := dk_27 (dk_at dksX0_coat_0 20 rfl rfl)
theorem dX0_coat_21 : decode cX0_coat 21 = .ok (.iaload, 1) := dk_46 (dk_at dksX0_coat_0 21 rfl rfl)
theorem dX0_coat_22 : decode cX0_coat 22 = .ok (.if_icmp .ge 15, 3) := dk_162 0 15 (dk_at dksX0_coat_1 0 rfl rfl)
theorem dX0_coat_25 : decode cX0_coat 25 = .ok (.iload_n 3, 1) := dk_29 (dk_at dksX0_coat_1 3 rfl rfl)
theorem dX0_coat_26 : decode cX0_coat 26 = .ok (.i2l, 1) := dk_133 (dk_at dksX0_coat_1 4 rfl rfl)
theorem dX0_coat_27 : decode cX0_coat 27 = .ok (.lconst 0, 1) := dk_9 (dk_at dksX0_coat_1 5 rfl rfl)
theorem dX0_coat_28 : decode cX0_coat 28 = .ok (.ldc2_w 191, 3) := dk_20 0 191 (dk_at dksX0_coat_1 6 rfl rfl)
theorem dX0_coat_31 : decode cX0_coat 31 = .ok (.invokestatic 193, 3) := dk_184 0 193 (dk_at dksX0_coat_1 9 rfl rfl)
theorem dX0_coat_34 : decode cX0_coat 34 = .ok (.ifCond .ne 6, 3) := dk_154 0 6 (dk_at dksX0_coat_1 12 rfl rfl)
theorem dX0_coat_37 : decode cX0_coat 37 = .ok (.bipush (-2), 2) := dk_16 254 (dk_at dksX0_coat_1 15 rfl rfl)
theorem dX0_coat_39 : decode cX0_coat 39 = .ok (.ireturn, 1) := dk_172 (dk_at dksX0_coat_1 17 rfl rfl)
theorem dX0_coat_40 : decode cX0_coat 40 = .ok (.iconst 5, 1) := dk_8 (dk_at dksX0_coat_1 18 rfl rfl)
theorem dX0_coat_41 : decode cX0_coat 41 = .ok (.iload_n 1, 1) := dk_27 (dk_at dksX0_coat_1 19 rfl rfl)
theorem dX0_coat_42 : decode cX0_coat 42 = .ok (.imul, 1) := dk_104 (dk_at dksX0_coat_1 20 rfl rfl)
theorem dX0_coat_43 : decode cX0_coat 43 = .ok (.aload_n 0, 1) := dk_42 (dk_at dksX0_coat_1 21 rfl rfl)
theorem dX0_coat_44 : decode cX0_coat 44 = .ok (.getfield 149, 3) := dk_180 0 149 (dk_at dksX0_coat_2 0 rfl rfl)
theorem dX0_coat_47 : decode cX0_coat 47 = .ok (.getfield 179, 3) := dk_180 0 179 (dk_at dksX0_coat_2 3 rfl rfl)
theorem dX0_coat_50 : decode cX0_coat 50 = .ok (.iload_n 1, 1) := dk_27 (dk_at dksX0_coat_2 6 rfl rfl)
theorem dX0_coat_51 : decode cX0_coat 51 = .ok (.iaload, 1) := dk_46 (dk_at dksX0_coat_2 7 rfl rfl)
theorem dX0_coat_52 : decode cX0_coat 52 = .ok (.iadd, 1) := dk_96 (dk_at dksX0_coat_2 8 rfl rfl)
theorem dX0_coat_53 : decode cX0_coat 53 = .ok (.iconst 1, 1) := dk_4 (dk_at dksX0_coat_2 9 rfl rfl)
theorem dX0_coat_54 : decode cX0_coat 54 = .ok (.isub, 1) := dk_100 (dk_at dksX0_coat_2 10 rfl rfl)
theorem dX0_coat_55 : decode cX0_coat 55 = .ok (.iload_n 2, 1) := dk_28 (dk_at dksX0_coat_2 11 rfl rfl)
theorem dX0_coat_56 : decode cX0_coat 56 = .ok (.isub, 1) := dk_100 (dk_at dksX0_coat_2 12 rfl rfl)
theorem dX0_coat_57 : decode cX0_coat 57 = .ok (.istore 4, 2) := dk_54 4 (dk_at dksX0_coat_2 13 rfl rfl)
theorem dX0_coat_59 : decode cX0_coat 59 = .ok (.iload_n 3, 1) := dk_29 (dk_at dksX0_coat_2 15 rfl rfl)
theorem dX0_coat_60 : decode cX0_coat 60 = .ok (.ifCond .ne 16, 3) := dk_154 0 16 (dk_at dksX0_coat_2 16 rfl rfl)
theorem dX0_coat_63 : decode cX0_coat 63 = .ok (.aload_n 0, 1) := dk_42 (dk_at dksX0_coat_2 19 rfl rfl)
theorem dX0_coat_64 : decode cX0_coat 64 = .ok (.getfield 149, 3) := dk_180 0 149 (dk_at dksX0_coat_2 20 rfl rfl)
theorem dX0_coat_67 : decode cX0_coat 67 = .ok (.getfield 197, 3) := dk_180 0 197 (dk_at dksX0_coat_3 0 rfl rfl)
theorem dX0_coat_70 : decode cX0_coat 70 = .ok (.iload 4, 2) := dk_21 4 (dk_at dksX0_coat_3 3 rfl rfl)
theorem dX0_coat_72 : decode cX0_coat 72 = .ok (.iaload, 1) := dk_46 (dk_at dksX0_coat_3 5 rfl rfl)
theorem dX0_coat_73 : decode cX0_coat 73 = .ok (.goto 43, 3) := dk_167 0 43 (dk_at dksX0_coat_3 6 rfl rfl)
theorem dX0_coat_76 : decode cX0_coat 76 = .ok (.iload_n 3, 1) := dk_29 (dk_at dksX0_coat_3 9 rfl rfl)
theorem dX0_coat_77 : decode cX0_coat 77 = .ok (.iconst 1, 1) := dk_4 (dk_at dksX0_coat_3 10 rfl rfl)
theorem dX0_coat_78 : decode cX0_coat 78 = .ok (.if_icmp .ne 24, 3) := dk_160 0 24 (dk_at dksX0_coat_3 11 rfl rfl)
theorem dX0_coat_81 : decode cX0_coat 81 = .ok (.aload_n 0, 1) := dk_42 (dk_at dksX0_coat_3 14 rfl rfl)
theorem dX0_coat_82 : decode cX0_coat 82 = .ok (.getfield 149, 3) := dk_180 0 149 (dk_at dksX0_coat_3 15 rfl rfl)
theorem dX0_coat_85 : decode cX0_coat 85 = .ok (.getfield 200, 3) := dk_180 0 200 (dk_at dksX0_coat_3 18 rfl rfl)
theorem dX0_coat_88 : decode cX0_coat 88 = .ok (.aload_n 0, 1) := dk_42 (dk_at dksX0_coat_3 21 rfl rfl)
theorem dX0_coat_89 : decode cX0_coat 89 = .ok (.getfield 149, 3) := dk_180 0 149 (dk_at dksX0_coat_4 0 rfl rfl)
theorem dX0_coat_92 : decode cX0_coat 92 = .ok (.getfield 197, 3) := dk_180 0 197 (dk_at dksX0_coat_4 3 rfl rfl)
theorem dX0_coat_95 : decode cX0_coat 95 = .ok (.iload 4, 2) := dk_21 4 (dk_at dksX0_coat_4 6 rfl rfl)
theorem dX0_coat_97 : decode cX0_coat 97 = .ok (.iaload, 1) := dk_46 (dk_at dksX0_coat_4 8 rfl rfl)
theorem dX0_coat_98 : decode cX0_coat 98 = .ok (.iaload, 1) := dk_46 (dk_at dksX0_coat_4 9 rfl rfl)
theorem dX0_coat_99 : decode cX0_coat 99 = .ok (.goto 17, 3) := dk_167 0 17 (dk_at dksX0_coat_4 10 rfl rfl)
theorem dX0_coat_102 : decode cX0_coat 102 = .ok (.iconst (-1), 1) := dk_2 (dk_at dksX0_coat_4 13 rfl rfl)
theorem dX0_coat_103 : decode cX0_coat 103 = .ok (.aload_n 0, 1) := dk_42 (dk_at dksX0_coat_4 14 rfl rfl)
theorem dX0_coat_104 : decode cX0_coat 104 = .ok (.getfield 149, 3) := dk_180 0 149 (dk_at dksX0_coat_4 15 rfl rfl)
theorem dX0_coat_107 : decode cX0_coat 107 = .ok (.getfield 203, 3) := dk_180 0 203 (dk_at dksX0_coat_4 18 rfl rfl)
theorem dX0_coat_110 : decode cX0_coat 110 = .ok (.iload 4, 2) := dk_21 4 (dk_at dksX0_coat_4 21 rfl rfl)
theorem dX0_coat_112 : decode cX0_coat 112 = .ok (.iaload, 1) := dk_46 (dk_at dksX0_coat_4 23 rfl rfl)
theorem dX0_coat_113 : decode cX0_coat 113 = .ok (.invokestatic 206, 3) := dk_184 0 206 (dk_at dksX0_coat_5 0 rfl rfl)
theorem dX0_coat_116 : decode cX0_coat 116 = .ok (.ireturn, 1) := dk_172 (dk_at dksX0_coat_5 3 rfl rfl)
abbrev cX0_thing : ByteArray := prog_1_method_17_code
def yX0_thing : MethodName := ⟨RX0, "thing", "(II)I"⟩
def dkwX0_thing_4 : List UInt8 := [184, 0, 227, 153, 0, 7, 4, 167, 0, 4, 3, 172, 16, 254, 172]
abbrev dktX0_thing_4 : List UInt8 := dkwX0_thing_4 ++ []
def dkwX0_thing_3 : List UInt8 := [180, 0, 221, 27, 46, 172, 42, 180, 0, 149, 27, 182, 0, 223, 172, 42, 180, 0, 149, 180, 0, 225, 27]
abbrev dktX0_thing_3 : List UInt8 := dkwX0_thing_3 ++ dktX0_thing_4
def dkwX0_thing_2 : List UInt8 := [42, 180, 0, 149, 180, 0, 215, 27, 46, 172, 42, 180, 0, 149, 180, 0, 218, 27, 46, 172, 42, 180, 0, 149]
abbrev dktX0_thing_2 : List UInt8 := dkwX0_thing_2 ++ dktX0_thing_3
def dkwX0_thing_1 : List UInt8 := [170, 0, 0, 0, 0, 0, 0, 95, 0, 0, 0, 0, 0, 0, 0, 4, 0, 0, 0, 36, 0, 0, 0, 46, 0, 0, 0, 56, 0, 0, 0, 66, 0, 0, 0, 75]
abbrev dktX0_thing_1 : List UInt8 := dkwX0_thing_1 ++ dktX0_thing_2
def dkwX0_thing_0 : List UInt8 := [42, 27, 182, 0, 212, 154, 0, 6, 16, 254, 172, 28]
abbrev dktX0_thing_0 : List UInt8 := dkwX0_thing_0 ++ dktX0_thing_1
theorem dksX0_thing_0 : cX0_thing.data.toList.drop 0 = dktX0_thing_0 := by decide +kernel
theorem dksX0_thing_1 : cX0_thing.data.toList.drop 12 = dktX0_thing_1 := dk_seg dksX0_thing_0 12 rfl rfl
theorem dksX0_thing_2 : cX0_thing.data.toList.drop 48 = dktX0_thing_2 := dk_seg dksX0_thing_1 36 rfl rfl
theorem dksX0_thing_3 : cX0_thing.data.toList.drop 72 = dktX0_thing_3 := dk_seg dksX0_thing_2 24 rfl rfl
theorem dksX0_thing_4 : cX0_thing.data.toList.drop 95 = dktX0_thing_4 := dk_seg dksX0_thing_3 23 rfl rfl
theorem dX0_thing_0 : decode cX0_thing 0 = .ok (.aload_n 0, 1) := dk_42 (dk_at dksX0_thing_0 0 rfl rfl)
theorem dX0_thing_1 : decode cX0_thing 1 = .ok (.iload_n 1, 1) := dk_27 (dk_at dksX0_thing_0 1 rfl rfl)
theorem dX0_thing_2 : decode cX0_thing 2 = .ok (.invokevirtual 212, 3) := dk_182 0 212 (dk_at dksX0_thing_0 2 rfl rfl)
theorem dX0_thing_5 : decode cX0_thing 5 = .ok (.ifCond .ne 6, 3) := dk_154 0 6 (dk_at dksX0_thing_0 5 rfl rfl)
theorem dX0_thing_8 : decode cX0_thing 8 = .ok (.bipush (-2), 2) := dk_16 254 (dk_at dksX0_thing_0 8 rfl rfl)
theorem dX0_thing_10 : decode cX0_thing 10 = .ok (.ireturn, 1) := dk_172 (dk_at dksX0_thing_0 10 rfl rfl)
theorem dX0_thing_11 : decode cX0_thing 11 = .ok (.iload_n 2, 1) := dk_28 (dk_at dksX0_thing_0 11 rfl rfl)
theorem dX0_thing_12 : decode cX0_thing 12 = .ok (.tableswitch 95 0 4 #[36, 46, 56, 66, 75], 36) := by decide +kernel
theorem dX0_thing_48 : decode cX0_thing 48 = .ok (.aload_n 0, 1) := dk_42 (dk_at dksX0_thing_2 0 rfl rfl)
theorem dX0_thing_49 : decode cX0_thing 49 = .ok (.getfield 149, 3) := dk_180 0 149 (dk_at dksX0_thing_2 1 rfl rfl)
theorem dX0_thing_52 : decode cX0_thing 52 = .ok (.getfield 215, 3) := dk_180 0 215 (dk_at dksX0_thing_2 4 rfl rfl)
theorem dX0_thing_55 : decode cX0_thing 55 = .ok (.iload_n 1, 1) := dk_27 (dk_at dksX0_thing_2 7 rfl rfl)
theorem dX0_thing_56 : decode cX0_thing 56 = .ok (.iaload, 1) := dk_46 (dk_at dksX0_thing_2 8 rfl rfl)
theorem dX0_thing_57 : decode cX0_thing 57 = .ok (.ireturn, 1) := dk_172 (dk_at dksX0_thing_2 9 rfl rfl)
theorem dX0_thing_58 : decode cX0_thing 58 = .ok (.aload_n 0, 1) := dk_42 (dk_at dksX0_thing_2 10 rfl rfl)
theorem dX0_thing_59 : decode cX0_thing 59 = .ok (.getfield 149, 3) := dk_180 0 149 (dk_at dksX0_thing_2 11 rfl rfl)
theorem dX0_thing_62 : decode cX0_thing 62 = .ok (.getfield 218, 3) := dk_180 0 218 (dk_at dksX0_thing_2 14 rfl rfl)
theorem dX0_thing_65 : decode cX0_thing 65 = .ok (.iload_n 1, 1) := dk_27 (dk_at dksX0_thing_2 17 rfl rfl)
theorem dX0_thing_66 : decode cX0_thing 66 = .ok (.iaload, 1) := dk_46 (dk_at dksX0_thing_2 18 rfl rfl)
theorem dX0_thing_67 : decode cX0_thing 67 = .ok (.ireturn, 1) := dk_172 (dk_at dksX0_thing_2 19 rfl rfl)
theorem dX0_thing_68 : decode cX0_thing 68 = .ok (.aload_n 0, 1) := dk_42 (dk_at dksX0_thing_2 20 rfl rfl)
theorem dX0_thing_69 : decode cX0_thing 69 = .ok (.getfield 149, 3) := dk_180 0 149 (dk_at dksX0_thing_2 21 rfl rfl)
theorem dX0_thing_72 : decode cX0_thing 72 = .ok (.getfield 221, 3) := dk_180 0 221 (dk_at dksX0_thing_3 0 rfl rfl)
theorem dX0_thing_75 : decode cX0_thing 75 = .ok (.iload_n 1, 1) := dk_27 (dk_at dksX0_thing_3 3 rfl rfl)
theorem dX0_thing_76 : decode cX0_thing 76 = .ok (.iaload, 1) := dk_46 (dk_at dksX0_thing_3 4 rfl rfl)
theorem dX0_thing_77 : decode cX0_thing 77 = .ok (.ireturn, 1) := dk_172 (dk_at dksX0_thing_3 5 rfl rfl)
theorem dX0_thing_78 : decode cX0_thing 78 = .ok (.aload_n 0, 1) := dk_42 (dk_at dksX0_thing_3 6 rfl rfl)
theorem dX0_thing_79 : decode cX0_thing 79 = .ok (.getfield 149, 3) := dk_180 0 149 (dk_at dksX0_thing_3 7 rfl rfl)
theorem dX0_thing_82 : decode cX0_thing 82 = .ok (.iload_n 1, 1) := dk_27 (dk_at dksX0_thing_3 10 rfl rfl)
theorem dX0_thing_83 : decode cX0_thing 83 = .ok (.invokevirtual 223, 3) := dk_182 0 223 (dk_at dksX0_thing_3 11 rfl rfl)
theorem dX0_thing_86 : decode cX0_thing 86 = .ok (.ireturn, 1) := dk_172 (dk_at dksX0_thing_3 14 rfl rfl)
theorem dX0_thing_87 : decode cX0_thing 87 = .ok (.aload_n 0, 1) := dk_42 (dk_at dksX0_thing_3 15 rfl rfl)
theorem dX0_thing_88 : decode cX0_thing 88 = .ok (.getfield 149, 3) := dk_180 0 149 (dk_at dksX0_thing_3 16 rfl rfl)
theorem dX0_thing_91 : decode cX0_thing 91 = .ok (.getfield 225, 3) := dk_180 0 225 (dk_at dksX0_thing_3 19 rfl rfl)
theorem dX0_thing_94 : decode cX0_thing 94 = .ok (.iload_n 1, 1) := dk_27 (dk_at dksX0_thing_3 22 rfl rfl)
theorem dX0_thing_95 : decode cX0_thing 95 = .ok (.invokestatic 227, 3) := dk_184 0 227 (dk_at dksX0_thing_4 0 rfl rfl)
theorem dX0_thing_98 : decode cX0_thing 98 = .ok (.ifCond .eq 7, 3) := dk_153 0 7 (dk_at dksX0_thing_4 3 rfl rfl)
theorem dX0_thing_101 : decode cX0_thing 101 = .ok (.iconst 1, 1) := dk_4 (dk_at dksX0_thing_4 6 rfl rfl)
theorem dX0_thing_102 : decode cX0_thing 102 = .ok (.goto 4, 3) := dk_167 0 4 (dk_at dksX0_thing_4 7 rfl rfl)
theorem dX0_thing_105 : decode cX0_thing 105 = .ok (.iconst 0, 1) := dk_3 (dk_at dksX0_thing_4 10 rfl rfl)
theorem dX0_thing_106 : decode cX0_thing 106 = .ok (.ireturn, 1) := dk_172 (dk_at dksX0_thing_4 11 rfl rfl)
theorem dX0_thing_107 : decode cX0_thing 107 = .ok (.bipush (-2), 2) := dk_16 254 (dk_at dksX0_thing_4 12 rfl rfl)
theorem dX0_thing_109 : decode cX0_thing 109 = .ok (.ireturn, 1) := dk_172 (dk_at dksX0_thing_4 14 rfl rfl)
abbrev cX0_isThing : ByteArray := prog_1_method_13_code
def yX0_isThing : MethodName := ⟨RX0, "isThing", "(I)Z"⟩
def dkwX0_isThing_1 : List UInt8 := [167, 0, 4, 3, 172]
abbrev dktX0_isThing_1 : List UInt8 := dkwX0_isThing_1 ++ []
def dkwX0_isThing_0 : List UInt8 := [42, 180, 0, 149, 198, 0, 22, 27, 155, 0, 18, 27, 42, 180, 0, 149, 180, 0, 166, 162, 0, 7, 4]
abbrev dktX0_isThing_0 : List UInt8 := dkwX0_isThing_0 ++ dktX0_isThing_1
theorem dksX0_isThing_0 : cX0_isThing.data.toList.drop 0 = dktX0_isThing_0 := by decide +kernel
theorem dksX0_isThing_1 : cX0_isThing.data.toList.drop 23 = dktX0_isThing_1 := dk_seg dksX0_isThing_0 23 rfl rfl
theorem dX0_isThing_0 : decode cX0_isThing 0 = .ok (.aload_n 0, 1) := dk_42 (dk_at dksX0_isThing_0 0 rfl rfl)
theorem dX0_isThing_1 : decode cX0_isThing 1 = .ok (.getfield 149, 3) := dk_180 0 149 (dk_at dksX0_isThing_0 1 rfl rfl)
theorem dX0_isThing_4 : decode cX0_isThing 4 = .ok (.ifnull 22, 3) := dk_198 0 22 (dk_at dksX0_isThing_0 4 rfl rfl)
theorem dX0_isThing_7 : decode cX0_isThing 7 = .ok (.iload_n 1, 1) := dk_27 (dk_at dksX0_isThing_0 7 rfl rfl)
theorem dX0_isThing_8 : decode cX0_isThing 8 = .ok (.ifCond .lt 18, 3) := dk_155 0 18 (dk_at dksX0_isThing_0 8 rfl rfl)
theorem dX0_isThing_11 : decode cX0_isThing 11 = .ok (.iload_n 1, 1) := dk_27 (dk_at dksX0_isThing_0 11 rfl rfl)
theorem dX0_isThing_12 : decode cX0_isThing 12 = .ok (.aload_n 0, 1) := dk_42 (dk_at dksX0_isThing_0 12 rfl rfl)
theorem dX0_isThing_13 : decode cX0_isThing 13 = .ok (.getfield 149, 3) := dk_180 0 149 (dk_at dksX0_isThing_0 13 rfl rfl)
theorem dX0_isThing_16 : decode cX0_isThing 16 = .ok (.getfield 166, 3) := dk_180 0 166 (dk_at dksX0_isThing_0 16 rfl rfl)
theorem dX0_isThing_19 : decode cX0_isThing 19 = .ok (.if_icmp .ge 7, 3) := dk_162 0 7 (dk_at dksX0_isThing_0 19 rfl rfl)
theorem dX0_isThing_22 : decode cX0_isThing 22 = .ok (.iconst 1, 1) := dk_4 (dk_at dksX0_isThing_0 22 rfl rfl)
theorem dX0_isThing_23 : decode cX0_isThing 23 = .ok (.goto 4, 3) := dk_167 0 4 (dk_at dksX0_isThing_1 0 rfl rfl)
theorem dX0_isThing_26 : decode cX0_isThing 26 = .ok (.iconst 0, 1) := dk_3 (dk_at dksX0_isThing_1 3 rfl rfl)
theorem dX0_isThing_27 : decode cX0_isThing 27 = .ok (.ireturn, 1) := dk_172 (dk_at dksX0_isThing_1 4 rfl rfl)
abbrev cX0_painter : ByteArray := prog_1_method_18_code
def yX0_painter : MethodName := ⟨RX0, "painter", "(II)I"⟩
def dkwX0_painter_6 : List UInt8 := [160, 0, 10, 4, 21, 4, 120, 167, 0, 4, 3, 128, 62, 132, 4, 1, 167, 255, 217, 29, 172, 2, 172]
abbrev dktX0_painter_6 : List UInt8 := dkwX0_painter_6 ++ []
def dkwX0_painter_5 : List UInt8 := [21, 4, 42, 180, 0, 149, 180, 0, 166, 162, 0, 33, 29, 42, 180, 0, 149, 21, 4, 182, 0, 223, 27]
abbrev dktX0_painter_5 : List UInt8 := dkwX0_painter_5 ++ dktX0_painter_6
def dkwX0_painter_4 : List UInt8 := [160, 0, 10, 4, 21, 4, 120, 167, 0, 4, 3, 128, 62, 132, 4, 1, 167, 255, 217, 29, 172, 3, 54, 4]
abbrev dktX0_painter_4 : List UInt8 := dkwX0_painter_4 ++ dktX0_painter_5
def dkwX0_painter_3 : List UInt8 := [21, 4, 42, 180, 0, 149, 180, 0, 152, 162, 0, 33, 29, 42, 180, 0, 149, 21, 4, 182, 0, 182, 27]
abbrev dktX0_painter_3 : List UInt8 := dkwX0_painter_3 ++ dktX0_painter_4
def dkwX0_painter_2 : List UInt8 := [42, 180, 0, 149, 180, 0, 200, 27, 46, 172, 42, 180, 0, 149, 180, 0, 234, 27, 46, 172, 3, 54, 4]
abbrev dktX0_painter_2 : List UInt8 := dkwX0_painter_2 ++ dktX0_painter_3
def dkwX0_painter_1 : List UInt8 := [170, 0, 0, 0, 0, 0, 145, 0, 0, 0, 0, 0, 0, 0, 3, 0, 0, 0, 31, 0, 0, 0, 41, 0, 0, 0, 51, 0, 0, 0, 98]
abbrev dktX0_painter_1 : List UInt8 := dkwX0_painter_1 ++ dktX0_painter_2
def dkwX0_painter_0 : List UInt8 := [42, 27, 182, 0, 231, 154, 0, 5, 2, 172, 3, 62, 28]
abbrev dktX0_painter_0 : List UInt8 := dkwX0_painter_0 ++ dktX0_painter_1
theorem dksX0_painter_0 : cX0_painter.data.toList.drop 0 = dktX0_painter_0 := by decide +kernel
theorem dksX0_painter_1 : cX0_painter.data.toList.drop 13 = dktX0_painter_1 := dk_seg dksX0_painter_0 13 rfl rfl
theorem dksX0_painter_2 : cX0_painter.data.toList.drop 44 = dktX0_painter_2 := dk_seg dksX0_painter_1 31 rfl rfl
theorem dksX0_painter_3 : cX0_painter.data.toList.drop 67 = dktX0_painter_3 := dk_seg dksX0_painter_2 23 rfl rfl
theorem dksX0_painter_4 : cX0_painter.data.toList.drop 90 = dktX0_painter_4 := dk_seg dksX0_painter_3 23 rfl rfl
theorem dksX0_painter_5 : cX0_painter.data.toList.drop 114 = dktX0_painter_5 := dk_seg dksX0_painter_4 24 rfl rfl
theorem dksX0_painter_6 : cX0_painter.data.toList.drop 137 = dktX0_painter_6 := dk_seg dksX0_painter_5 23 rfl rfl
theorem dX0_painter_0 : decode cX0_painter 0 = .ok (.aload_n 0, 1) := dk_42 (dk_at dksX0_painter_0 0 rfl rfl)
theorem dX0_painter_1 : decode cX0_painter 1 = .ok (.iload_n 1, 1) := dk_27 (dk_at dksX0_painter_0 1 rfl rfl)
theorem dX0_painter_2 : decode cX0_painter 2 = .ok (.invokevirtual 231, 3) := dk_182 0 231 (dk_at dksX0_painter_0 2 rfl rfl)
theorem dX0_painter_5 : decode cX0_painter 5 = .ok (.ifCond .ne 5, 3) := dk_154 0 5 (dk_at dksX0_painter_0 5 rfl rfl)
theorem dX0_painter_8 : decode cX0_painter 8 = .ok (.iconst (-1), 1) := dk_2 (dk_at dksX0_painter_0 8 rfl rfl)
theorem dX0_painter_9 : decode cX0_painter 9 = .ok (.ireturn, 1) := dk_172 (dk_at dksX0_painter_0 9 rfl rfl)
theorem dX0_painter_10 : decode cX0_painter 10 = .ok (.iconst 0, 1) := dk_3 (dk_at dksX0_painter_0 10 rfl rfl)
theorem dX0_painter_11 : decode cX0_painter 11 = .ok (.istore_n 3, 1) := dk_62 (dk_at dksX0_painter_0 11 rfl rfl)
theorem dX0_painter_12 : decode cX0_painter 12 = .ok (.iload_n 2, 1) := dk_28 (dk_at dksX0_painter_0 12 rfl rfl)
theorem dX0_painter_13 : decode cX0_painter 13 = .ok (.tableswitch 145 0 3 #[31, 41, 51, 98], 31) := by decide +kernel
theorem dX0_painter_44 : decode cX0_painter 44 = .ok (.aload_n 0, 1) := dk_42 (dk_at dksX0_painter_2 0 rfl rfl)
theorem dX0_painter_45 : decode cX0_painter 45 = .ok (.getfield 149, 3) := dk_180 0 149 (dk_at dksX0_painter_2 1 rfl rfl)
theorem dX0_painter_48 : decode cX0_painter 48 = .ok (.getfield 200, 3) := dk_180 0 200 (dk_at dksX0_painter_2 4 rfl rfl)
theorem dX0_painter_51 : decode cX0_painter 51 = .ok (.iload_n 1, 1) := dk_27 (dk_at dksX0_painter_2 7 rfl rfl)
theorem dX0_painter_52 : decode cX0_painter 52 = .ok (.iaload, 1) := dk_46 (dk_at dksX0_painter_2 8 rfl rfl)
theorem dX0_painter_53 : decode cX0_painter 53 = .ok (.ireturn, 1) := dk_172 (dk_at dksX0_painter_2 9 rfl rfl)
theorem dX0_painter_54 : decode cX0_painter 54 = .ok (.aload_n 0, 1) := dk_42 (dk_at dksX0_painter_2 10 rfl rfl)
theorem dX0_painter_55 : decode cX0_painter 55 = .ok (.getfield 149, 3) := dk_180 0 149 (dk_at dksX0_painter_2 11 rfl rfl)
theorem dX0_painter_58 : decode cX0_painter 58 = .ok (.getfield 234, 3) := dk_180 0 234 (dk_at dksX0_painter_2 14 rfl rfl)
theorem dX0_painter_61 : decode cX0_painter 61 = .ok (.iload_n 1, 1) := dk_27 (dk_at dksX0_painter_2 17 rfl rfl)
theorem dX0_painter_62 : decode cX0_painter 62 = .ok (.iaload, 1) := dk_46 (dk_at dksX0_painter_2 18 rfl rfl)
theorem dX0_painter_63 : decode cX0_painter 63 = .ok (.ireturn, 1) := dk_172 (dk_at dksX0_painter_2 19 rfl rfl)
theorem dX0_painter_64 : decode cX0_painter 64 = .ok (.iconst 0, 1) := dk_3 (dk_at dksX0_painter_2 20 rfl rfl)
theorem dX0_painter_65 : decode cX0_painter 65 = .ok (.istore 4, 2) := dk_54 4 (dk_at dksX0_painter_2 21 rfl rfl)
theorem dX0_painter_67 : decode cX0_painter 67 = .ok (.iload 4, 2) := dk_21 4 (dk_at dksX0_painter_3 0 rfl rfl)
theorem dX0_painter_69 : decode cX0_painter 69 = .ok (.aload_n 0, 1) := dk_42 (dk_at dksX0_painter_3 2 rfl rfl)
theorem dX0_painter_70 : decode cX0_painter 70 = .ok (.getfield 149, 3) := dk_180 0 149 (dk_at dksX0_painter_3 3 rfl rfl)
theorem dX0_painter_73 : decode cX0_painter 73 = .ok (.getfield 152, 3) := dk_180 0 152 (dk_at dksX0_painter_3 6 rfl rfl)
theorem dX0_painter_76 : decode cX0_painter 76 = .ok (.if_icmp .ge 33, 3) := dk_162 0 33 (dk_at dksX0_painter_3 9 rfl rfl)
theorem dX0_painter_79 : decode cX0_painter 79 = .ok (.iload_n 3, 1) := dk_29 (dk_at dksX0_painter_3 12 rfl rfl)
theorem dX0_painter_80 : decode cX0_painter 80 = .ok (.aload_n 0, 1) := dk_42 (dk_at dksX0_painter_3 13 rfl rfl)
theorem dX0_painter_81 : decode cX0_painter 81 = .ok (.getfield 149, 3) := dk_180 0 149 (dk_at dksX0_painter_3 14 rfl rfl)
theorem dX0_painter_84 : decode cX0_painter 84 = .ok (.iload 4, 2) := dk_21 4 (dk_at dksX0_painter_3 17 rfl rfl)
theorem dX0_painter_86 : decode cX0_painter 86 = .ok (.invokevirtual 182, 3) := dk_182 0 182 (dk_at dksX0_painter_3 19 rfl rfl)
theorem dX0_painter_89 : decode cX0_painter 89 = .ok (.iload_n 1, 1) := dk_27 (dk_at dksX0_painter_3 22 rfl rfl)
theorem dX0_painter_90 : decode cX0_painter 90 = .ok (.if_icmp .ne 10, 3) := dk_160 0 10 (dk_at dksX0_painter_4 0 rfl rfl)
theorem dX0_painter_93 : decode cX0_painter 93 = .ok (.iconst 1, 1) := dk_4 (dk_at dksX0_painter_4 3 rfl rfl)
theorem dX0_painter_94 : decode cX0_painter 94 = .ok (.iload 4, 2) := dk_21 4 (dk_at dksX0_painter_4 4 rfl rfl)
theorem dX0_painter_96 : decode cX0_painter 96 = .ok (.ishl, 1) := dk_120 (dk_at dksX0_painter_4 6 rfl rfl)
theorem dX0_painter_97 : decode cX0_painter 97 = .ok (.goto 4, 3) := dk_167 0 4 (dk_at dksX0_painter_4 7 rfl rfl)
theorem dX0_painter_100 : decode cX0_painter 100 = .ok (.iconst 0, 1) := dk_3 (dk_at dksX0_painter_4 10 rfl rfl)
theorem dX0_painter_101 : decode cX0_painter 101 = .ok (.ior, 1) := dk_128 (dk_at dksX0_painter_4 11 rfl rfl)
theorem dX0_painter_102 : decode cX0_painter 102 = .ok (.istore_n 3, 1) := dk_62 (dk_at dksX0_painter_4 12 rfl rfl)
theorem dX0_painter_103 : decode cX0_painter 103 = .ok (.iinc 4 1, 3) := dk_132 4 1 (dk_at dksX0_painter_4 13 rfl rfl)
theorem dX0_painter_106 : decode cX0_painter 106 = .ok (.goto (-39), 3) := dk_167 255 217 (dk_at dksX0_painter_4 16 rfl rfl)
theorem dX0_painter_109 : decode cX0_painter 109 = .ok (.iload_n 3, 1) := dk_29 (dk_at dksX0_painter_4 19 rfl rfl)
theorem dX0_painter_110 : decode cX0_painter 110 = .ok (.ireturn, 1) := dk_172 (dk_at dksX0_painter_4 20 rfl rfl)
theorem dX0_painter_111 : decode cX0_painter 111 = .ok (.iconst 0, 1) := dk_3 (dk_at dksX0_painter_4 21 rfl rfl)
theorem dX0_painter_112 : decode cX0_painter 112 = .ok (.istore 4, 2) := dk_54 4 (dk_at dksX0_painter_4 22 rfl rfl)
theorem dX0_painter_114 : decode cX0_painter 114 = .ok (.iload 4, 2) := dk_21 4 (dk_at dksX0_painter_5 0 rfl rfl)
theorem dX0_painter_116 : decode cX0_painter 116 = .ok (.aload_n 0, 1) := dk_42 (dk_at dksX0_painter_5 2 rfl rfl)
theorem dX0_painter_117 : decode cX0_painter 117 = .ok (.getfield 149, 3) := dk_180 0 149 (dk_at dksX0_painter_5 3 rfl rfl)
theorem dX0_painter_120 : decode cX0_painter 120 = .ok (.getfield 166, 3) := dk_180 0 166 (dk_at dksX0_painter_5 6 rfl rfl)
theorem dX0_painter_123 : decode cX0_painter 123 = .ok (.if_icmp .ge 33, 3) := dk_162 0 33 (dk_at dksX0_painter_5 9 rfl rfl)
theorem dX0_painter_126 : decode cX0_painter 126 = .ok (.iload_n 3, 1) := dk_29 (dk_at dksX0_painter_5 12 rfl rfl)
theorem dX0_painter_127 : decode cX0_painter 127 = .ok (.aload_n 0, 1) := dk_42 (dk_at dksX0_painter_5 13 rfl rfl)
theorem dX0_painter_128 : decode cX0_painter 128 = .ok (.getfield 149, 3) := dk_180 0 149 (dk_at dksX0_painter_5 14 rfl rfl)
theorem dX0_painter_131 : decode cX0_painter 131 = .ok (.iload 4, 2) := dk_21 4 (dk_at dksX0_painter_5 17 rfl rfl)
theorem dX0_painter_133 : decode cX0_painter 133 = .ok (.invokevirtual 223, 3) := dk_182 0 223 (dk_at dksX0_painter_5 19 rfl rfl)
theorem dX0_painter_136 : decode cX0_painter 136 = .ok (.iload_n 1, 1) := dk_27 (dk_at dksX0_painter_5 22 rfl rfl)
theorem dX0_painter_137 : decode cX0_painter 137 = .ok (.if_icmp .ne 10, 3) := dk_160 0 10 (dk_at dksX0_painter_6 0 rfl rfl)
theorem dX0_painter_140 : decode cX0_painter 140 = .ok (.iconst 1, 1) := dk_4 (dk_at dksX0_painter_6 3 rfl rfl)
theorem dX0_painter_141 : decode cX0_painter 141 = .ok (.iload 4, 2) := dk_21 4 (dk_at dksX0_painter_6 4 rfl rfl)
theorem dX0_painter_143 : decode cX0_painter 143 = .ok (.ishl, 1) := dk_120 (dk_at dksX0_painter_6 6 rfl rfl)
theorem dX0_painter_144 : decode cX0_painter 144 = .ok (.goto 4, 3) := dk_167 0 4 (dk_at dksX0_painter_6 7 rfl rfl)
theorem dX0_painter_147 : decode cX0_painter 147 = .ok (.iconst 0, 1) := dk_3 (dk_at dksX0_painter_6 10 rfl rfl)
theorem dX0_painter_148 : decode cX0_painter 148 = .ok (.ior, 1) := dk_128 (dk_at dksX0_painter_6 11 rfl rfl)
theorem dX0_painter_149 : decode cX0_painter 149 = .ok (.istore_n 3, 1) := dk_62 (dk_at dksX0_painter_6 12 rfl rfl)
theorem dX0_painter_150 : decode cX0_painter 150 = .ok (.iinc 4 1, 3) := dk_132 4 1 (dk_at dksX0_painter_6 13 rfl rfl)
theorem dX0_painter_153 : decode cX0_painter 153 = .ok (.goto (-39), 3) := dk_167 255 217 (dk_at dksX0_painter_6 16 rfl rfl)
theorem dX0_painter_156 : decode cX0_painter 156 = .ok (.iload_n 3, 1) := dk_29 (dk_at dksX0_painter_6 19 rfl rfl)
theorem dX0_painter_157 : decode cX0_painter 157 = .ok (.ireturn, 1) := dk_172 (dk_at dksX0_painter_6 20 rfl rfl)
theorem dX0_painter_158 : decode cX0_painter 158 = .ok (.iconst (-1), 1) := dk_2 (dk_at dksX0_painter_6 21 rfl rfl)
theorem dX0_painter_159 : decode cX0_painter 159 = .ok (.ireturn, 1) := dk_172 (dk_at dksX0_painter_6 22 rfl rfl)
abbrev cX0_isPainter : ByteArray := prog_1_method_14_code
def yX0_isPainter : MethodName := ⟨RX0, "isPainter", "(I)Z"⟩
def dkwX0_isPainter_1 : List UInt8 := [167, 0, 4, 3, 172]
abbrev dktX0_isPainter_1 : List UInt8 := dkwX0_isPainter_1 ++ []
def dkwX0_isPainter_0 : List UInt8 := [42, 180, 0, 149, 198, 0, 22, 27, 155, 0, 18, 27, 42, 180, 0, 149, 180, 0, 169, 162, 0, 7, 4]
abbrev dktX0_isPainter_0 : List UInt8 := dkwX0_isPainter_0 ++ dktX0_isPainter_1
theorem dksX0_isPainter_0 : cX0_isPainter.data.toList.drop 0 = dktX0_isPainter_0 := by decide +kernel
theorem dksX0_isPainter_1 : cX0_isPainter.data.toList.drop 23 = dktX0_isPainter_1 := dk_seg dksX0_isPainter_0 23 rfl rfl
theorem dX0_isPainter_0 : decode cX0_isPainter 0 = .ok (.aload_n 0, 1) := dk_42 (dk_at dksX0_isPainter_0 0 rfl rfl)
theorem dX0_isPainter_1 : decode cX0_isPainter 1 = .ok (.getfield 149, 3) := dk_180 0 149 (dk_at dksX0_isPainter_0 1 rfl rfl)
theorem dX0_isPainter_4 : decode cX0_isPainter 4 = .ok (.ifnull 22, 3) := dk_198 0 22 (dk_at dksX0_isPainter_0 4 rfl rfl)
theorem dX0_isPainter_7 : decode cX0_isPainter 7 = .ok (.iload_n 1, 1) := dk_27 (dk_at dksX0_isPainter_0 7 rfl rfl)
theorem dX0_isPainter_8 : decode cX0_isPainter 8 = .ok (.ifCond .lt 18, 3) := dk_155 0 18 (dk_at dksX0_isPainter_0 8 rfl rfl)
theorem dX0_isPainter_11 : decode cX0_isPainter 11 = .ok (.iload_n 1, 1) := dk_27 (dk_at dksX0_isPainter_0 11 rfl rfl)
theorem dX0_isPainter_12 : decode cX0_isPainter 12 = .ok (.aload_n 0, 1) := dk_42 (dk_at dksX0_isPainter_0 12 rfl rfl)
theorem dX0_isPainter_13 : decode cX0_isPainter 13 = .ok (.getfield 149, 3) := dk_180 0 149 (dk_at dksX0_isPainter_0 13 rfl rfl)
theorem dX0_isPainter_16 : decode cX0_isPainter 16 = .ok (.getfield 169, 3) := dk_180 0 169 (dk_at dksX0_isPainter_0 16 rfl rfl)
theorem dX0_isPainter_19 : decode cX0_isPainter 19 = .ok (.if_icmp .ge 7, 3) := dk_162 0 7 (dk_at dksX0_isPainter_0 19 rfl rfl)
theorem dX0_isPainter_22 : decode cX0_isPainter 22 = .ok (.iconst 1, 1) := dk_4 (dk_at dksX0_isPainter_0 22 rfl rfl)
theorem dX0_isPainter_23 : decode cX0_isPainter 23 = .ok (.goto 4, 3) := dk_167 0 4 (dk_at dksX0_isPainter_1 0 rfl rfl)
theorem dX0_isPainter_26 : decode cX0_isPainter 26 = .ok (.iconst 0, 1) := dk_3 (dk_at dksX0_isPainter_1 3 rfl rfl)
theorem dX0_isPainter_27 : decode cX0_isPainter 27 = .ok (.ireturn, 1) := dk_172 (dk_at dksX0_isPainter_1 4 rfl rfl)
abbrev cX0_rain : ByteArray := prog_1_method_19_code
def yX0_rain : MethodName := ⟨RX0, "rain", "(I)I"⟩
def dkwX0_rain_1 : List UInt8 := [153, 0, 7, 4, 167, 0, 4, 3, 172]
abbrev dktX0_rain_1 : List UInt8 := dkwX0_rain_1 ++ []
def dkwX0_rain_0 : List UInt8 := [42, 180, 0, 149, 198, 0, 7, 27, 156, 0, 7, 2, 167, 0, 19, 42, 180, 0, 149, 27, 182, 0, 236]
abbrev dktX0_rain_0 : List UInt8 := dkwX0_rain_0 ++ dktX0_rain_1
theorem dksX0_rain_0 : cX0_rain.data.toList.drop 0 = dktX0_rain_0 := by decide +kernel
theorem dksX0_rain_1 : cX0_rain.data.toList.drop 23 = dktX0_rain_1 := dk_seg dksX0_rain_0 23 rfl rfl
theorem dX0_rain_0 : decode cX0_rain 0 = .ok (.aload_n 0, 1) := dk_42 (dk_at dksX0_rain_0 0 rfl rfl)
theorem dX0_rain_1 : decode cX0_rain 1 = .ok (.getfield 149, 3) := dk_180 0 149 (dk_at dksX0_rain_0 1 rfl rfl)
theorem dX0_rain_4 : decode cX0_rain 4 = .ok (.ifnull 7, 3) := dk_198 0 7 (dk_at dksX0_rain_0 4 rfl rfl)
theorem dX0_rain_7 : decode cX0_rain 7 = .ok (.iload_n 1, 1) := dk_27 (dk_at dksX0_rain_0 7 rfl rfl)
theorem dX0_rain_8 : decode cX0_rain 8 = .ok (.ifCond .ge 7, 3) := dk_156 0 7 (dk_at dksX0_rain_0 8 rfl rfl)
theorem dX0_rain_11 : decode cX0_rain 11 = .ok (.iconst (-1), 1) := dk_2 (dk_at dksX0_rain_0 11 rfl rfl)
theorem dX0_rain_12 : decode cX0_rain 12 = .ok (.goto 19, 3) := dk_167 0 19 (dk_at dksX0_rain_0 12 rfl rfl)
theorem dX0_rain_15 : decode cX0_rain 15 = .ok (.aload_n 0, 1) := dk_42 (dk_at dksX0_rain_0 15 rfl rfl)
theorem dX0_rain_16 : decode cX0_rain 16 = .ok (.getfield 149, 3) := dk_180 0 149 (dk_at dksX0_rain_0 16 rfl rfl)
theorem dX0_rain_19 : decode cX0_rain 19 = .ok (.iload_n 1, 1) := dk_27 (dk_at dksX0_rain_0 19 rfl rfl)
theorem dX0_rain_20 : decode cX0_rain 20 = .ok (.invokevirtual 236, 3) := dk_182 0 236 (dk_at dksX0_rain_0 20 rfl rfl)
theorem dX0_rain_23 : decode cX0_rain 23 = .ok (.ifCond .eq 7, 3) := dk_153 0 7 (dk_at dksX0_rain_1 0 rfl rfl)
theorem dX0_rain_26 : decode cX0_rain 26 = .ok (.iconst 1, 1) := dk_4 (dk_at dksX0_rain_1 3 rfl rfl)
theorem dX0_rain_27 : decode cX0_rain 27 = .ok (.goto 4, 3) := dk_167 0 4 (dk_at dksX0_rain_1 4 rfl rfl)
theorem dX0_rain_30 : decode cX0_rain 30 = .ok (.iconst 0, 1) := dk_3 (dk_at dksX0_rain_1 7 rfl rfl)
theorem dX0_rain_31 : decode cX0_rain 31 = .ok (.ireturn, 1) := dk_172 (dk_at dksX0_rain_1 8 rfl rfl)
abbrev cX0_undo : ByteArray := prog_1_method_21_code
def yX0_undo : MethodName := ⟨RX0, "undo", "()I"⟩
def dkwX0_undo_2 : List UInt8 := [180, 0, 149, 180, 0, 239, 172]
abbrev dktX0_undo_2 : List UInt8 := dkwX0_undo_2 ++ []
def dkwX0_undo_1 : List UInt8 := [89, 180, 0, 239, 4, 100, 181, 0, 239, 42, 180, 0, 149, 42, 180, 0, 149, 180, 0, 239, 182, 0, 254, 42]
abbrev dktX0_undo_1 : List UInt8 := dkwX0_undo_1 ++ dktX0_undo_2
def dkwX0_undo_0 : List UInt8 := [42, 180, 0, 149, 198, 0, 13, 42, 180, 0, 149, 180, 0, 239, 154, 0, 6, 16, 254, 172, 42, 180, 0, 149]
abbrev dktX0_undo_0 : List UInt8 := dkwX0_undo_0 ++ dktX0_undo_1
theorem dksX0_undo_0 : cX0_undo.data.toList.drop 0 = dktX0_undo_0 := by decide +kernel
theorem dksX0_undo_1 : cX0_undo.data.toList.drop 24 = dktX0_undo_1 := dk_seg dksX0_undo_0 24 rfl rfl
theorem dksX0_undo_2 : cX0_undo.data.toList.drop 48 = dktX0_undo_2 := dk_seg dksX0_undo_1 24 rfl rfl
theorem dX0_undo_0 : decode cX0_undo 0 = .ok (.aload_n 0, 1) := dk_42 (dk_at dksX0_undo_0 0 rfl rfl)
theorem dX0_undo_1 : decode cX0_undo 1 = .ok (.getfield 149, 3) := dk_180 0 149 (dk_at dksX0_undo_0 1 rfl rfl)
theorem dX0_undo_4 : decode cX0_undo 4 = .ok (.ifnull 13, 3) := dk_198 0 13 (dk_at dksX0_undo_0 4 rfl rfl)
theorem dX0_undo_7 : decode cX0_undo 7 = .ok (.aload_n 0, 1) := dk_42 (dk_at dksX0_undo_0 7 rfl rfl)
theorem dX0_undo_8 : decode cX0_undo 8 = .ok (.getfield 149, 3) := dk_180 0 149 (dk_at dksX0_undo_0 8 rfl rfl)
theorem dX0_undo_11 : decode cX0_undo 11 = .ok (.getfield 239, 3) := dk_180 0 239 (dk_at dksX0_undo_0 11 rfl rfl)
theorem dX0_undo_14 : decode cX0_undo 14 = .ok (.ifCond .ne 6, 3) := dk_154 0 6 (dk_at dksX0_undo_0 14 rfl rfl)
theorem dX0_undo_17 : decode cX0_undo 17 = .ok (.bipush (-2), 2) := dk_16 254 (dk_at dksX0_undo_0 17 rfl rfl)
theorem dX0_undo_19 : decode cX0_undo 19 = .ok (.ireturn, 1) := dk_172 (dk_at dksX0_undo_0 19 rfl rfl)
theorem dX0_undo_20 : decode cX0_undo 20 = .ok (.aload_n 0, 1) := dk_42 (dk_at dksX0_undo_0 20 rfl rfl)
theorem dX0_undo_21 : decode cX0_undo 21 = .ok (.getfield 149, 3) := dk_180 0 149 (dk_at dksX0_undo_0 21 rfl rfl)
theorem dX0_undo_24 : decode cX0_undo 24 = .ok (.dup, 1) := dk_89 (dk_at dksX0_undo_1 0 rfl rfl)
theorem dX0_undo_25 : decode cX0_undo 25 = .ok (.getfield 239, 3) := dk_180 0 239 (dk_at dksX0_undo_1 1 rfl rfl)
theorem dX0_undo_28 : decode cX0_undo 28 = .ok (.iconst 1, 1) := dk_4 (dk_at dksX0_undo_1 4 rfl rfl)
theorem dX0_undo_29 : decode cX0_undo 29 = .ok (.isub, 1) := dk_100 (dk_at dksX0_undo_1 5 rfl rfl)
theorem dX0_undo_30 : decode cX0_undo 30 = .ok (.putfield 239, 3) := dk_181 0 239 (dk_at dksX0_undo_1 6 rfl rfl)
theorem dX0_undo_33 : decode cX0_undo 33 = .ok (.aload_n 0, 1) := dk_42 (dk_at dksX0_undo_1 9 rfl rfl)
theorem dX0_undo_34 : decode cX0_undo 34 = .ok (.getfield 149, 3) := dk_180 0 149 (dk_at dksX0_undo_1 10 rfl rfl)
theorem dX0_undo_37 : decode cX0_undo 37 = .ok (.aload_n 0, 1) := dk_42 (dk_at dksX0_undo_1 13 rfl rfl)
theorem dX0_undo_38 : decode cX0_undo 38 = .ok (.getfield 149, 3) := dk_180 0 149 (dk_at dksX0_undo_1 14 rfl rfl)
theorem dX0_undo_41 : decode cX0_undo 41 = .ok (.getfield 239, 3) := dk_180 0 239 (dk_at dksX0_undo_1 17 rfl rfl)
theorem dX0_undo_44 : decode cX0_undo 44 = .ok (.invokevirtual 254, 3) := dk_182 0 254 (dk_at dksX0_undo_1 20 rfl rfl)
theorem dX0_undo_47 : decode cX0_undo 47 = .ok (.aload_n 0, 1) := dk_42 (dk_at dksX0_undo_1 23 rfl rfl)
theorem dX0_undo_48 : decode cX0_undo 48 = .ok (.getfield 149, 3) := dk_180 0 149 (dk_at dksX0_undo_2 0 rfl rfl)
theorem dX0_undo_51 : decode cX0_undo 51 = .ok (.getfield 239, 3) := dk_180 0 239 (dk_at dksX0_undo_2 3 rfl rfl)
theorem dX0_undo_54 : decode cX0_undo 54 = .ok (.ireturn, 1) := dk_172 (dk_at dksX0_undo_2 6 rfl rfl)
abbrev cX0_hour : ByteArray := prog_1_method_22_code
def yX0_hour : MethodName := ⟨RX0, "hour", "()I"⟩
def dkwX0_hour_1 : List UInt8 := [182, 1, 4, 42, 180, 0, 149, 42, 182, 1, 7, 42, 180, 0, 31, 182, 1, 10, 172]
abbrev dktX0_hour_1 : List UInt8 := dkwX0_hour_1 ++ []
def dkwX0_hour_0 : List UInt8 := [42, 180, 0, 149, 198, 0, 16, 42, 180, 0, 149, 180, 1, 1, 17, 3, 231, 160, 0, 5, 2, 172, 42]
abbrev dktX0_hour_0 : List UInt8 := dkwX0_hour_0 ++ dktX0_hour_1
theorem dksX0_hour_0 : cX0_hour.data.toList.drop 0 = dktX0_hour_0 := by decide +kernel
theorem dksX0_hour_1 : cX0_hour.data.toList.drop 23 = dktX0_hour_1 := dk_seg dksX0_hour_0 23 rfl rfl
theorem dX0_hour_0 : decode cX0_hour 0 = .ok (.aload_n 0, 1) := dk_42 (dk_at dksX0_hour_0 0 rfl rfl)
theorem dX0_hour_1 : decode cX0_hour 1 = .ok (.getfield 149, 3) := dk_180 0 149 (dk_at dksX0_hour_0 1 rfl rfl)
theorem dX0_hour_4 : decode cX0_hour 4 = .ok (.ifnull 16, 3) := dk_198 0 16 (dk_at dksX0_hour_0 4 rfl rfl)
theorem dX0_hour_7 : decode cX0_hour 7 = .ok (.aload_n 0, 1) := dk_42 (dk_at dksX0_hour_0 7 rfl rfl)
theorem dX0_hour_8 : decode cX0_hour 8 = .ok (.getfield 149, 3) := dk_180 0 149 (dk_at dksX0_hour_0 8 rfl rfl)
theorem dX0_hour_11 : decode cX0_hour 11 = .ok (.getfield 257, 3) := dk_180 1 1 (dk_at dksX0_hour_0 11 rfl rfl)
theorem dX0_hour_14 : decode cX0_hour 14 = .ok (.sipush 999, 3) := dk_17 3 231 (dk_at dksX0_hour_0 14 rfl rfl)
theorem dX0_hour_17 : decode cX0_hour 17 = .ok (.if_icmp .ne 5, 3) := dk_160 0 5 (dk_at dksX0_hour_0 17 rfl rfl)
theorem dX0_hour_20 : decode cX0_hour 20 = .ok (.iconst (-1), 1) := dk_2 (dk_at dksX0_hour_0 20 rfl rfl)
theorem dX0_hour_21 : decode cX0_hour 21 = .ok (.ireturn, 1) := dk_172 (dk_at dksX0_hour_0 21 rfl rfl)
theorem dX0_hour_22 : decode cX0_hour 22 = .ok (.aload_n 0, 1) := dk_42 (dk_at dksX0_hour_0 22 rfl rfl)
theorem dX0_hour_23 : decode cX0_hour 23 = .ok (.invokevirtual 260, 3) := dk_182 1 4 (dk_at dksX0_hour_1 0 rfl rfl)
theorem dX0_hour_26 : decode cX0_hour 26 = .ok (.aload_n 0, 1) := dk_42 (dk_at dksX0_hour_1 3 rfl rfl)
theorem dX0_hour_27 : decode cX0_hour 27 = .ok (.getfield 149, 3) := dk_180 0 149 (dk_at dksX0_hour_1 4 rfl rfl)
theorem dX0_hour_30 : decode cX0_hour 30 = .ok (.aload_n 0, 1) := dk_42 (dk_at dksX0_hour_1 7 rfl rfl)
theorem dX0_hour_31 : decode cX0_hour 31 = .ok (.invokevirtual 263, 3) := dk_182 1 7 (dk_at dksX0_hour_1 8 rfl rfl)
theorem dX0_hour_34 : decode cX0_hour 34 = .ok (.aload_n 0, 1) := dk_42 (dk_at dksX0_hour_1 11 rfl rfl)
theorem dX0_hour_35 : decode cX0_hour 35 = .ok (.getfield 31, 3) := dk_180 0 31 (dk_at dksX0_hour_1 12 rfl rfl)
theorem dX0_hour_38 : decode cX0_hour 38 = .ok (.invokevirtual 266, 3) := dk_182 1 10 (dk_at dksX0_hour_1 15 rfl rfl)
theorem dX0_hour_41 : decode cX0_hour 41 = .ok (.ireturn, 1) := dk_172 (dk_at dksX0_hour_1 18 rfl rfl)
abbrev cX0_keepsAct : ByteArray := prog_1_method_20_code
def yX0_keepsAct : MethodName := ⟨RX0, "keepsAct", "()V"⟩
def dkwX0_keepsAct_3 : List UInt8 := [180, 0, 239, 4, 96, 181, 0, 239, 177]
abbrev dktX0_keepsAct_3 : List UInt8 := dkwX0_keepsAct_3 ++ []
def dkwX0_keepsAct_2 : List UInt8 := [181, 0, 239, 42, 180, 0, 149, 42, 180, 0, 149, 180, 0, 239, 182, 0, 251, 42, 180, 0, 149, 89]
abbrev dktX0_keepsAct_2 : List UInt8 := dkwX0_keepsAct_2 ++ dktX0_keepsAct_3
def dkwX0_keepsAct_1 : List UInt8 := [180, 0, 149, 180, 0, 242, 3, 17, 13, 130, 184, 0, 245, 42, 180, 0, 149, 89, 180, 0, 239, 4, 100]
abbrev dktX0_keepsAct_1 : List UInt8 := dkwX0_keepsAct_1 ++ dktX0_keepsAct_2
def dkwX0_keepsAct_0 : List UInt8 := [42, 180, 0, 149, 180, 0, 239, 16, 20, 160, 0, 40, 42, 180, 0, 149, 180, 0, 242, 17, 0, 182, 42]
abbrev dktX0_keepsAct_0 : List UInt8 := dkwX0_keepsAct_0 ++ dktX0_keepsAct_1
theorem dksX0_keepsAct_0 : cX0_keepsAct.data.toList.drop 0 = dktX0_keepsAct_0 := by decide +kernel
theorem dksX0_keepsAct_1 : cX0_keepsAct.data.toList.drop 23 = dktX0_keepsAct_1 := dk_seg dksX0_keepsAct_0 23 rfl rfl
theorem dksX0_keepsAct_2 : cX0_keepsAct.data.toList.drop 46 = dktX0_keepsAct_2 := dk_seg dksX0_keepsAct_1 23 rfl rfl
theorem dksX0_keepsAct_3 : cX0_keepsAct.data.toList.drop 68 = dktX0_keepsAct_3 := dk_seg dksX0_keepsAct_2 22 rfl rfl
theorem dX0_keepsAct_0 : decode cX0_keepsAct 0 = .ok (.aload_n 0, 1) := dk_42 (dk_at dksX0_keepsAct_0 0 rfl rfl)
theorem dX0_keepsAct_1 : decode cX0_keepsAct 1 = .ok (.getfield 149, 3) := dk_180 0 149 (dk_at dksX0_keepsAct_0 1 rfl rfl)
theorem dX0_keepsAct_4 : decode cX0_keepsAct 4 = .ok (.getfield 239, 3) := dk_180 0 239 (dk_at dksX0_keepsAct_0 4 rfl rfl)
theorem dX0_keepsAct_7 : decode cX0_keepsAct 7 = .ok (.bipush 20, 2) := dk_16 20 (dk_at dksX0_keepsAct_0 7 rfl rfl)
theorem dX0_keepsAct_9 : decode cX0_keepsAct 9 = .ok (.if_icmp .ne 40, 3) := dk_160 0 40 (dk_at dksX0_keepsAct_0 9 rfl rfl)
theorem dX0_keepsAct_12 : decode cX0_keepsAct 12 = .ok (.aload_n 0, 1) := dk_42 (dk_at dksX0_keepsAct_0 12 rfl rfl)
theorem dX0_keepsAct_13 : decode cX0_keepsAct 13 = .ok (.getfield 149, 3) := dk_180 0 149 (dk_at dksX0_keepsAct_0 13 rfl rfl)
theorem dX0_keepsAct_16 : decode cX0_keepsAct 16 = .ok (.getfield 242, 3) := dk_180 0 242 (dk_at dksX0_keepsAct_0 16 rfl rfl)
theorem dX0_keepsAct_19 : decode cX0_keepsAct 19 = .ok (.sipush 182, 3) := dk_17 0 182 (dk_at dksX0_keepsAct_0 19 rfl rfl)
theorem dX0_keepsAct_22 : decode cX0_keepsAct 22 = .ok (.aload_n 0, 1) := dk_42 (dk_at dksX0_keepsAct_0 22 rfl rfl)
theorem dX0_keepsAct_23 : decode cX0_keepsAct 23 = .ok (.getfield 149, 3) := dk_180 0 149 (dk_at dksX0_keepsAct_1 0 rfl rfl)
theorem dX0_keepsAct_26 : decode cX0_keepsAct 26 = .ok (.getfield 242, 3) := dk_180 0 242 (dk_at dksX0_keepsAct_1 3 rfl rfl)
theorem dX0_keepsAct_29 : decode cX0_keepsAct 29 = .ok (.iconst 0, 1) := dk_3 (dk_at dksX0_keepsAct_1 6 rfl rfl)
theorem dX0_keepsAct_30 : decode cX0_keepsAct 30 = .ok (.sipush 3458, 3) := dk_17 13 130 (dk_at dksX0_keepsAct_1 7 rfl rfl)
theorem dX0_keepsAct_33 : decode cX0_keepsAct 33 = .ok (.invokestatic 245, 3) := dk_184 0 245 (dk_at dksX0_keepsAct_1 10 rfl rfl)
theorem dX0_keepsAct_36 : decode cX0_keepsAct 36 = .ok (.aload_n 0, 1) := dk_42 (dk_at dksX0_keepsAct_1 13 rfl rfl)
theorem dX0_keepsAct_37 : decode cX0_keepsAct 37 = .ok (.getfield 149, 3) := dk_180 0 149 (dk_at dksX0_keepsAct_1 14 rfl rfl)
theorem dX0_keepsAct_40 : decode cX0_keepsAct 40 = .ok (.dup, 1) := dk_89 (dk_at dksX0_keepsAct_1 17 rfl rfl)
theorem dX0_keepsAct_41 : decode cX0_keepsAct 41 = .ok (.getfield 239, 3) := dk_180 0 239 (dk_at dksX0_keepsAct_1 18 rfl rfl)
theorem dX0_keepsAct_44 : decode cX0_keepsAct 44 = .ok (.iconst 1, 1) := dk_4 (dk_at dksX0_keepsAct_1 21 rfl rfl)
theorem dX0_keepsAct_45 : decode cX0_keepsAct 45 = .ok (.isub, 1) := dk_100 (dk_at dksX0_keepsAct_1 22 rfl rfl)
theorem dX0_keepsAct_46 : decode cX0_keepsAct 46 = .ok (.putfield 239, 3) := dk_181 0 239 (dk_at dksX0_keepsAct_2 0 rfl rfl)
theorem dX0_keepsAct_49 : decode cX0_keepsAct 49 = .ok (.aload_n 0, 1) := dk_42 (dk_at dksX0_keepsAct_2 3 rfl rfl)
theorem dX0_keepsAct_50 : decode cX0_keepsAct 50 = .ok (.getfield 149, 3) := dk_180 0 149 (dk_at dksX0_keepsAct_2 4 rfl rfl)
theorem dX0_keepsAct_53 : decode cX0_keepsAct 53 = .ok (.aload_n 0, 1) := dk_42 (dk_at dksX0_keepsAct_2 7 rfl rfl)
theorem dX0_keepsAct_54 : decode cX0_keepsAct 54 = .ok (.getfield 149, 3) := dk_180 0 149 (dk_at dksX0_keepsAct_2 8 rfl rfl)
theorem dX0_keepsAct_57 : decode cX0_keepsAct 57 = .ok (.getfield 239, 3) := dk_180 0 239 (dk_at dksX0_keepsAct_2 11 rfl rfl)
theorem dX0_keepsAct_60 : decode cX0_keepsAct 60 = .ok (.invokevirtual 251, 3) := dk_182 0 251 (dk_at dksX0_keepsAct_2 14 rfl rfl)
theorem dX0_keepsAct_63 : decode cX0_keepsAct 63 = .ok (.aload_n 0, 1) := dk_42 (dk_at dksX0_keepsAct_2 17 rfl rfl)
theorem dX0_keepsAct_64 : decode cX0_keepsAct 64 = .ok (.getfield 149, 3) := dk_180 0 149 (dk_at dksX0_keepsAct_2 18 rfl rfl)
theorem dX0_keepsAct_67 : decode cX0_keepsAct 67 = .ok (.dup, 1) := dk_89 (dk_at dksX0_keepsAct_2 21 rfl rfl)
theorem dX0_keepsAct_68 : decode cX0_keepsAct 68 = .ok (.getfield 239, 3) := dk_180 0 239 (dk_at dksX0_keepsAct_3 0 rfl rfl)
theorem dX0_keepsAct_71 : decode cX0_keepsAct 71 = .ok (.iconst 1, 1) := dk_4 (dk_at dksX0_keepsAct_3 3 rfl rfl)
theorem dX0_keepsAct_72 : decode cX0_keepsAct 72 = .ok (.iadd, 1) := dk_96 (dk_at dksX0_keepsAct_3 4 rfl rfl)
theorem dX0_keepsAct_73 : decode cX0_keepsAct 73 = .ok (.putfield 239, 3) := dk_181 0 239 (dk_at dksX0_keepsAct_3 5 rfl rfl)
theorem dX0_keepsAct_76 : decode cX0_keepsAct 76 = .ok (.return_, 1) := dk_177 (dk_at dksX0_keepsAct_3 8 rfl rfl)
abbrev cX0_law : ByteArray := prog_1_method_11_code
def yX0_law : MethodName := ⟨RX0, "law", "()LLatestCoat$Rule;"⟩
def dkwX0_law_0 : List UInt8 := [42, 180, 0, 35, 2, 160, 0, 7, 1, 167, 0, 12, 42, 180, 0, 100, 42, 180, 0, 35, 50, 176]
abbrev dktX0_law_0 : List UInt8 := dkwX0_law_0 ++ []
theorem dksX0_law_0 : cX0_law.data.toList.drop 0 = dktX0_law_0 := by decide +kernel
theorem dX0_law_0 : decode cX0_law 0 = .ok (.aload_n 0, 1) := dk_42 (dk_at dksX0_law_0 0 rfl rfl)
theorem dX0_law_1 : decode cX0_law 1 = .ok (.getfield 35, 3) := dk_180 0 35 (dk_at dksX0_law_0 1 rfl rfl)
theorem dX0_law_4 : decode cX0_law 4 = .ok (.iconst (-1), 1) := dk_2 (dk_at dksX0_law_0 4 rfl rfl)
theorem dX0_law_5 : decode cX0_law 5 = .ok (.if_icmp .ne 7, 3) := dk_160 0 7 (dk_at dksX0_law_0 5 rfl rfl)
theorem dX0_law_8 : decode cX0_law 8 = .ok (.aconst_null, 1) := dk_1 (dk_at dksX0_law_0 8 rfl rfl)
theorem dX0_law_9 : decode cX0_law 9 = .ok (.goto 12, 3) := dk_167 0 12 (dk_at dksX0_law_0 9 rfl rfl)
theorem dX0_law_12 : decode cX0_law 12 = .ok (.aload_n 0, 1) := dk_42 (dk_at dksX0_law_0 12 rfl rfl)
theorem dX0_law_13 : decode cX0_law 13 = .ok (.getfield 100, 3) := dk_180 0 100 (dk_at dksX0_law_0 13 rfl rfl)
theorem dX0_law_16 : decode cX0_law 16 = .ok (.aload_n 0, 1) := dk_42 (dk_at dksX0_law_0 16 rfl rfl)
theorem dX0_law_17 : decode cX0_law 17 = .ok (.getfield 35, 3) := dk_180 0 35 (dk_at dksX0_law_0 17 rfl rfl)
theorem dX0_law_20 : decode cX0_law 20 = .ok (.aaload, 1) := dk_50 (dk_at dksX0_law_0 20 rfl rfl)
theorem dX0_law_21 : decode cX0_law 21 = .ok (.areturn, 1) := dk_176 (dk_at dksX0_law_0 21 rfl rfl)
abbrev cX0_paint : ByteArray := prog_1_method_23_code
def yX0_paint : MethodName := ⟨RX0, "paint", "(II)I"⟩
def dkwX0_paint_2 : List UInt8 := [180, 0, 149, 180, 0, 179, 27, 46, 172]
abbrev dktX0_paint_2 : List UInt8 := dkwX0_paint_2 ++ []
def dkwX0_paint_1 : List UInt8 := [182, 1, 14, 154, 0, 5, 2, 172, 42, 182, 1, 4, 42, 180, 0, 149, 27, 28, 182, 1, 17, 42]
abbrev dktX0_paint_1 : List UInt8 := dkwX0_paint_1 ++ dktX0_paint_2
def dkwX0_paint_0 : List UInt8 := [42, 27, 182, 0, 172, 153, 0, 23, 42, 28, 182, 0, 231, 153, 0, 15, 42, 180, 0, 149, 27, 28]
abbrev dktX0_paint_0 : List UInt8 := dkwX0_paint_0 ++ dktX0_paint_1
theorem dksX0_paint_0 : cX0_paint.data.toList.drop 0 = dktX0_paint_0 := by decide +kernel
theorem dksX0_paint_1 : cX0_paint.data.toList.drop 22 = dktX0_paint_1 := dk_seg dksX0_paint_0 22 rfl rfl
theorem dksX0_paint_2 : cX0_paint.data.toList.drop 44 = dktX0_paint_2 := dk_seg dksX0_paint_1 22 rfl rfl
theorem dX0_paint_0 : decode cX0_paint 0 = .ok (.aload_n 0, 1) := dk_42 (dk_at dksX0_paint_0 0 rfl rfl)
theorem dX0_paint_1 : decode cX0_paint 1 = .ok (.iload_n 1, 1) := dk_27 (dk_at dksX0_paint_0 1 rfl rfl)
theorem dX0_paint_2 : decode cX0_paint 2 = .ok (.invokevirtual 172, 3) := dk_182 0 172 (dk_at dksX0_paint_0 2 rfl rfl)
theorem dX0_paint_5 : decode cX0_paint 5 = .ok (.ifCond .eq 23, 3) := dk_153 0 23 (dk_at dksX0_paint_0 5 rfl rfl)
theorem dX0_paint_8 : decode cX0_paint 8 = .ok (.aload_n 0, 1) := dk_42 (dk_at dksX0_paint_0 8 rfl rfl)
theorem dX0_paint_9 : decode cX0_paint 9 = .ok (.iload_n 2, 1) := dk_28 (dk_at dksX0_paint_0 9 rfl rfl)
theorem dX0_paint_10 : decode cX0_paint 10 = .ok (.invokevirtual 231, 3) := dk_182 0 231 (dk_at dksX0_paint_0 10 rfl rfl)
theorem dX0_paint_13 : decode cX0_paint 13 = .ok (.ifCond .eq 15, 3) := dk_153 0 15 (dk_at dksX0_paint_0 13 rfl rfl)
theorem dX0_paint_16 : decode cX0_paint 16 = .ok (.aload_n 0, 1) := dk_42 (dk_at dksX0_paint_0 16 rfl rfl)
theorem dX0_paint_17 : decode cX0_paint 17 = .ok (.getfield 149, 3) := dk_180 0 149 (dk_at dksX0_paint_0 17 rfl rfl)
theorem dX0_paint_20 : decode cX0_paint 20 = .ok (.iload_n 1, 1) := dk_27 (dk_at dksX0_paint_0 20 rfl rfl)
theorem dX0_paint_21 : decode cX0_paint 21 = .ok (.iload_n 2, 1) := dk_28 (dk_at dksX0_paint_0 21 rfl rfl)
theorem dX0_paint_22 : decode cX0_paint 22 = .ok (.invokevirtual 270, 3) := dk_182 1 14 (dk_at dksX0_paint_1 0 rfl rfl)
theorem dX0_paint_25 : decode cX0_paint 25 = .ok (.ifCond .ne 5, 3) := dk_154 0 5 (dk_at dksX0_paint_1 3 rfl rfl)
theorem dX0_paint_28 : decode cX0_paint 28 = .ok (.iconst (-1), 1) := dk_2 (dk_at dksX0_paint_1 6 rfl rfl)
theorem dX0_paint_29 : decode cX0_paint 29 = .ok (.ireturn, 1) := dk_172 (dk_at dksX0_paint_1 7 rfl rfl)
theorem dX0_paint_30 : decode cX0_paint 30 = .ok (.aload_n 0, 1) := dk_42 (dk_at dksX0_paint_1 8 rfl rfl)
theorem dX0_paint_31 : decode cX0_paint 31 = .ok (.invokevirtual 260, 3) := dk_182 1 4 (dk_at dksX0_paint_1 9 rfl rfl)
theorem dX0_paint_34 : decode cX0_paint 34 = .ok (.aload_n 0, 1) := dk_42 (dk_at dksX0_paint_1 12 rfl rfl)
theorem dX0_paint_35 : decode cX0_paint 35 = .ok (.getfield 149, 3) := dk_180 0 149 (dk_at dksX0_paint_1 13 rfl rfl)
theorem dX0_paint_38 : decode cX0_paint 38 = .ok (.iload_n 1, 1) := dk_27 (dk_at dksX0_paint_1 16 rfl rfl)
theorem dX0_paint_39 : decode cX0_paint 39 = .ok (.iload_n 2, 1) := dk_28 (dk_at dksX0_paint_1 17 rfl rfl)
theorem dX0_paint_40 : decode cX0_paint 40 = .ok (.invokevirtual 273, 3) := dk_182 1 17 (dk_at dksX0_paint_1 18 rfl rfl)
theorem dX0_paint_43 : decode cX0_paint 43 = .ok (.aload_n 0, 1) := dk_42 (dk_at dksX0_paint_1 21 rfl rfl)
theorem dX0_paint_44 : decode cX0_paint 44 = .ok (.getfield 149, 3) := dk_180 0 149 (dk_at dksX0_paint_2 0 rfl rfl)
theorem dX0_paint_47 : decode cX0_paint 47 = .ok (.getfield 179, 3) := dk_180 0 179 (dk_at dksX0_paint_2 3 rfl rfl)
theorem dX0_paint_50 : decode cX0_paint 50 = .ok (.iload_n 1, 1) := dk_27 (dk_at dksX0_paint_2 6 rfl rfl)
theorem dX0_paint_51 : decode cX0_paint 51 = .ok (.iaload, 1) := dk_46 (dk_at dksX0_paint_2 7 rfl rfl)
theorem dX0_paint_52 : decode cX0_paint 52 = .ok (.ireturn, 1) := dk_172 (dk_at dksX0_paint_2 8 rfl rfl)
abbrev cX0_scrape : ByteArray := prog_1_method_24_code
def yX0_scrape : MethodName := ⟨RX0, "scrape", "(I)I"⟩
def dkwX0_scrape_2 : List UInt8 := [79, 28, 172]
abbrev dktX0_scrape_2 : List UInt8 := dkwX0_scrape_2 ++ []
def dkwX0_scrape_1 : List UInt8 := [182, 1, 4, 42, 180, 0, 149, 27, 182, 0, 186, 61, 42, 180, 0, 149, 180, 0, 179, 27, 92, 46, 4, 100]
abbrev dktX0_scrape_1 : List UInt8 := dkwX0_scrape_1 ++ dktX0_scrape_2
def dkwX0_scrape_0 : List UInt8 := [42, 27, 182, 0, 172, 153, 0, 15, 42, 180, 0, 149, 180, 0, 179, 27, 46, 154, 0, 5, 2, 172, 42]
abbrev dktX0_scrape_0 : List UInt8 := dkwX0_scrape_0 ++ dktX0_scrape_1
theorem dksX0_scrape_0 : cX0_scrape.data.toList.drop 0 = dktX0_scrape_0 := by decide +kernel
theorem dksX0_scrape_1 : cX0_scrape.data.toList.drop 23 = dktX0_scrape_1 := dk_seg dksX0_scrape_0 23 rfl rfl
theorem dksX0_scrape_2 : cX0_scrape.data.toList.drop 47 = dktX0_scrape_2 := dk_seg dksX0_scrape_1 24 rfl rfl
theorem dX0_scrape_0 : decode cX0_scrape 0 = .ok (.aload_n 0, 1) := dk_42 (dk_at dksX0_scrape_0 0 rfl rfl)
theorem dX0_scrape_1 : decode cX0_scrape 1 = .ok (.iload_n 1, 1) := dk_27 (dk_at dksX0_scrape_0 1 rfl rfl)
theorem dX0_scrape_2 : decode cX0_scrape 2 = .ok (.invokevirtual 172, 3) := dk_182 0 172 (dk_at dksX0_scrape_0 2 rfl rfl)
theorem dX0_scrape_5 : decode cX0_scrape 5 = .ok (.ifCond .eq 15, 3) := dk_153 0 15 (dk_at dksX0_scrape_0 5 rfl rfl)
theorem dX0_scrape_8 : decode cX0_scrape 8 = .ok (.aload_n 0, 1) := dk_42 (dk_at dksX0_scrape_0 8 rfl rfl)
theorem dX0_scrape_9 : decode cX0_scrape 9 = .ok (.getfield 149, 3) := dk_180 0 149 (dk_at dksX0_scrape_0 9 rfl rfl)
theorem dX0_scrape_12 : decode cX0_scrape 12 = .ok (.getfield 179, 3) := dk_180 0 179 (dk_at dksX0_scrape_0 12 rfl rfl)
theorem dX0_scrape_15 : decode cX0_scrape 15 = .ok (.iload_n 1, 1) := dk_27 (dk_at dksX0_scrape_0 15 rfl rfl)
theorem dX0_scrape_16 : decode cX0_scrape 16 = .ok (.iaload, 1) := dk_46 (dk_at dksX0_scrape_0 16 rfl rfl)
theorem dX0_scrape_17 : decode cX0_scrape 17 = .ok (.ifCond .ne 5, 3) := dk_154 0 5 (dk_at dksX0_scrape_0 17 rfl rfl)
theorem dX0_scrape_20 : decode cX0_scrape 20 = .ok (.iconst (-1), 1) := dk_2 (dk_at dksX0_scrape_0 20 rfl rfl)
theorem dX0_scrape_21 : decode cX0_scrape 21 = .ok (.ireturn, 1) := dk_172 (dk_at dksX0_scrape_0 21 rfl rfl)
theorem dX0_scrape_22 : decode cX0_scrape 22 = .ok (.aload_n 0, 1) := dk_42 (dk_at dksX0_scrape_0 22 rfl rfl)
theorem dX0_scrape_23 : decode cX0_scrape 23 = .ok (.invokevirtual 260, 3) := dk_182 1 4 (dk_at dksX0_scrape_1 0 rfl rfl)
theorem dX0_scrape_26 : decode cX0_scrape 26 = .ok (.aload_n 0, 1) := dk_42 (dk_at dksX0_scrape_1 3 rfl rfl)
theorem dX0_scrape_27 : decode cX0_scrape 27 = .ok (.getfield 149, 3) := dk_180 0 149 (dk_at dksX0_scrape_1 4 rfl rfl)
theorem dX0_scrape_30 : decode cX0_scrape 30 = .ok (.iload_n 1, 1) := dk_27 (dk_at dksX0_scrape_1 7 rfl rfl)
theorem dX0_scrape_31 : decode cX0_scrape 31 = .ok (.invokevirtual 186, 3) := dk_182 0 186 (dk_at dksX0_scrape_1 8 rfl rfl)
theorem dX0_scrape_34 : decode cX0_scrape 34 = .ok (.istore_n 2, 1) := dk_61 (dk_at dksX0_scrape_1 11 rfl rfl)
theorem dX0_scrape_35 : decode cX0_scrape 35 = .ok (.aload_n 0, 1) := dk_42 (dk_at dksX0_scrape_1 12 rfl rfl)
theorem dX0_scrape_36 : decode cX0_scrape 36 = .ok (.getfield 149, 3) := dk_180 0 149 (dk_at dksX0_scrape_1 13 rfl rfl)
theorem dX0_scrape_39 : decode cX0_scrape 39 = .ok (.getfield 179, 3) := dk_180 0 179 (dk_at dksX0_scrape_1 16 rfl rfl)
theorem dX0_scrape_42 : decode cX0_scrape 42 = .ok (.iload_n 1, 1) := dk_27 (dk_at dksX0_scrape_1 19 rfl rfl)
theorem dX0_scrape_43 : decode cX0_scrape 43 = .ok (.dup2, 1) := dk_92 (dk_at dksX0_scrape_1 20 rfl rfl)
theorem dX0_scrape_44 : decode cX0_scrape 44 = .ok (.iaload, 1) := dk_46 (dk_at dksX0_scrape_1 21 rfl rfl)
theorem dX0_scrape_45 : decode cX0_scrape 45 = .ok (.iconst 1, 1) := dk_4 (dk_at dksX0_scrape_1 22 rfl rfl)
theorem dX0_scrape_46 : decode cX0_scrape 46 = .ok (.isub, 1) := dk_100 (dk_at dksX0_scrape_1 23 rfl rfl)
theorem dX0_scrape_47 : decode cX0_scrape 47 = .ok (.iastore, 1) := dk_79 (dk_at dksX0_scrape_2 0 rfl rfl)
theorem dX0_scrape_48 : decode cX0_scrape 48 = .ok (.iload_n 2, 1) := dk_28 (dk_at dksX0_scrape_2 1 rfl rfl)
theorem dX0_scrape_49 : decode cX0_scrape 49 = .ok (.ireturn, 1) := dk_172 (dk_at dksX0_scrape_2 2 rfl rfl)
abbrev cX0_vote : ByteArray := prog_1_method_25_code
def yX0_vote : MethodName := ⟨RX0, "vote", "(I)I"⟩
def dkwX0_vote_1 : List UInt8 := [42, 182, 1, 4, 42, 180, 0, 149, 27, 182, 1, 21, 172]
abbrev dktX0_vote_1 : List UInt8 := dkwX0_vote_1 ++ []
def dkwX0_vote_0 : List UInt8 := [42, 27, 182, 0, 212, 153, 0, 17, 42, 180, 0, 149, 180, 0, 225, 27, 184, 0, 227, 153, 0, 5, 2, 172]
abbrev dktX0_vote_0 : List UInt8 := dkwX0_vote_0 ++ dktX0_vote_1
theorem dksX0_vote_0 : cX0_vote.data.toList.drop 0 = dktX0_vote_0 := by decide +kernel
theorem dksX0_vote_1 : cX0_vote.data.toList.drop 24 = dktX0_vote_1 := dk_seg dksX0_vote_0 24 rfl rfl
theorem dX0_vote_0 : decode cX0_vote 0 = .ok (.aload_n 0, 1) := dk_42 (dk_at dksX0_vote_0 0 rfl rfl)
theorem dX0_vote_1 : decode cX0_vote 1 = .ok (.iload_n 1, 1) := dk_27 (dk_at dksX0_vote_0 1 rfl rfl)
theorem dX0_vote_2 : decode cX0_vote 2 = .ok (.invokevirtual 212, 3) := dk_182 0 212 (dk_at dksX0_vote_0 2 rfl rfl)
theorem dX0_vote_5 : decode cX0_vote 5 = .ok (.ifCond .eq 17, 3) := dk_153 0 17 (dk_at dksX0_vote_0 5 rfl rfl)
theorem dX0_vote_8 : decode cX0_vote 8 = .ok (.aload_n 0, 1) := dk_42 (dk_at dksX0_vote_0 8 rfl rfl)
theorem dX0_vote_9 : decode cX0_vote 9 = .ok (.getfield 149, 3) := dk_180 0 149 (dk_at dksX0_vote_0 9 rfl rfl)
theorem dX0_vote_12 : decode cX0_vote 12 = .ok (.getfield 225, 3) := dk_180 0 225 (dk_at dksX0_vote_0 12 rfl rfl)
theorem dX0_vote_15 : decode cX0_vote 15 = .ok (.iload_n 1, 1) := dk_27 (dk_at dksX0_vote_0 15 rfl rfl)
theorem dX0_vote_16 : decode cX0_vote 16 = .ok (.invokestatic 227, 3) := dk_184 0 227 (dk_at dksX0_vote_0 16 rfl rfl)
theorem dX0_vote_19 : decode cX0_vote 19 = .ok (.ifCond .eq 5, 3) := dk_153 0 5 (dk_at dksX0_vote_0 19 rfl rfl)
theorem dX0_vote_22 : decode cX0_vote 22 = .ok (.iconst (-1), 1) := dk_2 (dk_at dksX0_vote_0 22 rfl rfl)
theorem dX0_vote_23 : decode cX0_vote 23 = .ok (.ireturn, 1) := dk_172 (dk_at dksX0_vote_0 23 rfl rfl)
theorem dX0_vote_24 : decode cX0_vote 24 = .ok (.aload_n 0, 1) := dk_42 (dk_at dksX0_vote_1 0 rfl rfl)
theorem dX0_vote_25 : decode cX0_vote 25 = .ok (.invokevirtual 260, 3) := dk_182 1 4 (dk_at dksX0_vote_1 1 rfl rfl)
theorem dX0_vote_28 : decode cX0_vote 28 = .ok (.aload_n 0, 1) := dk_42 (dk_at dksX0_vote_1 4 rfl rfl)
theorem dX0_vote_29 : decode cX0_vote 29 = .ok (.getfield 149, 3) := dk_180 0 149 (dk_at dksX0_vote_1 5 rfl rfl)
theorem dX0_vote_32 : decode cX0_vote 32 = .ok (.iload_n 1, 1) := dk_27 (dk_at dksX0_vote_1 8 rfl rfl)
theorem dX0_vote_33 : decode cX0_vote 33 = .ok (.invokevirtual 277, 3) := dk_182 1 21 (dk_at dksX0_vote_1 9 rfl rfl)
theorem dX0_vote_36 : decode cX0_vote 36 = .ok (.ireturn, 1) := dk_172 (dk_at dksX0_vote_1 12 rfl rfl)
abbrev cX0_ahead : ByteArray := prog_1_method_26_code
def yX0_ahead : MethodName := ⟨RX0, "ahead", "(III)I"⟩
def dkwX0_ahead_6 : List UInt8 := [182, 0, 182, 172]
abbrev dktX0_ahead_6 : List UInt8 := dkwX0_ahead_6 ++ []
def dkwX0_ahead_5 : List UInt8 := [182, 0, 223, 167, 0, 24, 29, 4, 160, 0, 13, 25, 4, 180, 0, 234, 27, 46, 167, 0, 9, 25, 4, 27]
abbrev dktX0_ahead_5 : List UInt8 := dkwX0_ahead_5 ++ dktX0_ahead_6
def dkwX0_ahead_4 : List UInt8 := [182, 1, 7, 42, 180, 0, 31, 182, 1, 10, 87, 132, 5, 1, 167, 255, 233, 29, 154, 0, 12, 25, 4, 27]
abbrev dktX0_ahead_4 : List UInt8 := dkwX0_ahead_4 ++ dktX0_ahead_5
def dkwX0_ahead_3 : List UInt8 := [180, 0, 18, 42, 180, 0, 149, 182, 0, 145, 58, 4, 3, 54, 5, 21, 5, 28, 162, 0, 23, 25, 4, 42]
abbrev dktX0_ahead_3 : List UInt8 := dkwX0_ahead_3 ++ dktX0_ahead_4
def dkwX0_ahead_2 : List UInt8 := [27, 182, 0, 231, 154, 0, 17, 167, 0, 11, 42, 27, 182, 0, 172, 154, 0, 6, 16, 254, 172, 42]
abbrev dktX0_ahead_2 : List UInt8 := dkwX0_ahead_2 ++ dktX0_ahead_3
def dkwX0_ahead_1 : List UInt8 := [16, 254, 172, 29, 154, 0, 14, 42, 27, 182, 0, 212, 154, 0, 33, 167, 0, 27, 29, 4, 160, 0, 14, 42]
abbrev dktX0_ahead_1 : List UInt8 := dkwX0_ahead_1 ++ dktX0_ahead_2
def dkwX0_ahead_0 : List UInt8 := [28, 133, 9, 20, 1, 24, 184, 0, 193, 153, 0, 15, 29, 133, 9, 20, 0, 191, 184, 0, 193, 154, 0, 6]
abbrev dktX0_ahead_0 : List UInt8 := dkwX0_ahead_0 ++ dktX0_ahead_1
theorem dksX0_ahead_0 : cX0_ahead.data.toList.drop 0 = dktX0_ahead_0 := by decide +kernel
theorem dksX0_ahead_1 : cX0_ahead.data.toList.drop 24 = dktX0_ahead_1 := dk_seg dksX0_ahead_0 24 rfl rfl
theorem dksX0_ahead_2 : cX0_ahead.data.toList.drop 48 = dktX0_ahead_2 := dk_seg dksX0_ahead_1 24 rfl rfl
theorem dksX0_ahead_3 : cX0_ahead.data.toList.drop 70 = dktX0_ahead_3 := dk_seg dksX0_ahead_2 22 rfl rfl
theorem dksX0_ahead_4 : cX0_ahead.data.toList.drop 94 = dktX0_ahead_4 := dk_seg dksX0_ahead_3 24 rfl rfl
theorem dksX0_ahead_5 : cX0_ahead.data.toList.drop 118 = dktX0_ahead_5 := dk_seg dksX0_ahead_4 24 rfl rfl
theorem dksX0_ahead_6 : cX0_ahead.data.toList.drop 142 = dktX0_ahead_6 := dk_seg dksX0_ahead_5 24 rfl rfl
theorem dX0_ahead_0 : decode cX0_ahead 0 = .ok (.iload_n 2, 1) := dk_28 (dk_at dksX0_ahead_0 0 rfl rfl)
theorem dX0_ahead_1 : decode cX0_ahead 1 = .ok (.i2l, 1) := dk_133 (dk_at dksX0_ahead_0 1 rfl rfl)
theorem dX0_ahead_2 : decode cX0_ahead 2 = .ok (.lconst 0, 1) := dk_9 (dk_at dksX0_ahead_0 2 rfl rfl)
theorem dX0_ahead_3 : decode cX0_ahead 3 = .ok (.ldc2_w 280, 3) := dk_20 1 24 (dk_at dksX0_ahead_0 3 rfl rfl)
theorem dX0_ahead_6 : decode cX0_ahead 6 = .ok (.invokestatic 193, 3) := dk_184 0 193 (dk_at dksX0_ahead_0 6 rfl rfl)
theorem dX0_ahead_9 : decode cX0_ahead 9 = .ok (.ifCond .eq 15, 3) := dk_153 0 15 (dk_at dksX0_ahead_0 9 rfl rfl)
theorem dX0_ahead_12 : decode cX0_ahead 12 = .ok (.iload_n 3, 1) := dk_29 (dk_at dksX0_ahead_0 12 rfl rfl)
theorem dX0_ahead_13 : decode cX0_ahead 13 = .ok (.i2l, 1) := dk_133 (dk_at dksX0_ahead_0 13 rfl rfl)
theorem dX0_ahead_14 : decode cX0_ahead 14 = .ok (.lconst 0, 1) := dk_9 (dk_at dksX0_ahead_0 14 rfl rfl)
theorem dX0_ahead_15 : decode cX0_ahead 15 = .ok (.ldc2_w 191, 3) := dk_20 0 191 (dk_at dksX0_ahead_0 15 rfl rfl)
theorem dX0_ahead_18 : decode cX0_ahead 18 = .ok (.invokestatic 193, 3) := dk_184 0 193 (dk_at dksX0_ahead_0 18 rfl rfl)
theorem dX0_ahead_21 : decode cX0_ahead 21 = .ok (.ifCond .ne 6, 3) := dk_154 0 6 (dk_at dksX0_ahead_0 21 rfl rfl)
theorem dX0_ahead_24 : decode cX0_ahead 24 = .ok (.bipush (-2), 2) := dk_16 254 (dk_at dksX0_ahead_1 0 rfl rfl)
theorem dX0_ahead_26 : decode cX0_ahead 26 = .ok (.ireturn, 1) := dk_172 (dk_at dksX0_ahead_1 2 rfl rfl)
theorem dX0_ahead_27 : decode cX0_ahead 27 = .ok (.iload_n 3, 1) := dk_29 (dk_at dksX0_ahead_1 3 rfl rfl)
theorem dX0_ahead_28 : decode cX0_ahead 28 = .ok (.ifCond .ne 14, 3) := dk_154 0 14 (dk_at dksX0_ahead_1 4 rfl rfl)
theorem dX0_ahead_31 : decode cX0_ahead 31 = .ok (.aload_n 0, 1) := dk_42 (dk_at dksX0_ahead_1 7 rfl rfl)
theorem dX0_ahead_32 : decode cX0_ahead 32 = .ok (.iload_n 1, 1) := dk_27 (dk_at dksX0_ahead_1 8 rfl rfl)
theorem dX0_ahead_33 : decode cX0_ahead 33 = .ok (.invokevirtual 212, 3) := dk_182 0 212 (dk_at dksX0_ahead_1 9 rfl rfl)
theorem dX0_ahead_36 : decode cX0_ahead 36 = .ok (.ifCond .ne 33, 3) := dk_154 0 33 (dk_at dksX0_ahead_1 12 rfl rfl)
theorem dX0_ahead_39 : decode cX0_ahead 39 = .ok (.goto 27, 3) := dk_167 0 27 (dk_at dksX0_ahead_1 15 rfl rfl)
theorem dX0_ahead_42 : decode cX0_ahead 42 = .ok (.iload_n 3, 1) := dk_29 (dk_at dksX0_ahead_1 18 rfl rfl)
theorem dX0_ahead_43 : decode cX0_ahead 43 = .ok (.iconst 1, 1) := dk_4 (dk_at dksX0_ahead_1 19 rfl rfl)
theorem dX0_ahead_44 : decode cX0_ahead 44 = .ok (.if_icmp .ne 14, 3) := dk_160 0 14 (dk_at dksX0_ahead_1 20 rfl rfl)
theorem dX0_ahead_47 : decode cX0_ahead 47 = .ok (.aload_n 0, 1) := dk_42 (dk_at dksX0_ahead_1 23 rfl rfl)
theorem dX0_ahead_48 : decode cX0_ahead 48 = .ok (.iload_n 1, 1) := dk_27 (dk_at dksX0_ahead_2 0 rfl rfl)
theorem dX0_ahead_49 : decode cX0_ahead 49 = .ok (.invokevirtual 231, 3) := dk_182 0 231 (dk_at dksX0_ahead_2 1 rfl rfl)
theorem dX0_ahead_52 : decode cX0_ahead 52 = .ok (.ifCond .ne 17, 3) := dk_154 0 17 (dk_at dksX0_ahead_2 4 rfl rfl)
theorem dX0_ahead_55 : decode cX0_ahead 55 = .ok (.goto 11, 3) := dk_167 0 11 (dk_at dksX0_ahead_2 7 rfl rfl)
theorem dX0_ahead_58 : decode cX0_ahead 58 = .ok (.aload_n 0, 1) := dk_42 (dk_at dksX0_ahead_2 10 rfl rfl)
theorem dX0_ahead_59 : decode cX0_ahead 59 = .ok (.iload_n 1, 1) := dk_27 (dk_at dksX0_ahead_2 11 rfl rfl)
theorem dX0_ahead_60 : decode cX0_ahead 60 = .ok (.invokevirtual 172, 3) := dk_182 0 172 (dk_at dksX0_ahead_2 12 rfl rfl)
theorem dX0_ahead_63 : decode cX0_ahead 63 = .ok (.ifCond .ne 6, 3) := dk_154 0 6 (dk_at dksX0_ahead_2 15 rfl rfl)
theorem dX0_ahead_66 : decode cX0_ahead 66 = .ok (.bipush (-2), 2) := dk_16 254 (dk_at dksX0_ahead_2 18 rfl rfl)
theorem dX0_ahead_68 : decode cX0_ahead 68 = .ok (.ireturn, 1) := dk_172 (dk_at dksX0_ahead_2 20 rfl rfl)
theorem dX0_ahead_69 : decode cX0_ahead 69 = .ok (.aload_n 0, 1) := dk_42 (dk_at dksX0_ahead_2 21 rfl rfl)
theorem dX0_ahead_70 : decode cX0_ahead 70 = .ok (.getfield 18, 3) := dk_180 0 18 (dk_at dksX0_ahead_3 0 rfl rfl)
theorem dX0_ahead_73 : decode cX0_ahead 73 = .ok (.aload_n 0, 1) := dk_42 (dk_at dksX0_ahead_3 3 rfl rfl)
theorem dX0_ahead_74 : decode cX0_ahead 74 = .ok (.getfield 149, 3) := dk_180 0 149 (dk_at dksX0_ahead_3 4 rfl rfl)
theorem dX0_ahead_77 : decode cX0_ahead 77 = .ok (.invokevirtual 145, 3) := dk_182 0 145 (dk_at dksX0_ahead_3 7 rfl rfl)
theorem dX0_ahead_80 : decode cX0_ahead 80 = .ok (.astore 4, 2) := dk_58 4 (dk_at dksX0_ahead_3 10 rfl rfl)
theorem dX0_ahead_82 : decode cX0_ahead 82 = .ok (.iconst 0, 1) := dk_3 (dk_at dksX0_ahead_3 12 rfl rfl)
theorem dX0_ahead_83 : decode cX0_ahead 83 = .ok (.istore 5, 2) := dk_54 5 (dk_at dksX0_ahead_3 13 rfl rfl)
theorem dX0_ahead_85 : decode cX0_ahead 85 = .ok (.iload 5, 2) := dk_21 5 (dk_at dksX0_ahead_3 15 rfl rfl)
theorem dX0_ahead_87 : decode cX0_ahead 87 = .ok (.iload_n 2, 1) := dk_28 (dk_at dksX0_ahead_3 17 rfl rfl)
theorem dX0_ahead_88 : decode cX0_ahead 88 = .ok (.if_icmp .ge 23, 3) := dk_162 0 23 (dk_at dksX0_ahead_3 18 rfl rfl)
theorem dX0_ahead_91 : decode cX0_ahead 91 = .ok (.aload 4, 2) := dk_25 4 (dk_at dksX0_ahead_3 21 rfl rfl)
theorem dX0_ahead_93 : decode cX0_ahead 93 = .ok (.aload_n 0, 1) := dk_42 (dk_at dksX0_ahead_3 23 rfl rfl)
theorem dX0_ahead_94 : decode cX0_ahead 94 = .ok (.invokevirtual 263, 3) := dk_182 1 7 (dk_at dksX0_ahead_4 0 rfl rfl)
theorem dX0_ahead_97 : decode cX0_ahead 97 = .ok (.aload_n 0, 1) := dk_42 (dk_at dksX0_ahead_4 3 rfl rfl)
theorem dX0_ahead_98 : decode cX0_ahead 98 = .ok (.getfield 31, 3) := dk_180 0 31 (dk_at dksX0_ahead_4 4 rfl rfl)
theorem dX0_ahead_101 : decode cX0_ahead 101 = .ok (.invokevirtual 266, 3) := dk_182 1 10 (dk_at dksX0_ahead_4 7 rfl rfl)
theorem dX0_ahead_104 : decode cX0_ahead 104 = .ok (.pop, 1) := dk_87 (dk_at dksX0_ahead_4 10 rfl rfl)
theorem dX0_ahead_105 : decode cX0_ahead 105 = .ok (.iinc 5 1, 3) := dk_132 5 1 (dk_at dksX0_ahead_4 11 rfl rfl)
theorem dX0_ahead_108 : decode cX0_ahead 108 = .ok (.goto (-23), 3) := dk_167 255 233 (dk_at dksX0_ahead_4 14 rfl rfl)
theorem dX0_ahead_111 : decode cX0_ahead 111 = .ok (.iload_n 3, 1) := dk_29 (dk_at dksX0_ahead_4 17 rfl rfl)
theorem dX0_ahead_112 : decode cX0_ahead 112 = .ok (.ifCond .ne 12, 3) := dk_154 0 12 (dk_at dksX0_ahead_4 18 rfl rfl)
theorem dX0_ahead_115 : decode cX0_ahead 115 = .ok (.aload 4, 2) := dk_25 4 (dk_at dksX0_ahead_4 21 rfl rfl)
theorem dX0_ahead_117 : decode cX0_ahead 117 = .ok (.iload_n 1, 1) := dk_27 (dk_at dksX0_ahead_4 23 rfl rfl)
theorem dX0_ahead_118 : decode cX0_ahead 118 = .ok (.invokevirtual 223, 3) := dk_182 0 223 (dk_at dksX0_ahead_5 0 rfl rfl)
theorem dX0_ahead_121 : decode cX0_ahead 121 = .ok (.goto 24, 3) := dk_167 0 24 (dk_at dksX0_ahead_5 3 rfl rfl)
theorem dX0_ahead_124 : decode cX0_ahead 124 = .ok (.iload_n 3, 1) := dk_29 (dk_at dksX0_ahead_5 6 rfl rfl)
theorem dX0_ahead_125 : decode cX0_ahead 125 = .ok (.iconst 1, 1) := dk_4 (dk_at dksX0_ahead_5 7 rfl rfl)
theorem dX0_ahead_126 : decode cX0_ahead 126 = .ok (.if_icmp .ne 13, 3) := dk_160 0 13 (dk_at dksX0_ahead_5 8 rfl rfl)
theorem dX0_ahead_129 : decode cX0_ahead 129 = .ok (.aload 4, 2) := dk_25 4 (dk_at dksX0_ahead_5 11 rfl rfl)
theorem dX0_ahead_131 : decode cX0_ahead 131 = .ok (.getfield 234, 3) := dk_180 0 234 (dk_at dksX0_ahead_5 13 rfl rfl)
theorem dX0_ahead_134 : decode cX0_ahead 134 = .ok (.iload_n 1, 1) := dk_27 (dk_at dksX0_ahead_5 16 rfl rfl)
theorem dX0_ahead_135 : decode cX0_ahead 135 = .ok (.iaload, 1) := dk_46 (dk_at dksX0_ahead_5 17 rfl rfl)
theorem dX0_ahead_136 : decode cX0_ahead 136 = .ok (.goto 9, 3) := dk_167 0 9 (dk_at dksX0_ahead_5 18 rfl rfl)
theorem dX0_ahead_139 : decode cX0_ahead 139 = .ok (.aload 4, 2) := dk_25 4 (dk_at dksX0_ahead_5 21 rfl rfl)
theorem dX0_ahead_141 : decode cX0_ahead 141 = .ok (.iload_n 1, 1) := dk_27 (dk_at dksX0_ahead_5 23 rfl rfl)
theorem dX0_ahead_142 : decode cX0_ahead 142 = .ok (.invokevirtual 182, 3) := dk_182 0 182 (dk_at dksX0_ahead_6 0 rfl rfl)
theorem dX0_ahead_145 : decode cX0_ahead 145 = .ok (.ireturn, 1) := dk_172 (dk_at dksX0_ahead_6 3 rfl rfl)
abbrev cX0_rents : ByteArray := prog_1_method_28_code
def yX0_rents : MethodName := ⟨RX0, "rents", "(II)I"⟩
def dkwX0_rents_1 : List UInt8 := [180, 0, 18, 42, 180, 0, 149, 182, 0, 145, 27, 28, 42, 182, 1, 7, 182, 1, 26, 172]
abbrev dktX0_rents_1 : List UInt8 := dkwX0_rents_1 ++ []
def dkwX0_rents_0 : List UInt8 := [42, 27, 182, 0, 231, 153, 0, 15, 28, 133, 10, 20, 1, 24, 184, 0, 193, 154, 0, 5, 2, 172, 42, 42]
abbrev dktX0_rents_0 : List UInt8 := dkwX0_rents_0 ++ dktX0_rents_1
theorem dksX0_rents_0 : cX0_rents.data.toList.drop 0 = dktX0_rents_0 := by decide +kernel
theorem dksX0_rents_1 : cX0_rents.data.toList.drop 24 = dktX0_rents_1 := dk_seg dksX0_rents_0 24 rfl rfl
theorem dX0_rents_0 : decode cX0_rents 0 = .ok (.aload_n 0, 1) := dk_42 (dk_at dksX0_rents_0 0 rfl rfl)
theorem dX0_rents_1 : decode cX0_rents 1 = .ok (.iload_n 1, 1) := dk_27 (dk_at dksX0_rents_0 1 rfl rfl)
theorem dX0_rents_2 : decode cX0_rents 2 = .ok (.invokevirtual 231, 3) := dk_182 0 231 (dk_at dksX0_rents_0 2 rfl rfl)
theorem dX0_rents_5 : decode cX0_rents 5 = .ok (.ifCond .eq 15, 3) := dk_153 0 15 (dk_at dksX0_rents_0 5 rfl rfl)
theorem dX0_rents_8 : decode cX0_rents 8 = .ok (.iload_n 2, 1) := dk_28 (dk_at dksX0_rents_0 8 rfl rfl)
theorem dX0_rents_9 : decode cX0_rents 9 = .ok (.i2l, 1) := dk_133 (dk_at dksX0_rents_0 9 rfl rfl)
theorem dX0_rents_10 : decode cX0_rents 10 = .ok (.lconst 1, 1) := dk_10 (dk_at dksX0_rents_0 10 rfl rfl)
theorem dX0_rents_11 : decode cX0_rents 11 = .ok (.ldc2_w 280, 3) := dk_20 1 24 (dk_at dksX0_rents_0 11 rfl rfl)
theorem dX0_rents_14 : decode cX0_rents 14 = .ok (.invokestatic 193, 3) := dk_184 0 193 (dk_at dksX0_rents_0 14 rfl rfl)
theorem dX0_rents_17 : decode cX0_rents 17 = .ok (.ifCond .ne 5, 3) := dk_154 0 5 (dk_at dksX0_rents_0 17 rfl rfl)
theorem dX0_rents_20 : decode cX0_rents 20 = .ok (.iconst (-1), 1) := dk_2 (dk_at dksX0_rents_0 20 rfl rfl)
theorem dX0_rents_21 : decode cX0_rents 21 = .ok (.ireturn, 1) := dk_172 (dk_at dksX0_rents_0 21 rfl rfl)
theorem dX0_rents_22 : decode cX0_rents 22 = .ok (.aload_n 0, 1) := dk_42 (dk_at dksX0_rents_0 22 rfl rfl)
theorem dX0_rents_23 : decode cX0_rents 23 = .ok (.aload_n 0, 1) := dk_42 (dk_at dksX0_rents_0 23 rfl rfl)
theorem dX0_rents_24 : decode cX0_rents 24 = .ok (.getfield 18, 3) := dk_180 0 18 (dk_at dksX0_rents_1 0 rfl rfl)
theorem dX0_rents_27 : decode cX0_rents 27 = .ok (.aload_n 0, 1) := dk_42 (dk_at dksX0_rents_1 3 rfl rfl)
theorem dX0_rents_28 : decode cX0_rents 28 = .ok (.getfield 149, 3) := dk_180 0 149 (dk_at dksX0_rents_1 4 rfl rfl)
theorem dX0_rents_31 : decode cX0_rents 31 = .ok (.invokevirtual 145, 3) := dk_182 0 145 (dk_at dksX0_rents_1 7 rfl rfl)
theorem dX0_rents_34 : decode cX0_rents 34 = .ok (.iload_n 1, 1) := dk_27 (dk_at dksX0_rents_1 10 rfl rfl)
theorem dX0_rents_35 : decode cX0_rents 35 = .ok (.iload_n 2, 1) := dk_28 (dk_at dksX0_rents_1 11 rfl rfl)
theorem dX0_rents_36 : decode cX0_rents 36 = .ok (.aload_n 0, 1) := dk_42 (dk_at dksX0_rents_1 12 rfl rfl)
theorem dX0_rents_37 : decode cX0_rents 37 = .ok (.invokevirtual 263, 3) := dk_182 1 7 (dk_at dksX0_rents_1 13 rfl rfl)
theorem dX0_rents_40 : decode cX0_rents 40 = .ok (.invokevirtual 282, 3) := dk_182 1 26 (dk_at dksX0_rents_1 16 rfl rfl)
theorem dX0_rents_43 : decode cX0_rents 43 = .ok (.ireturn, 1) := dk_172 (dk_at dksX0_rents_1 19 rfl rfl)
abbrev cX0_gotIn : ByteArray := prog_1_method_27_code
def yX0_gotIn : MethodName := ⟨RX0, "gotIn", "(LLatestCoat$Town;IILLatestCoat$Rule;)I"⟩
def dkwX0_gotIn_1 : List UInt8 := [182, 1, 10, 87, 132, 5, 1, 167, 255, 236, 42, 180, 0, 31, 28, 46, 172]
abbrev dktX0_gotIn_1 : List UInt8 := dkwX0_gotIn_1 ++ []
def dkwX0_gotIn_0 : List UInt8 := [42, 180, 0, 31, 28, 3, 79, 3, 54, 5, 21, 5, 29, 162, 0, 20, 43, 25, 4, 42, 180, 0, 31]
abbrev dktX0_gotIn_0 : List UInt8 := dkwX0_gotIn_0 ++ dktX0_gotIn_1
theorem dksX0_gotIn_0 : cX0_gotIn.data.toList.drop 0 = dktX0_gotIn_0 := by decide +kernel
theorem dksX0_gotIn_1 : cX0_gotIn.data.toList.drop 23 = dktX0_gotIn_1 := dk_seg dksX0_gotIn_0 23 rfl rfl
theorem dX0_gotIn_0 : decode cX0_gotIn 0 = .ok (.aload_n 0, 1) := dk_42 (dk_at dksX0_gotIn_0 0 rfl rfl)
theorem dX0_gotIn_1 : decode cX0_gotIn 1 = .ok (.getfield 31, 3) := dk_180 0 31 (dk_at dksX0_gotIn_0 1 rfl rfl)
theorem dX0_gotIn_4 : decode cX0_gotIn 4 = .ok (.iload_n 2, 1) := dk_28 (dk_at dksX0_gotIn_0 4 rfl rfl)
theorem dX0_gotIn_5 : decode cX0_gotIn 5 = .ok (.iconst 0, 1) := dk_3 (dk_at dksX0_gotIn_0 5 rfl rfl)
theorem dX0_gotIn_6 : decode cX0_gotIn 6 = .ok (.iastore, 1) := dk_79 (dk_at dksX0_gotIn_0 6 rfl rfl)
theorem dX0_gotIn_7 : decode cX0_gotIn 7 = .ok (.iconst 0, 1) := dk_3 (dk_at dksX0_gotIn_0 7 rfl rfl)
theorem dX0_gotIn_8 : decode cX0_gotIn 8 = .ok (.istore 5, 2) := dk_54 5 (dk_at dksX0_gotIn_0 8 rfl rfl)
theorem dX0_gotIn_10 : decode cX0_gotIn 10 = .ok (.iload 5, 2) := dk_21 5 (dk_at dksX0_gotIn_0 10 rfl rfl)
theorem dX0_gotIn_12 : decode cX0_gotIn 12 = .ok (.iload_n 3, 1) := dk_29 (dk_at dksX0_gotIn_0 12 rfl rfl)
theorem dX0_gotIn_13 : decode cX0_gotIn 13 = .ok (.if_icmp .ge 20, 3) := dk_162 0 20 (dk_at dksX0_gotIn_0 13 rfl rfl)
theorem dX0_gotIn_16 : decode cX0_gotIn 16 = .ok (.aload_n 1, 1) := dk_43 (dk_at dksX0_gotIn_0 16 rfl rfl)
theorem dX0_gotIn_17 : decode cX0_gotIn 17 = .ok (.aload 4, 2) := dk_25 4 (dk_at dksX0_gotIn_0 17 rfl rfl)
theorem dX0_gotIn_19 : decode cX0_gotIn 19 = .ok (.aload_n 0, 1) := dk_42 (dk_at dksX0_gotIn_0 19 rfl rfl)
theorem dX0_gotIn_20 : decode cX0_gotIn 20 = .ok (.getfield 31, 3) := dk_180 0 31 (dk_at dksX0_gotIn_0 20 rfl rfl)
theorem dX0_gotIn_23 : decode cX0_gotIn 23 = .ok (.invokevirtual 266, 3) := dk_182 1 10 (dk_at dksX0_gotIn_1 0 rfl rfl)
theorem dX0_gotIn_26 : decode cX0_gotIn 26 = .ok (.pop, 1) := dk_87 (dk_at dksX0_gotIn_1 3 rfl rfl)
theorem dX0_gotIn_27 : decode cX0_gotIn 27 = .ok (.iinc 5 1, 3) := dk_132 5 1 (dk_at dksX0_gotIn_1 4 rfl rfl)
theorem dX0_gotIn_30 : decode cX0_gotIn 30 = .ok (.goto (-20), 3) := dk_167 255 236 (dk_at dksX0_gotIn_1 7 rfl rfl)
theorem dX0_gotIn_33 : decode cX0_gotIn 33 = .ok (.aload_n 0, 1) := dk_42 (dk_at dksX0_gotIn_1 10 rfl rfl)
theorem dX0_gotIn_34 : decode cX0_gotIn 34 = .ok (.getfield 31, 3) := dk_180 0 31 (dk_at dksX0_gotIn_1 11 rfl rfl)
theorem dX0_gotIn_37 : decode cX0_gotIn 37 = .ok (.iload_n 2, 1) := dk_28 (dk_at dksX0_gotIn_1 14 rfl rfl)
theorem dX0_gotIn_38 : decode cX0_gotIn 38 = .ok (.iaload, 1) := dk_46 (dk_at dksX0_gotIn_1 15 rfl rfl)
theorem dX0_gotIn_39 : decode cX0_gotIn 39 = .ok (.ireturn, 1) := dk_172 (dk_at dksX0_gotIn_1 16 rfl rfl)
abbrev cX0_worth : ByteArray := prog_1_method_29_code
def yX0_worth : MethodName := ⟨RX0, "worth", "(III)I"⟩
def dkwX0_worth_4 : List UInt8 := [29, 42, 182, 1, 7, 182, 1, 26, 21, 4, 100, 172]
abbrev dktX0_worth_4 : List UInt8 := dkwX0_worth_4 ++ []
def dkwX0_worth_3 : List UInt8 := [180, 0, 149, 182, 0, 145, 58, 5, 25, 5, 27, 28, 25, 5, 180, 1, 1, 182, 1, 34, 42, 25, 5, 28]
abbrev dktX0_worth_3 : List UInt8 := dkwX0_worth_3 ++ dktX0_worth_4
def dkwX0_worth_2 : List UInt8 := [42, 180, 0, 149, 182, 0, 145, 28, 29, 42, 182, 1, 7, 182, 1, 26, 54, 4, 42, 180, 0, 18, 42]
abbrev dktX0_worth_2 : List UInt8 := dkwX0_worth_2 ++ dktX0_worth_3
def dkwX0_worth_1 : List UInt8 := [154, 0, 15, 29, 133, 10, 20, 1, 24, 184, 0, 193, 154, 0, 7, 19, 1, 33, 172, 42, 42, 180, 0, 18]
abbrev dktX0_worth_1 : List UInt8 := dkwX0_worth_1 ++ dktX0_worth_2
def dkwX0_worth_0 : List UInt8 := [42, 27, 182, 0, 172, 153, 0, 34, 42, 28, 182, 0, 231, 153, 0, 26, 42, 180, 0, 149, 27, 182, 1, 30]
abbrev dktX0_worth_0 : List UInt8 := dkwX0_worth_0 ++ dktX0_worth_1
theorem dksX0_worth_0 : cX0_worth.data.toList.drop 0 = dktX0_worth_0 := by decide +kernel
theorem dksX0_worth_1 : cX0_worth.data.toList.drop 24 = dktX0_worth_1 := dk_seg dksX0_worth_0 24 rfl rfl
theorem dksX0_worth_2 : cX0_worth.data.toList.drop 48 = dktX0_worth_2 := dk_seg dksX0_worth_1 24 rfl rfl
theorem dksX0_worth_3 : cX0_worth.data.toList.drop 71 = dktX0_worth_3 := dk_seg dksX0_worth_2 23 rfl rfl
theorem dksX0_worth_4 : cX0_worth.data.toList.drop 95 = dktX0_worth_4 := dk_seg dksX0_worth_3 24 rfl rfl
theorem dX0_worth_0 : decode cX0_worth 0 = .ok (.aload_n 0, 1) := dk_42 (dk_at dksX0_worth_0 0 rfl rfl)
theorem dX0_worth_1 : decode cX0_worth 1 = .ok (.iload_n 1, 1) := dk_27 (dk_at dksX0_worth_0 1 rfl rfl)
theorem dX0_worth_2 : decode cX0_worth 2 = .ok (.invokevirtual 172, 3) := dk_182 0 172 (dk_at dksX0_worth_0 2 rfl rfl)
theorem dX0_worth_5 : decode cX0_worth 5 = .ok (.ifCond .eq 34, 3) := dk_153 0 34 (dk_at dksX0_worth_0 5 rfl rfl)
theorem dX0_worth_8 : decode cX0_worth 8 = .ok (.aload_n 0, 1) := dk_42 (dk_at dksX0_worth_0 8 rfl rfl)
theorem dX0_worth_9 : decode cX0_worth 9 = .ok (.iload_n 2, 1) := dk_28 (dk_at dksX0_worth_0 9 rfl rfl)
theorem dX0_worth_10 : decode cX0_worth 10 = .ok (.invokevirtual 231, 3) := dk_182 0 231 (dk_at dksX0_worth_0 10 rfl rfl)
theorem dX0_worth_13 : decode cX0_worth 13 = .ok (.ifCond .eq 26, 3) := dk_153 0 26 (dk_at dksX0_worth_0 13 rfl rfl)
theorem dX0_worth_16 : decode cX0_worth 16 = .ok (.aload_n 0, 1) := dk_42 (dk_at dksX0_worth_0 16 rfl rfl)
theorem dX0_worth_17 : decode cX0_worth 17 = .ok (.getfield 149, 3) := dk_180 0 149 (dk_at dksX0_worth_0 17 rfl rfl)
theorem dX0_worth_20 : decode cX0_worth 20 = .ok (.iload_n 1, 1) := dk_27 (dk_at dksX0_worth_0 20 rfl rfl)
theorem dX0_worth_21 : decode cX0_worth 21 = .ok (.invokevirtual 286, 3) := dk_182 1 30 (dk_at dksX0_worth_0 21 rfl rfl)
theorem dX0_worth_24 : decode cX0_worth 24 = .ok (.ifCond .ne 15, 3) := dk_154 0 15 (dk_at dksX0_worth_1 0 rfl rfl)
theorem dX0_worth_27 : decode cX0_worth 27 = .ok (.iload_n 3, 1) := dk_29 (dk_at dksX0_worth_1 3 rfl rfl)
theorem dX0_worth_28 : decode cX0_worth 28 = .ok (.i2l, 1) := dk_133 (dk_at dksX0_worth_1 4 rfl rfl)
theorem dX0_worth_29 : decode cX0_worth 29 = .ok (.lconst 1, 1) := dk_10 (dk_at dksX0_worth_1 5 rfl rfl)
theorem dX0_worth_30 : decode cX0_worth 30 = .ok (.ldc2_w 280, 3) := dk_20 1 24 (dk_at dksX0_worth_1 6 rfl rfl)
theorem dX0_worth_33 : decode cX0_worth 33 = .ok (.invokestatic 193, 3) := dk_184 0 193 (dk_at dksX0_worth_1 9 rfl rfl)
theorem dX0_worth_36 : decode cX0_worth 36 = .ok (.ifCond .ne 7, 3) := dk_154 0 7 (dk_at dksX0_worth_1 12 rfl rfl)
theorem dX0_worth_39 : decode cX0_worth 39 = .ok (.ldc_w 289, 3) := dk_19 1 33 (dk_at dksX0_worth_1 15 rfl rfl)
theorem dX0_worth_42 : decode cX0_worth 42 = .ok (.ireturn, 1) := dk_172 (dk_at dksX0_worth_1 18 rfl rfl)
theorem dX0_worth_43 : decode cX0_worth 43 = .ok (.aload_n 0, 1) := dk_42 (dk_at dksX0_worth_1 19 rfl rfl)
theorem dX0_worth_44 : decode cX0_worth 44 = .ok (.aload_n 0, 1) := dk_42 (dk_at dksX0_worth_1 20 rfl rfl)
theorem dX0_worth_45 : decode cX0_worth 45 = .ok (.getfield 18, 3) := dk_180 0 18 (dk_at dksX0_worth_1 21 rfl rfl)
theorem dX0_worth_48 : decode cX0_worth 48 = .ok (.aload_n 0, 1) := dk_42 (dk_at dksX0_worth_2 0 rfl rfl)
theorem dX0_worth_49 : decode cX0_worth 49 = .ok (.getfield 149, 3) := dk_180 0 149 (dk_at dksX0_worth_2 1 rfl rfl)
theorem dX0_worth_52 : decode cX0_worth 52 = .ok (.invokevirtual 145, 3) := dk_182 0 145 (dk_at dksX0_worth_2 4 rfl rfl)
theorem dX0_worth_55 : decode cX0_worth 55 = .ok (.iload_n 2, 1) := dk_28 (dk_at dksX0_worth_2 7 rfl rfl)
theorem dX0_worth_56 : decode cX0_worth 56 = .ok (.iload_n 3, 1) := dk_29 (dk_at dksX0_worth_2 8 rfl rfl)
theorem dX0_worth_57 : decode cX0_worth 57 = .ok (.aload_n 0, 1) := dk_42 (dk_at dksX0_worth_2 9 rfl rfl)
theorem dX0_worth_58 : decode cX0_worth 58 = .ok (.invokevirtual 263, 3) := dk_182 1 7 (dk_at dksX0_worth_2 10 rfl rfl)
theorem dX0_worth_61 : decode cX0_worth 61 = .ok (.invokevirtual 282, 3) := dk_182 1 26 (dk_at dksX0_worth_2 13 rfl rfl)
theorem dX0_worth_64 : decode cX0_worth 64 = .ok (.istore 4, 2) := dk_54 4 (dk_at dksX0_worth_2 16 rfl rfl)
theorem dX0_worth_66 : decode cX0_worth 66 = .ok (.aload_n 0, 1) := dk_42 (dk_at dksX0_worth_2 18 rfl rfl)
theorem dX0_worth_67 : decode cX0_worth 67 = .ok (.getfield 18, 3) := dk_180 0 18 (dk_at dksX0_worth_2 19 rfl rfl)
theorem dX0_worth_70 : decode cX0_worth 70 = .ok (.aload_n 0, 1) := dk_42 (dk_at dksX0_worth_2 22 rfl rfl)
theorem dX0_worth_71 : decode cX0_worth 71 = .ok (.getfield 149, 3) := dk_180 0 149 (dk_at dksX0_worth_3 0 rfl rfl)
theorem dX0_worth_74 : decode cX0_worth 74 = .ok (.invokevirtual 145, 3) := dk_182 0 145 (dk_at dksX0_worth_3 3 rfl rfl)
theorem dX0_worth_77 : decode cX0_worth 77 = .ok (.astore 5, 2) := dk_58 5 (dk_at dksX0_worth_3 6 rfl rfl)
theorem dX0_worth_79 : decode cX0_worth 79 = .ok (.aload 5, 2) := dk_25 5 (dk_at dksX0_worth_3 8 rfl rfl)
theorem dX0_worth_81 : decode cX0_worth 81 = .ok (.iload_n 1, 1) := dk_27 (dk_at dksX0_worth_3 10 rfl rfl)
theorem dX0_worth_82 : decode cX0_worth 82 = .ok (.iload_n 2, 1) := dk_28 (dk_at dksX0_worth_3 11 rfl rfl)
theorem dX0_worth_83 : decode cX0_worth 83 = .ok (.aload 5, 2) := dk_25 5 (dk_at dksX0_worth_3 12 rfl rfl)
theorem dX0_worth_85 : decode cX0_worth 85 = .ok (.getfield 257, 3) := dk_180 1 1 (dk_at dksX0_worth_3 14 rfl rfl)
theorem dX0_worth_88 : decode cX0_worth 88 = .ok (.invokevirtual 290, 3) := dk_182 1 34 (dk_at dksX0_worth_3 17 rfl rfl)
theorem dX0_worth_91 : decode cX0_worth 91 = .ok (.aload_n 0, 1) := dk_42 (dk_at dksX0_worth_3 20 rfl rfl)
theorem dX0_worth_92 : decode cX0_worth 92 = .ok (.aload 5, 2) := dk_25 5 (dk_at dksX0_worth_3 21 rfl rfl)
theorem dX0_worth_94 : decode cX0_worth 94 = .ok (.iload_n 2, 1) := dk_28 (dk_at dksX0_worth_3 23 rfl rfl)
theorem dX0_worth_95 : decode cX0_worth 95 = .ok (.iload_n 3, 1) := dk_29 (dk_at dksX0_worth_4 0 rfl rfl)
theorem dX0_worth_96 : decode cX0_worth 96 = .ok (.aload_n 0, 1) := dk_42 (dk_at dksX0_worth_4 1 rfl rfl)
theorem dX0_worth_97 : decode cX0_worth 97 = .ok (.invokevirtual 263, 3) := dk_182 1 7 (dk_at dksX0_worth_4 2 rfl rfl)
theorem dX0_worth_100 : decode cX0_worth 100 = .ok (.invokevirtual 282, 3) := dk_182 1 26 (dk_at dksX0_worth_4 5 rfl rfl)
theorem dX0_worth_103 : decode cX0_worth 103 = .ok (.iload 4, 2) := dk_21 4 (dk_at dksX0_worth_4 8 rfl rfl)
theorem dX0_worth_105 : decode cX0_worth 105 = .ok (.isub, 1) := dk_100 (dk_at dksX0_worth_4 10 rfl rfl)
theorem dX0_worth_106 : decode cX0_worth 106 = .ok (.ireturn, 1) := dk_172 (dk_at dksX0_worth_4 11 rfl rfl)
abbrev cX0_least : ByteArray := prog_1_method_31_code
def yX0_least : MethodName := ⟨RX0, "least", "(IIII)I"⟩
def dkwX0_least_6 : List UInt8 := [167, 0, 18, 21, 4, 154, 0, 11, 21, 5, 184, 1, 47, 167, 0, 5, 21, 5, 172]
abbrev dktX0_least_6 : List UInt8 := dkwX0_least_6 ++ []
def dkwX0_least_5 : List UInt8 := [182, 1, 50, 153, 0, 7, 21, 6, 54, 5, 132, 6, 1, 167, 255, 199, 21, 5, 2, 160, 0, 8, 16, 254]
abbrev dktX0_least_5 : List UInt8 := dkwX0_least_5 ++ dktX0_least_6
def dkwX0_least_4 : List UInt8 := [21, 6, 184, 1, 47, 21, 5, 184, 1, 47, 161, 0, 6, 167, 0, 19, 42, 27, 28, 29, 21, 6]
abbrev dktX0_least_4 : List UInt8 := dkwX0_least_4 ++ dktX0_least_5
def dkwX0_least_3 : List UInt8 := [54, 6, 21, 6, 4, 42, 180, 0, 149, 180, 0, 218, 28, 46, 120, 162, 0, 47, 21, 5, 2, 159, 0, 19]
abbrev dktX0_least_3 : List UInt8 := dkwX0_least_3 ++ dktX0_least_4
def dkwX0_least_2 : List UInt8 := [184, 0, 193, 154, 0, 5, 2, 172, 42, 180, 0, 18, 42, 180, 0, 149, 182, 0, 145, 87, 2, 54, 5, 3]
abbrev dktX0_least_2 : List UInt8 := dkwX0_least_2 ++ dktX0_least_3
def dkwX0_least_1 : List UInt8 := [184, 0, 227, 154, 0, 26, 29, 133, 9, 20, 1, 45, 184, 0, 193, 153, 0, 14, 21, 4, 133, 9, 10]
abbrev dktX0_least_1 : List UInt8 := dkwX0_least_1 ++ dktX0_least_2
def dkwX0_least_0 : List UInt8 := [42, 27, 182, 0, 231, 153, 0, 48, 42, 28, 182, 0, 212, 153, 0, 40, 42, 180, 0, 149, 180, 0, 225, 28]
abbrev dktX0_least_0 : List UInt8 := dkwX0_least_0 ++ dktX0_least_1
theorem dksX0_least_0 : cX0_least.data.toList.drop 0 = dktX0_least_0 := by decide +kernel
theorem dksX0_least_1 : cX0_least.data.toList.drop 24 = dktX0_least_1 := dk_seg dksX0_least_0 24 rfl rfl
theorem dksX0_least_2 : cX0_least.data.toList.drop 47 = dktX0_least_2 := dk_seg dksX0_least_1 23 rfl rfl
theorem dksX0_least_3 : cX0_least.data.toList.drop 71 = dktX0_least_3 := dk_seg dksX0_least_2 24 rfl rfl
theorem dksX0_least_4 : cX0_least.data.toList.drop 95 = dktX0_least_4 := dk_seg dksX0_least_3 24 rfl rfl
theorem dksX0_least_5 : cX0_least.data.toList.drop 117 = dktX0_least_5 := dk_seg dksX0_least_4 22 rfl rfl
theorem dksX0_least_6 : cX0_least.data.toList.drop 141 = dktX0_least_6 := dk_seg dksX0_least_5 24 rfl rfl
theorem dX0_least_0 : decode cX0_least 0 = .ok (.aload_n 0, 1) := dk_42 (dk_at dksX0_least_0 0 rfl rfl)
theorem dX0_least_1 : decode cX0_least 1 = .ok (.iload_n 1, 1) := dk_27 (dk_at dksX0_least_0 1 rfl rfl)
theorem dX0_least_2 : decode cX0_least 2 = .ok (.invokevirtual 231, 3) := dk_182 0 231 (dk_at dksX0_least_0 2 rfl rfl)
theorem dX0_least_5 : decode cX0_least 5 = .ok (.ifCond .eq 48, 3) := dk_153 0 48 (dk_at dksX0_least_0 5 rfl rfl)
theorem dX0_least_8 : decode cX0_least 8 = .ok (.aload_n 0, 1) := dk_42 (dk_at dksX0_least_0 8 rfl rfl)
theorem dX0_least_9 : decode cX0_least 9 = .ok (.iload_n 2, 1) := dk_28 (dk_at dksX0_least_0 9 rfl rfl)
theorem dX0_least_10 : decode cX0_least 10 = .ok (.invokevirtual 212, 3) := dk_182 0 212 (dk_at dksX0_least_0 10 rfl rfl)
theorem dX0_least_13 : decode cX0_least 13 = .ok (.ifCond .eq 40, 3) := dk_153 0 40 (dk_at dksX0_least_0 13 rfl rfl)
theorem dX0_least_16 : decode cX0_least 16 = .ok (.aload_n 0, 1) := dk_42 (dk_at dksX0_least_0 16 rfl rfl)
theorem dX0_least_17 : decode cX0_least 17 = .ok (.getfield 149, 3) := dk_180 0 149 (dk_at dksX0_least_0 17 rfl rfl)
theorem dX0_least_20 : decode cX0_least 20 = .ok (.getfield 225, 3) := dk_180 0 225 (dk_at dksX0_least_0 20 rfl rfl)
theorem dX0_least_23 : decode cX0_least 23 = .ok (.iload_n 2, 1) := dk_28 (dk_at dksX0_least_0 23 rfl rfl)
theorem dX0_least_24 : decode cX0_least 24 = .ok (.invokestatic 227, 3) := dk_184 0 227 (dk_at dksX0_least_1 0 rfl rfl)
theorem dX0_least_27 : decode cX0_least 27 = .ok (.ifCond .ne 26, 3) := dk_154 0 26 (dk_at dksX0_least_1 3 rfl rfl)
theorem dX0_least_30 : decode cX0_least 30 = .ok (.iload_n 3, 1) := dk_29 (dk_at dksX0_least_1 6 rfl rfl)
theorem dX0_least_31 : decode cX0_least 31 = .ok (.i2l, 1) := dk_133 (dk_at dksX0_least_1 7 rfl rfl)
theorem dX0_least_32 : decode cX0_least 32 = .ok (.lconst 0, 1) := dk_9 (dk_at dksX0_least_1 8 rfl rfl)
theorem dX0_least_33 : decode cX0_least 33 = .ok (.ldc2_w 301, 3) := dk_20 1 45 (dk_at dksX0_least_1 9 rfl rfl)
theorem dX0_least_36 : decode cX0_least 36 = .ok (.invokestatic 193, 3) := dk_184 0 193 (dk_at dksX0_least_1 12 rfl rfl)
theorem dX0_least_39 : decode cX0_least 39 = .ok (.ifCond .eq 14, 3) := dk_153 0 14 (dk_at dksX0_least_1 15 rfl rfl)
theorem dX0_least_42 : decode cX0_least 42 = .ok (.iload 4, 2) := dk_21 4 (dk_at dksX0_least_1 18 rfl rfl)
theorem dX0_least_44 : decode cX0_least 44 = .ok (.i2l, 1) := dk_133 (dk_at dksX0_least_1 20 rfl rfl)
theorem dX0_least_45 : decode cX0_least 45 = .ok (.lconst 0, 1) := dk_9 (dk_at dksX0_least_1 21 rfl rfl)
theorem dX0_least_46 : decode cX0_least 46 = .ok (.lconst 1, 1) := dk_10 (dk_at dksX0_least_1 22 rfl rfl)
theorem dX0_least_47 : decode cX0_least 47 = .ok (.invokestatic 193, 3) := dk_184 0 193 (dk_at dksX0_least_2 0 rfl rfl)
theorem dX0_least_50 : decode cX0_least 50 = .ok (.ifCond .ne 5, 3) := dk_154 0 5 (dk_at dksX0_least_2 3 rfl rfl)
theorem dX0_least_53 : decode cX0_least 53 = .ok (.iconst (-1), 1) := dk_2 (dk_at dksX0_least_2 6 rfl rfl)
theorem dX0_least_54 : decode cX0_least 54 = .ok (.ireturn, 1) := dk_172 (dk_at dksX0_least_2 7 rfl rfl)
theorem dX0_least_55 : decode cX0_least 55 = .ok (.aload_n 0, 1) := dk_42 (dk_at dksX0_least_2 8 rfl rfl)
theorem dX0_least_56 : decode cX0_least 56 = .ok (.getfield 18, 3) := dk_180 0 18 (dk_at dksX0_least_2 9 rfl rfl)
theorem dX0_least_59 : decode cX0_least 59 = .ok (.aload_n 0, 1) := dk_42 (dk_at dksX0_least_2 12 rfl rfl)
theorem dX0_least_60 : decode cX0_least 60 = .ok (.getfield 149, 3) := dk_180 0 149 (dk_at dksX0_least_2 13 rfl rfl)
theorem dX0_least_63 : decode cX0_least 63 = .ok (.invokevirtual 145, 3) := dk_182 0 145 (dk_at dksX0_least_2 16 rfl rfl)
theorem dX0_least_66 : decode cX0_least 66 = .ok (.pop, 1) := dk_87 (dk_at dksX0_least_2 19 rfl rfl)
theorem dX0_least_67 : decode cX0_least 67 = .ok (.iconst (-1), 1) := dk_2 (dk_at dksX0_least_2 20 rfl rfl)
theorem dX0_least_68 : decode cX0_least 68 = .ok (.istore 5, 2) := dk_54 5 (dk_at dksX0_least_2 21 rfl rfl)
theorem dX0_least_70 : decode cX0_least 70 = .ok (.iconst 0, 1) := dk_3 (dk_at dksX0_least_2 23 rfl rfl)
theorem dX0_least_71 : decode cX0_least 71 = .ok (.istore 6, 2) := dk_54 6 (dk_at dksX0_least_3 0 rfl rfl)
theorem dX0_least_73 : decode cX0_least 73 = .ok (.iload 6, 2) := dk_21 6 (dk_at dksX0_least_3 2 rfl rfl)
theorem dX0_least_75 : decode cX0_least 75 = .ok (.iconst 1, 1) := dk_4 (dk_at dksX0_least_3 4 rfl rfl)
theorem dX0_least_76 : decode cX0_least 76 = .ok (.aload_n 0, 1) := dk_42 (dk_at dksX0_least_3 5 rfl rfl)
theorem dX0_least_77 : decode cX0_least 77 = .ok (.getfield 149, 3) := dk_180 0 149 (dk_at dksX0_least_3 6 rfl rfl)
theorem dX0_least_80 : decode cX0_least 80 = .ok (.getfield 218, 3) := dk_180 0 218 (dk_at dksX0_least_3 9 rfl rfl)
theorem dX0_least_83 : decode cX0_least 83 = .ok (.iload_n 2, 1) := dk_28 (dk_at dksX0_least_3 12 rfl rfl)
theorem dX0_least_84 : decode cX0_least 84 = .ok (.iaload, 1) := dk_46 (dk_at dksX0_least_3 13 rfl rfl)
theorem dX0_least_85 : decode cX0_least 85 = .ok (.ishl, 1) := dk_120 (dk_at dksX0_least_3 14 rfl rfl)
theorem dX0_least_86 : decode cX0_least 86 = .ok (.if_icmp .ge 47, 3) := dk_162 0 47 (dk_at dksX0_least_3 15 rfl rfl)
theorem dX0_least_89 : decode cX0_least 89 = .ok (.iload 5, 2) := dk_21 5 (dk_at dksX0_least_3 18 rfl rfl)
theorem dX0_least_91 : decode cX0_least 91 = .ok (.iconst (-1), 1) := dk_2 (dk_at dksX0_least_3 20 rfl rfl)
theorem dX0_least_92 : decode cX0_least 92 = .ok (.if_icmp .eq 19, 3) := dk_159 0 19 (dk_at dksX0_least_3 21 rfl rfl)
theorem dX0_least_95 : decode cX0_least 95 = .ok (.iload 6, 2) := dk_21 6 (dk_at dksX0_least_4 0 rfl rfl)
theorem dX0_least_97 : decode cX0_least 97 = .ok (.invokestatic 303, 3) := dk_184 1 47 (dk_at dksX0_least_4 2 rfl rfl)
theorem dX0_least_100 : decode cX0_least 100 = .ok (.iload 5, 2) := dk_21 5 (dk_at dksX0_least_4 5 rfl rfl)
theorem dX0_least_102 : decode cX0_least 102 = .ok (.invokestatic 303, 3) := dk_184 1 47 (dk_at dksX0_least_4 7 rfl rfl)
theorem dX0_least_105 : decode cX0_least 105 = .ok (.if_icmp .lt 6, 3) := dk_161 0 6 (dk_at dksX0_least_4 10 rfl rfl)
theorem dX0_least_108 : decode cX0_least 108 = .ok (.goto 19, 3) := dk_167 0 19 (dk_at dksX0_least_4 13 rfl rfl)
theorem dX0_least_111 : decode cX0_least 111 = .ok (.aload_n 0, 1) := dk_42 (dk_at dksX0_least_4 16 rfl rfl)
theorem dX0_least_112 : decode cX0_least 112 = .ok (.iload_n 1, 1) := dk_27 (dk_at dksX0_least_4 17 rfl rfl)
theorem dX0_least_113 : decode cX0_least 113 = .ok (.iload_n 2, 1) := dk_28 (dk_at dksX0_least_4 18 rfl rfl)
theorem dX0_least_114 : decode cX0_least 114 = .ok (.iload_n 3, 1) := dk_29 (dk_at dksX0_least_4 19 rfl rfl)
theorem dX0_least_115 : decode cX0_least 115 = .ok (.iload 6, 2) := dk_21 6 (dk_at dksX0_least_4 20 rfl rfl)
theorem dX0_least_117 : decode cX0_least 117 = .ok (.invokevirtual 306, 3) := dk_182 1 50 (dk_at dksX0_least_5 0 rfl rfl)
theorem dX0_least_120 : decode cX0_least 120 = .ok (.ifCond .eq 7, 3) := dk_153 0 7 (dk_at dksX0_least_5 3 rfl rfl)
theorem dX0_least_123 : decode cX0_least 123 = .ok (.iload 6, 2) := dk_21 6 (dk_at dksX0_least_5 6 rfl rfl)
theorem dX0_least_125 : decode cX0_least 125 = .ok (.istore 5, 2) := dk_54 5 (dk_at dksX0_least_5 8 rfl rfl)
theorem dX0_least_127 : decode cX0_least 127 = .ok (.iinc 6 1, 3) := dk_132 6 1 (dk_at dksX0_least_5 10 rfl rfl)
theorem dX0_least_130 : decode cX0_least 130 = .ok (.goto (-57), 3) := dk_167 255 199 (dk_at dksX0_least_5 13 rfl rfl)
theorem dX0_least_133 : decode cX0_least 133 = .ok (.iload 5, 2) := dk_21 5 (dk_at dksX0_least_5 16 rfl rfl)
theorem dX0_least_135 : decode cX0_least 135 = .ok (.iconst (-1), 1) := dk_2 (dk_at dksX0_least_5 18 rfl rfl)
theorem dX0_least_136 : decode cX0_least 136 = .ok (.if_icmp .ne 8, 3) := dk_160 0 8 (dk_at dksX0_least_5 19 rfl rfl)
theorem dX0_least_139 : decode cX0_least 139 = .ok (.bipush (-2), 2) := dk_16 254 (dk_at dksX0_least_5 22 rfl rfl)
theorem dX0_least_141 : decode cX0_least 141 = .ok (.goto 18, 3) := dk_167 0 18 (dk_at dksX0_least_6 0 rfl rfl)
theorem dX0_least_144 : decode cX0_least 144 = .ok (.iload 4, 2) := dk_21 4 (dk_at dksX0_least_6 3 rfl rfl)
theorem dX0_least_146 : decode cX0_least 146 = .ok (.ifCond .ne 11, 3) := dk_154 0 11 (dk_at dksX0_least_6 5 rfl rfl)
theorem dX0_least_149 : decode cX0_least 149 = .ok (.iload 5, 2) := dk_21 5 (dk_at dksX0_least_6 8 rfl rfl)
theorem dX0_least_151 : decode cX0_least 151 = .ok (.invokestatic 303, 3) := dk_184 1 47 (dk_at dksX0_least_6 10 rfl rfl)
theorem dX0_least_154 : decode cX0_least 154 = .ok (.goto 5, 3) := dk_167 0 5 (dk_at dksX0_least_6 13 rfl rfl)
theorem dX0_least_157 : decode cX0_least 157 = .ok (.iload 5, 2) := dk_21 5 (dk_at dksX0_least_6 16 rfl rfl)
theorem dX0_least_159 : decode cX0_least 159 = .ok (.ireturn, 1) := dk_172 (dk_at dksX0_least_6 18 rfl rfl)
abbrev cX0_isTheirsBy : ByteArray := prog_1_method_30_code
def yX0_isTheirsBy : MethodName := ⟨RX0, "isTheirsBy", "(IIII)Z"⟩
def dkwX0_isTheirsBy_4 : List UInt8 := [27, 160, 0, 7, 4, 167, 0, 4, 3, 172]
abbrev dktX0_isTheirsBy_4 : List UInt8 := dkwX0_isTheirsBy_4 ++ []
def dkwX0_isTheirsBy_3 : List UInt8 := [162, 0, 18, 25, 5, 42, 180, 0, 31, 182, 1, 41, 132, 6, 1, 167, 255, 238, 25, 5, 28, 182, 0, 223]
abbrev dktX0_isTheirsBy_3 : List UInt8 := dkwX0_isTheirsBy_3 ++ dktX0_isTheirsBy_4
def dkwX0_isTheirsBy_2 : List UInt8 := [21, 6, 96, 27, 25, 5, 180, 1, 1, 182, 1, 34, 132, 6, 1, 167, 255, 210, 3, 54, 6, 21, 6, 29]
abbrev dktX0_isTheirsBy_2 : List UInt8 := dkwX0_isTheirsBy_2 ++ dktX0_isTheirsBy_3
def dkwX0_isTheirsBy_1 : List UInt8 := [46, 162, 0, 40, 21, 4, 21, 6, 184, 0, 227, 153, 0, 24, 25, 5, 25, 5, 180, 0, 215, 28, 46]
abbrev dktX0_isTheirsBy_1 : List UInt8 := dkwX0_isTheirsBy_1 ++ dktX0_isTheirsBy_2
def dkwX0_isTheirsBy_0 : List UInt8 := [42, 180, 0, 18, 42, 180, 0, 149, 182, 1, 38, 58, 5, 3, 54, 6, 21, 6, 25, 5, 180, 0, 218, 28]
abbrev dktX0_isTheirsBy_0 : List UInt8 := dkwX0_isTheirsBy_0 ++ dktX0_isTheirsBy_1
theorem dksX0_isTheirsBy_0 : cX0_isTheirsBy.data.toList.drop 0 = dktX0_isTheirsBy_0 := by decide +kernel
theorem dksX0_isTheirsBy_1 : cX0_isTheirsBy.data.toList.drop 24 = dktX0_isTheirsBy_1 := dk_seg dksX0_isTheirsBy_0 24 rfl rfl
theorem dksX0_isTheirsBy_2 : cX0_isTheirsBy.data.toList.drop 47 = dktX0_isTheirsBy_2 := dk_seg dksX0_isTheirsBy_1 23 rfl rfl
theorem dksX0_isTheirsBy_3 : cX0_isTheirsBy.data.toList.drop 71 = dktX0_isTheirsBy_3 := dk_seg dksX0_isTheirsBy_2 24 rfl rfl
theorem dksX0_isTheirsBy_4 : cX0_isTheirsBy.data.toList.drop 95 = dktX0_isTheirsBy_4 := dk_seg dksX0_isTheirsBy_3 24 rfl rfl
theorem dX0_isTheirsBy_0 : decode cX0_isTheirsBy 0 = .ok (.aload_n 0, 1) := dk_42 (dk_at dksX0_isTheirsBy_0 0 rfl rfl)
theorem dX0_isTheirsBy_1 : decode cX0_isTheirsBy 1 = .ok (.getfield 18, 3) := dk_180 0 18 (dk_at dksX0_isTheirsBy_0 1 rfl rfl)
theorem dX0_isTheirsBy_4 : decode cX0_isTheirsBy 4 = .ok (.aload_n 0, 1) := dk_42 (dk_at dksX0_isTheirsBy_0 4 rfl rfl)
theorem dX0_isTheirsBy_5 : decode cX0_isTheirsBy 5 = .ok (.getfield 149, 3) := dk_180 0 149 (dk_at dksX0_isTheirsBy_0 5 rfl rfl)
theorem dX0_isTheirsBy_8 : decode cX0_isTheirsBy 8 = .ok (.invokevirtual 294, 3) := dk_182 1 38 (dk_at dksX0_isTheirsBy_0 8 rfl rfl)
theorem dX0_isTheirsBy_11 : decode cX0_isTheirsBy 11 = .ok (.astore 5, 2) := dk_58 5 (dk_at dksX0_isTheirsBy_0 11 rfl rfl)
theorem dX0_isTheirsBy_13 : decode cX0_isTheirsBy 13 = .ok (.iconst 0, 1) := dk_3 (dk_at dksX0_isTheirsBy_0 13 rfl rfl)
theorem dX0_isTheirsBy_14 : decode cX0_isTheirsBy 14 = .ok (.istore 6, 2) := dk_54 6 (dk_at dksX0_isTheirsBy_0 14 rfl rfl)
theorem dX0_isTheirsBy_16 : decode cX0_isTheirsBy 16 = .ok (.iload 6, 2) := dk_21 6 (dk_at dksX0_isTheirsBy_0 16 rfl rfl)
theorem dX0_isTheirsBy_18 : decode cX0_isTheirsBy 18 = .ok (.aload 5, 2) := dk_25 5 (dk_at dksX0_isTheirsBy_0 18 rfl rfl)
theorem dX0_isTheirsBy_20 : decode cX0_isTheirsBy 20 = .ok (.getfield 218, 3) := dk_180 0 218 (dk_at dksX0_isTheirsBy_0 20 rfl rfl)
theorem dX0_isTheirsBy_23 : decode cX0_isTheirsBy 23 = .ok (.iload_n 2, 1) := dk_28 (dk_at dksX0_isTheirsBy_0 23 rfl rfl)
theorem dX0_isTheirsBy_24 : decode cX0_isTheirsBy 24 = .ok (.iaload, 1) := dk_46 (dk_at dksX0_isTheirsBy_1 0 rfl rfl)
theorem dX0_isTheirsBy_25 : decode cX0_isTheirsBy 25 = .ok (.if_icmp .ge 40, 3) := dk_162 0 40 (dk_at dksX0_isTheirsBy_1 1 rfl rfl)
theorem dX0_isTheirsBy_28 : decode cX0_isTheirsBy 28 = .ok (.iload 4, 2) := dk_21 4 (dk_at dksX0_isTheirsBy_1 4 rfl rfl)
theorem dX0_isTheirsBy_30 : decode cX0_isTheirsBy 30 = .ok (.iload 6, 2) := dk_21 6 (dk_at dksX0_isTheirsBy_1 6 rfl rfl)
theorem dX0_isTheirsBy_32 : decode cX0_isTheirsBy 32 = .ok (.invokestatic 227, 3) := dk_184 0 227 (dk_at dksX0_isTheirsBy_1 8 rfl rfl)
theorem dX0_isTheirsBy_35 : decode cX0_isTheirsBy 35 = .ok (.ifCond .eq 24, 3) := dk_153 0 24 (dk_at dksX0_isTheirsBy_1 11 rfl rfl)
theorem dX0_isTheirsBy_38 : decode cX0_isTheirsBy 38 = .ok (.aload 5, 2) := dk_25 5 (dk_at dksX0_isTheirsBy_1 14 rfl rfl)
theorem dX0_isTheirsBy_40 : decode cX0_isTheirsBy 40 = .ok (.aload 5, 2) := dk_25 5 (dk_at dksX0_isTheirsBy_1 16 rfl rfl)
theorem dX0_isTheirsBy_42 : decode cX0_isTheirsBy 42 = .ok (.getfield 215, 3) := dk_180 0 215 (dk_at dksX0_isTheirsBy_1 18 rfl rfl)
theorem dX0_isTheirsBy_45 : decode cX0_isTheirsBy 45 = .ok (.iload_n 2, 1) := dk_28 (dk_at dksX0_isTheirsBy_1 21 rfl rfl)
theorem dX0_isTheirsBy_46 : decode cX0_isTheirsBy 46 = .ok (.iaload, 1) := dk_46 (dk_at dksX0_isTheirsBy_1 22 rfl rfl)
theorem dX0_isTheirsBy_47 : decode cX0_isTheirsBy 47 = .ok (.iload 6, 2) := dk_21 6 (dk_at dksX0_isTheirsBy_2 0 rfl rfl)
theorem dX0_isTheirsBy_49 : decode cX0_isTheirsBy 49 = .ok (.iadd, 1) := dk_96 (dk_at dksX0_isTheirsBy_2 2 rfl rfl)
theorem dX0_isTheirsBy_50 : decode cX0_isTheirsBy 50 = .ok (.iload_n 1, 1) := dk_27 (dk_at dksX0_isTheirsBy_2 3 rfl rfl)
theorem dX0_isTheirsBy_51 : decode cX0_isTheirsBy 51 = .ok (.aload 5, 2) := dk_25 5 (dk_at dksX0_isTheirsBy_2 4 rfl rfl)
theorem dX0_isTheirsBy_53 : decode cX0_isTheirsBy 53 = .ok (.getfield 257, 3) := dk_180 1 1 (dk_at dksX0_isTheirsBy_2 6 rfl rfl)
theorem dX0_isTheirsBy_56 : decode cX0_isTheirsBy 56 = .ok (.invokevirtual 290, 3) := dk_182 1 34 (dk_at dksX0_isTheirsBy_2 9 rfl rfl)
theorem dX0_isTheirsBy_59 : decode cX0_isTheirsBy 59 = .ok (.iinc 6 1, 3) := dk_132 6 1 (dk_at dksX0_isTheirsBy_2 12 rfl rfl)
theorem dX0_isTheirsBy_62 : decode cX0_isTheirsBy 62 = .ok (.goto (-46), 3) := dk_167 255 210 (dk_at dksX0_isTheirsBy_2 15 rfl rfl)
theorem dX0_isTheirsBy_65 : decode cX0_isTheirsBy 65 = .ok (.iconst 0, 1) := dk_3 (dk_at dksX0_isTheirsBy_2 18 rfl rfl)
theorem dX0_isTheirsBy_66 : decode cX0_isTheirsBy 66 = .ok (.istore 6, 2) := dk_54 6 (dk_at dksX0_isTheirsBy_2 19 rfl rfl)
theorem dX0_isTheirsBy_68 : decode cX0_isTheirsBy 68 = .ok (.iload 6, 2) := dk_21 6 (dk_at dksX0_isTheirsBy_2 21 rfl rfl)
theorem dX0_isTheirsBy_70 : decode cX0_isTheirsBy 70 = .ok (.iload_n 3, 1) := dk_29 (dk_at dksX0_isTheirsBy_2 23 rfl rfl)
theorem dX0_isTheirsBy_71 : decode cX0_isTheirsBy 71 = .ok (.if_icmp .ge 18, 3) := dk_162 0 18 (dk_at dksX0_isTheirsBy_3 0 rfl rfl)
theorem dX0_isTheirsBy_74 : decode cX0_isTheirsBy 74 = .ok (.aload 5, 2) := dk_25 5 (dk_at dksX0_isTheirsBy_3 3 rfl rfl)
theorem dX0_isTheirsBy_76 : decode cX0_isTheirsBy 76 = .ok (.aload_n 0, 1) := dk_42 (dk_at dksX0_isTheirsBy_3 5 rfl rfl)
theorem dX0_isTheirsBy_77 : decode cX0_isTheirsBy 77 = .ok (.getfield 31, 3) := dk_180 0 31 (dk_at dksX0_isTheirsBy_3 6 rfl rfl)
theorem dX0_isTheirsBy_80 : decode cX0_isTheirsBy 80 = .ok (.invokevirtual 297, 3) := dk_182 1 41 (dk_at dksX0_isTheirsBy_3 9 rfl rfl)
theorem dX0_isTheirsBy_83 : decode cX0_isTheirsBy 83 = .ok (.iinc 6 1, 3) := dk_132 6 1 (dk_at dksX0_isTheirsBy_3 12 rfl rfl)
theorem dX0_isTheirsBy_86 : decode cX0_isTheirsBy 86 = .ok (.goto (-18), 3) := dk_167 255 238 (dk_at dksX0_isTheirsBy_3 15 rfl rfl)
theorem dX0_isTheirsBy_89 : decode cX0_isTheirsBy 89 = .ok (.aload 5, 2) := dk_25 5 (dk_at dksX0_isTheirsBy_3 18 rfl rfl)
theorem dX0_isTheirsBy_91 : decode cX0_isTheirsBy 91 = .ok (.iload_n 2, 1) := dk_28 (dk_at dksX0_isTheirsBy_3 20 rfl rfl)
theorem dX0_isTheirsBy_92 : decode cX0_isTheirsBy 92 = .ok (.invokevirtual 223, 3) := dk_182 0 223 (dk_at dksX0_isTheirsBy_3 21 rfl rfl)
theorem dX0_isTheirsBy_95 : decode cX0_isTheirsBy 95 = .ok (.iload_n 1, 1) := dk_27 (dk_at dksX0_isTheirsBy_4 0 rfl rfl)
theorem dX0_isTheirsBy_96 : decode cX0_isTheirsBy 96 = .ok (.if_icmp .ne 7, 3) := dk_160 0 7 (dk_at dksX0_isTheirsBy_4 1 rfl rfl)
theorem dX0_isTheirsBy_99 : decode cX0_isTheirsBy 99 = .ok (.iconst 1, 1) := dk_4 (dk_at dksX0_isTheirsBy_4 4 rfl rfl)
theorem dX0_isTheirsBy_100 : decode cX0_isTheirsBy 100 = .ok (.goto 4, 3) := dk_167 0 4 (dk_at dksX0_isTheirsBy_4 5 rfl rfl)
theorem dX0_isTheirsBy_103 : decode cX0_isTheirsBy 103 = .ok (.iconst 0, 1) := dk_3 (dk_at dksX0_isTheirsBy_4 8 rfl rfl)
theorem dX0_isTheirsBy_104 : decode cX0_isTheirsBy 104 = .ok (.ireturn, 1) := dk_172 (dk_at dksX0_isTheirsBy_4 9 rfl rfl)
abbrev cX0_fewest : ByteArray := prog_1_method_33_code
def yX0_fewest : MethodName := ⟨RX0, "fewest", "(III)I"⟩
def dkwX0_fewest_4 : List UInt8 := [180, 0, 107, 29, 4, 100, 46, 172]
abbrev dktX0_fewest_4 : List UInt8 := dkwX0_fewest_4 ++ []
def dkwX0_fewest_3 : List UInt8 := [180, 0, 218, 28, 46, 164, 0, 6, 16, 254, 172, 29, 154, 0, 10, 42, 180, 1, 54, 167, 0, 11, 42]
abbrev dktX0_fewest_3 : List UInt8 := dkwX0_fewest_3 ++ dktX0_fewest_4
def dkwX0_fewest_2 : List UInt8 := [181, 1, 54, 42, 27, 28, 3, 3, 182, 1, 57, 42, 180, 1, 54, 2, 159, 0, 16, 29, 42, 180, 0, 149]
abbrev dktX0_fewest_2 : List UInt8 := dkwX0_fewest_2 ++ dktX0_fewest_3
def dkwX0_fewest_1 : List UInt8 := [184, 0, 193, 154, 0, 5, 2, 172, 42, 180, 0, 18, 42, 180, 0, 149, 182, 0, 145, 87, 42, 2]
abbrev dktX0_fewest_1 : List UInt8 := dkwX0_fewest_1 ++ dktX0_fewest_2
def dkwX0_fewest_0 : List UInt8 := [42, 27, 182, 0, 231, 153, 0, 23, 42, 28, 182, 0, 212, 153, 0, 15, 29, 133, 9, 20, 1, 61]
abbrev dktX0_fewest_0 : List UInt8 := dkwX0_fewest_0 ++ dktX0_fewest_1
theorem dksX0_fewest_0 : cX0_fewest.data.toList.drop 0 = dktX0_fewest_0 := by decide +kernel
theorem dksX0_fewest_1 : cX0_fewest.data.toList.drop 22 = dktX0_fewest_1 := dk_seg dksX0_fewest_0 22 rfl rfl
theorem dksX0_fewest_2 : cX0_fewest.data.toList.drop 44 = dktX0_fewest_2 := dk_seg dksX0_fewest_1 22 rfl rfl
theorem dksX0_fewest_3 : cX0_fewest.data.toList.drop 68 = dktX0_fewest_3 := dk_seg dksX0_fewest_2 24 rfl rfl
theorem dksX0_fewest_4 : cX0_fewest.data.toList.drop 91 = dktX0_fewest_4 := dk_seg dksX0_fewest_3 23 rfl rfl
theorem dX0_fewest_0 : decode cX0_fewest 0 = .ok (.aload_n 0, 1) := dk_42 (dk_at dksX0_fewest_0 0 rfl rfl)
theorem dX0_fewest_1 : decode cX0_fewest 1 = .ok (.iload_n 1, 1) := dk_27 (dk_at dksX0_fewest_0 1 rfl rfl)
theorem dX0_fewest_2 : decode cX0_fewest 2 = .ok (.invokevirtual 231, 3) := dk_182 0 231 (dk_at dksX0_fewest_0 2 rfl rfl)
theorem dX0_fewest_5 : decode cX0_fewest 5 = .ok (.ifCond .eq 23, 3) := dk_153 0 23 (dk_at dksX0_fewest_0 5 rfl rfl)
theorem dX0_fewest_8 : decode cX0_fewest 8 = .ok (.aload_n 0, 1) := dk_42 (dk_at dksX0_fewest_0 8 rfl rfl)
theorem dX0_fewest_9 : decode cX0_fewest 9 = .ok (.iload_n 2, 1) := dk_28 (dk_at dksX0_fewest_0 9 rfl rfl)
theorem dX0_fewest_10 : decode cX0_fewest 10 = .ok (.invokevirtual 212, 3) := dk_182 0 212 (dk_at dksX0_fewest_0 10 rfl rfl)
theorem dX0_fewest_13 : decode cX0_fewest 13 = .ok (.ifCond .eq 15, 3) := dk_153 0 15 (dk_at dksX0_fewest_0 13 rfl rfl)
theorem dX0_fewest_16 : decode cX0_fewest 16 = .ok (.iload_n 3, 1) := dk_29 (dk_at dksX0_fewest_0 16 rfl rfl)
theorem dX0_fewest_17 : decode cX0_fewest 17 = .ok (.i2l, 1) := dk_133 (dk_at dksX0_fewest_0 17 rfl rfl)
theorem dX0_fewest_18 : decode cX0_fewest 18 = .ok (.lconst 0, 1) := dk_9 (dk_at dksX0_fewest_0 18 rfl rfl)
theorem dX0_fewest_19 : decode cX0_fewest 19 = .ok (.ldc2_w 317, 3) := dk_20 1 61 (dk_at dksX0_fewest_0 19 rfl rfl)
theorem dX0_fewest_22 : decode cX0_fewest 22 = .ok (.invokestatic 193, 3) := dk_184 0 193 (dk_at dksX0_fewest_1 0 rfl rfl)
theorem dX0_fewest_25 : decode cX0_fewest 25 = .ok (.ifCond .ne 5, 3) := dk_154 0 5 (dk_at dksX0_fewest_1 3 rfl rfl)
theorem dX0_fewest_28 : decode cX0_fewest 28 = .ok (.iconst (-1), 1) := dk_2 (dk_at dksX0_fewest_1 6 rfl rfl)
theorem dX0_fewest_29 : decode cX0_fewest 29 = .ok (.ireturn, 1) := dk_172 (dk_at dksX0_fewest_1 7 rfl rfl)
theorem dX0_fewest_30 : decode cX0_fewest 30 = .ok (.aload_n 0, 1) := dk_42 (dk_at dksX0_fewest_1 8 rfl rfl)
theorem dX0_fewest_31 : decode cX0_fewest 31 = .ok (.getfield 18, 3) := dk_180 0 18 (dk_at dksX0_fewest_1 9 rfl rfl)
theorem dX0_fewest_34 : decode cX0_fewest 34 = .ok (.aload_n 0, 1) := dk_42 (dk_at dksX0_fewest_1 12 rfl rfl)
theorem dX0_fewest_35 : decode cX0_fewest 35 = .ok (.getfield 149, 3) := dk_180 0 149 (dk_at dksX0_fewest_1 13 rfl rfl)
theorem dX0_fewest_38 : decode cX0_fewest 38 = .ok (.invokevirtual 145, 3) := dk_182 0 145 (dk_at dksX0_fewest_1 16 rfl rfl)
theorem dX0_fewest_41 : decode cX0_fewest 41 = .ok (.pop, 1) := dk_87 (dk_at dksX0_fewest_1 19 rfl rfl)
theorem dX0_fewest_42 : decode cX0_fewest 42 = .ok (.aload_n 0, 1) := dk_42 (dk_at dksX0_fewest_1 20 rfl rfl)
theorem dX0_fewest_43 : decode cX0_fewest 43 = .ok (.iconst (-1), 1) := dk_2 (dk_at dksX0_fewest_1 21 rfl rfl)
theorem dX0_fewest_44 : decode cX0_fewest 44 = .ok (.putfield 310, 3) := dk_181 1 54 (dk_at dksX0_fewest_2 0 rfl rfl)
theorem dX0_fewest_47 : decode cX0_fewest 47 = .ok (.aload_n 0, 1) := dk_42 (dk_at dksX0_fewest_2 3 rfl rfl)
theorem dX0_fewest_48 : decode cX0_fewest 48 = .ok (.iload_n 1, 1) := dk_27 (dk_at dksX0_fewest_2 4 rfl rfl)
theorem dX0_fewest_49 : decode cX0_fewest 49 = .ok (.iload_n 2, 1) := dk_28 (dk_at dksX0_fewest_2 5 rfl rfl)
theorem dX0_fewest_50 : decode cX0_fewest 50 = .ok (.iconst 0, 1) := dk_3 (dk_at dksX0_fewest_2 6 rfl rfl)
theorem dX0_fewest_51 : decode cX0_fewest 51 = .ok (.iconst 0, 1) := dk_3 (dk_at dksX0_fewest_2 7 rfl rfl)
theorem dX0_fewest_52 : decode cX0_fewest 52 = .ok (.invokevirtual 313, 3) := dk_182 1 57 (dk_at dksX0_fewest_2 8 rfl rfl)
theorem dX0_fewest_55 : decode cX0_fewest 55 = .ok (.aload_n 0, 1) := dk_42 (dk_at dksX0_fewest_2 11 rfl rfl)
theorem dX0_fewest_56 : decode cX0_fewest 56 = .ok (.getfield 310, 3) := dk_180 1 54 (dk_at dksX0_fewest_2 12 rfl rfl)
theorem dX0_fewest_59 : decode cX0_fewest 59 = .ok (.iconst (-1), 1) := dk_2 (dk_at dksX0_fewest_2 15 rfl rfl)
theorem dX0_fewest_60 : decode cX0_fewest 60 = .ok (.if_icmp .eq 16, 3) := dk_159 0 16 (dk_at dksX0_fewest_2 16 rfl rfl)
theorem dX0_fewest_63 : decode cX0_fewest 63 = .ok (.iload_n 3, 1) := dk_29 (dk_at dksX0_fewest_2 19 rfl rfl)
theorem dX0_fewest_64 : decode cX0_fewest 64 = .ok (.aload_n 0, 1) := dk_42 (dk_at dksX0_fewest_2 20 rfl rfl)
theorem dX0_fewest_65 : decode cX0_fewest 65 = .ok (.getfield 149, 3) := dk_180 0 149 (dk_at dksX0_fewest_2 21 rfl rfl)
theorem dX0_fewest_68 : decode cX0_fewest 68 = .ok (.getfield 218, 3) := dk_180 0 218 (dk_at dksX0_fewest_3 0 rfl rfl)
theorem dX0_fewest_71 : decode cX0_fewest 71 = .ok (.iload_n 2, 1) := dk_28 (dk_at dksX0_fewest_3 3 rfl rfl)
theorem dX0_fewest_72 : decode cX0_fewest 72 = .ok (.iaload, 1) := dk_46 (dk_at dksX0_fewest_3 4 rfl rfl)
theorem dX0_fewest_73 : decode cX0_fewest 73 = .ok (.if_icmp .le 6, 3) := dk_164 0 6 (dk_at dksX0_fewest_3 5 rfl rfl)
theorem dX0_fewest_76 : decode cX0_fewest 76 = .ok (.bipush (-2), 2) := dk_16 254 (dk_at dksX0_fewest_3 8 rfl rfl)
theorem dX0_fewest_78 : decode cX0_fewest 78 = .ok (.ireturn, 1) := dk_172 (dk_at dksX0_fewest_3 10 rfl rfl)
theorem dX0_fewest_79 : decode cX0_fewest 79 = .ok (.iload_n 3, 1) := dk_29 (dk_at dksX0_fewest_3 11 rfl rfl)
theorem dX0_fewest_80 : decode cX0_fewest 80 = .ok (.ifCond .ne 10, 3) := dk_154 0 10 (dk_at dksX0_fewest_3 12 rfl rfl)
theorem dX0_fewest_83 : decode cX0_fewest 83 = .ok (.aload_n 0, 1) := dk_42 (dk_at dksX0_fewest_3 15 rfl rfl)
theorem dX0_fewest_84 : decode cX0_fewest 84 = .ok (.getfield 310, 3) := dk_180 1 54 (dk_at dksX0_fewest_3 16 rfl rfl)
theorem dX0_fewest_87 : decode cX0_fewest 87 = .ok (.goto 11, 3) := dk_167 0 11 (dk_at dksX0_fewest_3 19 rfl rfl)
theorem dX0_fewest_90 : decode cX0_fewest 90 = .ok (.aload_n 0, 1) := dk_42 (dk_at dksX0_fewest_3 22 rfl rfl)
theorem dX0_fewest_91 : decode cX0_fewest 91 = .ok (.getfield 107, 3) := dk_180 0 107 (dk_at dksX0_fewest_4 0 rfl rfl)
theorem dX0_fewest_94 : decode cX0_fewest 94 = .ok (.iload_n 3, 1) := dk_29 (dk_at dksX0_fewest_4 3 rfl rfl)
theorem dX0_fewest_95 : decode cX0_fewest 95 = .ok (.iconst 1, 1) := dk_4 (dk_at dksX0_fewest_4 4 rfl rfl)
theorem dX0_fewest_96 : decode cX0_fewest 96 = .ok (.isub, 1) := dk_100 (dk_at dksX0_fewest_4 5 rfl rfl)
theorem dX0_fewest_97 : decode cX0_fewest 97 = .ok (.iaload, 1) := dk_46 (dk_at dksX0_fewest_4 6 rfl rfl)
theorem dX0_fewest_98 : decode cX0_fewest 98 = .ok (.ireturn, 1) := dk_172 (dk_at dksX0_fewest_4 7 rfl rfl)
abbrev cX0_triesScrapes : ByteArray := prog_1_method_32_code
def yX0_triesScrapes : MethodName := ⟨RX0, "triesScrapes", "(IIII)V"⟩
def dkwX0_triesScrapes_7 : List UInt8 := [46, 79, 177]
abbrev dktX0_triesScrapes_7 : List UInt8 := dkwX0_triesScrapes_7 ++ []
def dkwX0_triesScrapes_6 : List UInt8 := [132, 6, 1, 167, 255, 193, 42, 180, 0, 18, 180, 0, 179, 21, 5, 42, 180, 0, 149, 180, 0, 179, 21, 5]
abbrev dktX0_triesScrapes_6 : List UInt8 := dkwX0_triesScrapes_6 ++ dktX0_triesScrapes_7
def dkwX0_triesScrapes_5 : List UInt8 := [180, 0, 179, 21, 5, 46, 21, 6, 100, 79, 42, 27, 28, 29, 4, 96, 21, 4, 21, 6, 96, 182, 1, 57]
abbrev dktX0_triesScrapes_5 : List UInt8 := dkwX0_triesScrapes_5 ++ dktX0_triesScrapes_6
def dkwX0_triesScrapes_4 : List UInt8 := [163, 0, 54, 42, 180, 0, 104, 29, 21, 6, 79, 42, 180, 0, 18, 180, 0, 179, 21, 5, 42, 180, 0, 149]
abbrev dktX0_triesScrapes_4 : List UInt8 := dkwX0_triesScrapes_4 ++ dktX0_triesScrapes_5
def dkwX0_triesScrapes_3 : List UInt8 := [180, 0, 215, 28, 46, 29, 96, 54, 5, 3, 54, 6, 21, 6, 42, 180, 0, 149, 180, 0, 179, 21, 5, 46]
abbrev dktX0_triesScrapes_3 : List UInt8 := dkwX0_triesScrapes_3 ++ dktX0_triesScrapes_4
def dkwX0_triesScrapes_2 : List UInt8 := [181, 1, 54, 42, 180, 0, 104, 3, 42, 180, 0, 107, 3, 16, 6, 184, 0, 245, 177, 42, 180, 0, 149]
abbrev dktX0_triesScrapes_2 : List UInt8 := dkwX0_triesScrapes_2 ++ dktX0_triesScrapes_3
def dkwX0_triesScrapes_1 : List UInt8 := [180, 0, 218, 28, 46, 160, 0, 38, 42, 180, 0, 18, 28, 182, 0, 223, 27, 159, 0, 4, 177, 42, 21, 4]
abbrev dktX0_triesScrapes_1 : List UInt8 := dkwX0_triesScrapes_1 ++ dktX0_triesScrapes_2
def dkwX0_triesScrapes_0 : List UInt8 := [42, 180, 1, 54, 2, 159, 0, 13, 21, 4, 42, 180, 1, 54, 161, 0, 4, 177, 29, 42, 180, 0, 149]
abbrev dktX0_triesScrapes_0 : List UInt8 := dkwX0_triesScrapes_0 ++ dktX0_triesScrapes_1
theorem dksX0_triesScrapes_0 : cX0_triesScrapes.data.toList.drop 0 = dktX0_triesScrapes_0 := by decide +kernel
theorem dksX0_triesScrapes_1 : cX0_triesScrapes.data.toList.drop 23 = dktX0_triesScrapes_1 := dk_seg dksX0_triesScrapes_0 23 rfl rfl
theorem dksX0_triesScrapes_2 : cX0_triesScrapes.data.toList.drop 47 = dktX0_triesScrapes_2 := dk_seg dksX0_triesScrapes_1 24 rfl rfl
theorem dksX0_triesScrapes_3 : cX0_triesScrapes.data.toList.drop 70 = dktX0_triesScrapes_3 := dk_seg dksX0_triesScrapes_2 23 rfl rfl
theorem dksX0_triesScrapes_4 : cX0_triesScrapes.data.toList.drop 94 = dktX0_triesScrapes_4 := dk_seg dksX0_triesScrapes_3 24 rfl rfl
theorem dksX0_triesScrapes_5 : cX0_triesScrapes.data.toList.drop 118 = dktX0_triesScrapes_5 := dk_seg dksX0_triesScrapes_4 24 rfl rfl
theorem dksX0_triesScrapes_6 : cX0_triesScrapes.data.toList.drop 142 = dktX0_triesScrapes_6 := dk_seg dksX0_triesScrapes_5 24 rfl rfl
theorem dksX0_triesScrapes_7 : cX0_triesScrapes.data.toList.drop 166 = dktX0_triesScrapes_7 := dk_seg dksX0_triesScrapes_6 24 rfl rfl
theorem dX0_triesScrapes_0 : decode cX0_triesScrapes 0 = .ok (.aload_n 0, 1) := dk_42 (dk_at dksX0_triesScrapes_0 0 rfl rfl)
theorem dX0_triesScrapes_1 : decode cX0_triesScrapes 1 = .ok (.getfield 310, 3) := dk_180 1 54 (dk_at dksX0_triesScrapes_0 1 rfl rfl)
theorem dX0_triesScrapes_4 : decode cX0_triesScrapes 4 = .ok (.iconst (-1), 1) := dk_2 (dk_at dksX0_triesScrapes_0 4 rfl rfl)
theorem dX0_triesScrapes_5 : decode cX0_triesScrapes 5 = .ok (.if_icmp .eq 13, 3) := dk_159 0 13 (dk_at dksX0_triesScrapes_0 5 rfl rfl)
theorem dX0_triesScrapes_8 : decode cX0_triesScrapes 8 = .ok (.iload 4, 2) := dk_21 4 (dk_at dksX0_triesScrapes_0 8 rfl rfl)
theorem dX0_triesScrapes_10 : decode cX0_triesScrapes 10 = .ok (.aload_n 0, 1) := dk_42 (dk_at dksX0_triesScrapes_0 10 rfl rfl)
theorem dX0_triesScrapes_11 : decode cX0_triesScrapes 11 = .ok (.getfield 310, 3) := dk_180 1 54 (dk_at dksX0_triesScrapes_0 11 rfl rfl)
theorem dX0_triesScrapes_14 : decode cX0_triesScrapes 14 = .ok (.if_icmp .lt 4, 3) := dk_161 0 4 (dk_at dksX0_triesScrapes_0 14 rfl rfl)
theorem dX0_triesScrapes_17 : decode cX0_triesScrapes 17 = .ok (.return_, 1) := dk_177 (dk_at dksX0_triesScrapes_0 17 rfl rfl)
theorem dX0_triesScrapes_18 : decode cX0_triesScrapes 18 = .ok (.iload_n 3, 1) := dk_29 (dk_at dksX0_triesScrapes_0 18 rfl rfl)
theorem dX0_triesScrapes_19 : decode cX0_triesScrapes 19 = .ok (.aload_n 0, 1) := dk_42 (dk_at dksX0_triesScrapes_0 19 rfl rfl)
theorem dX0_triesScrapes_20 : decode cX0_triesScrapes 20 = .ok (.getfield 149, 3) := dk_180 0 149 (dk_at dksX0_triesScrapes_0 20 rfl rfl)
theorem dX0_triesScrapes_23 : decode cX0_triesScrapes 23 = .ok (.getfield 218, 3) := dk_180 0 218 (dk_at dksX0_triesScrapes_1 0 rfl rfl)
theorem dX0_triesScrapes_26 : decode cX0_triesScrapes 26 = .ok (.iload_n 2, 1) := dk_28 (dk_at dksX0_triesScrapes_1 3 rfl rfl)
theorem dX0_triesScrapes_27 : decode cX0_triesScrapes 27 = .ok (.iaload, 1) := dk_46 (dk_at dksX0_triesScrapes_1 4 rfl rfl)
theorem dX0_triesScrapes_28 : decode cX0_triesScrapes 28 = .ok (.if_icmp .ne 38, 3) := dk_160 0 38 (dk_at dksX0_triesScrapes_1 5 rfl rfl)
theorem dX0_triesScrapes_31 : decode cX0_triesScrapes 31 = .ok (.aload_n 0, 1) := dk_42 (dk_at dksX0_triesScrapes_1 8 rfl rfl)
theorem dX0_triesScrapes_32 : decode cX0_triesScrapes 32 = .ok (.getfield 18, 3) := dk_180 0 18 (dk_at dksX0_triesScrapes_1 9 rfl rfl)
theorem dX0_triesScrapes_35 : decode cX0_triesScrapes 35 = .ok (.iload_n 2, 1) := dk_28 (dk_at dksX0_triesScrapes_1 12 rfl rfl)
theorem dX0_triesScrapes_36 : decode cX0_triesScrapes 36 = .ok (.invokevirtual 223, 3) := dk_182 0 223 (dk_at dksX0_triesScrapes_1 13 rfl rfl)
theorem dX0_triesScrapes_39 : decode cX0_triesScrapes 39 = .ok (.iload_n 1, 1) := dk_27 (dk_at dksX0_triesScrapes_1 16 rfl rfl)
theorem dX0_triesScrapes_40 : decode cX0_triesScrapes 40 = .ok (.if_icmp .eq 4, 3) := dk_159 0 4 (dk_at dksX0_triesScrapes_1 17 rfl rfl)
theorem dX0_triesScrapes_43 : decode cX0_triesScrapes 43 = .ok (.return_, 1) := dk_177 (dk_at dksX0_triesScrapes_1 20 rfl rfl)
theorem dX0_triesScrapes_44 : decode cX0_triesScrapes 44 = .ok (.aload_n 0, 1) := dk_42 (dk_at dksX0_triesScrapes_1 21 rfl rfl)
theorem dX0_triesScrapes_45 : decode cX0_triesScrapes 45 = .ok (.iload 4, 2) := dk_21 4 (dk_at dksX0_triesScrapes_1 22 rfl rfl)
theorem dX0_triesScrapes_47 : decode cX0_triesScrapes 47 = .ok (.putfield 310, 3) := dk_181 1 54 (dk_at dksX0_triesScrapes_2 0 rfl rfl)
theorem dX0_triesScrapes_50 : decode cX0_triesScrapes 50 = .ok (.aload_n 0, 1) := dk_42 (dk_at dksX0_triesScrapes_2 3 rfl rfl)
theorem dX0_triesScrapes_51 : decode cX0_triesScrapes 51 = .ok (.getfield 104, 3) := dk_180 0 104 (dk_at dksX0_triesScrapes_2 4 rfl rfl)
theorem dX0_triesScrapes_54 : decode cX0_triesScrapes 54 = .ok (.iconst 0, 1) := dk_3 (dk_at dksX0_triesScrapes_2 7 rfl rfl)
theorem dX0_triesScrapes_55 : decode cX0_triesScrapes 55 = .ok (.aload_n 0, 1) := dk_42 (dk_at dksX0_triesScrapes_2 8 rfl rfl)
theorem dX0_triesScrapes_56 : decode cX0_triesScrapes 56 = .ok (.getfield 107, 3) := dk_180 0 107 (dk_at dksX0_triesScrapes_2 9 rfl rfl)
theorem dX0_triesScrapes_59 : decode cX0_triesScrapes 59 = .ok (.iconst 0, 1) := dk_3 (dk_at dksX0_triesScrapes_2 12 rfl rfl)
theorem dX0_triesScrapes_60 : decode cX0_triesScrapes 60 = .ok (.bipush 6, 2) := dk_16 6 (dk_at dksX0_triesScrapes_2 13 rfl rfl)
theorem dX0_triesScrapes_62 : decode cX0_triesScrapes 62 = .ok (.invokestatic 245, 3) := dk_184 0 245 (dk_at dksX0_triesScrapes_2 15 rfl rfl)
theorem dX0_triesScrapes_65 : decode cX0_triesScrapes 65 = .ok (.return_, 1) := dk_177 (dk_at dksX0_triesScrapes_2 18 rfl rfl)
theorem dX0_triesScrapes_66 : decode cX0_triesScrapes 66 = .ok (.aload_n 0, 1) := dk_42 (dk_at dksX0_triesScrapes_2 19 rfl rfl)
theorem dX0_triesScrapes_67 : decode cX0_triesScrapes 67 = .ok (.getfield 149, 3) := dk_180 0 149 (dk_at dksX0_triesScrapes_2 20 rfl rfl)
theorem dX0_triesScrapes_70 : decode cX0_triesScrapes 70 = .ok (.getfield 215, 3) := dk_180 0 215 (dk_at dksX0_triesScrapes_3 0 rfl rfl)
theorem dX0_triesScrapes_73 : decode cX0_triesScrapes 73 = .ok (.iload_n 2, 1) := dk_28 (dk_at dksX0_triesScrapes_3 3 rfl rfl)
theorem dX0_triesScrapes_74 : decode cX0_triesScrapes 74 = .ok (.iaload, 1) := dk_46 (dk_at dksX0_triesScrapes_3 4 rfl rfl)
theorem dX0_triesScrapes_75 : decode cX0_triesScrapes 75 = .ok (.iload_n 3, 1) := dk_29 (dk_at dksX0_triesScrapes_3 5 rfl rfl)
theorem dX0_triesScrapes_76 : decode cX0_triesScrapes 76 = .ok (.iadd, 1) := dk_96 (dk_at dksX0_triesScrapes_3 6 rfl rfl)
theorem dX0_triesScrapes_77 : decode cX0_triesScrapes 77 = .ok (.istore 5, 2) := dk_54 5 (dk_at dksX0_triesScrapes_3 7 rfl rfl)
theorem dX0_triesScrapes_79 : decode cX0_triesScrapes 79 = .ok (.iconst 0, 1) := dk_3 (dk_at dksX0_triesScrapes_3 9 rfl rfl)
theorem dX0_triesScrapes_80 : decode cX0_triesScrapes 80 = .ok (.istore 6, 2) := dk_54 6 (dk_at dksX0_triesScrapes_3 10 rfl rfl)
theorem dX0_triesScrapes_82 : decode cX0_triesScrapes 82 = .ok (.iload 6, 2) := dk_21 6 (dk_at dksX0_triesScrapes_3 12 rfl rfl)
theorem dX0_triesScrapes_84 : decode cX0_triesScrapes 84 = .ok (.aload_n 0, 1) := dk_42 (dk_at dksX0_triesScrapes_3 14 rfl rfl)
theorem dX0_triesScrapes_85 : decode cX0_triesScrapes 85 = .ok (.getfield 149, 3) := dk_180 0 149 (dk_at dksX0_triesScrapes_3 15 rfl rfl)
theorem dX0_triesScrapes_88 : decode cX0_triesScrapes 88 = .ok (.getfield 179, 3) := dk_180 0 179 (dk_at dksX0_triesScrapes_3 18 rfl rfl)
theorem dX0_triesScrapes_91 : decode cX0_triesScrapes 91 = .ok (.iload 5, 2) := dk_21 5 (dk_at dksX0_triesScrapes_3 21 rfl rfl)
theorem dX0_triesScrapes_93 : decode cX0_triesScrapes 93 = .ok (.iaload, 1) := dk_46 (dk_at dksX0_triesScrapes_3 23 rfl rfl)
theorem dX0_triesScrapes_94 : decode cX0_triesScrapes 94 = .ok (.if_icmp .gt 54, 3) := dk_163 0 54 (dk_at dksX0_triesScrapes_4 0 rfl rfl)
theorem dX0_triesScrapes_97 : decode cX0_triesScrapes 97 = .ok (.aload_n 0, 1) := dk_42 (dk_at dksX0_triesScrapes_4 3 rfl rfl)
theorem dX0_triesScrapes_98 : decode cX0_triesScrapes 98 = .ok (.getfield 104, 3) := dk_180 0 104 (dk_at dksX0_triesScrapes_4 4 rfl rfl)
theorem dX0_triesScrapes_101 : decode cX0_triesScrapes 101 = .ok (.iload_n 3, 1) := dk_29 (dk_at dksX0_triesScrapes_4 7 rfl rfl)
theorem dX0_triesScrapes_102 : decode cX0_triesScrapes 102 = .ok (.iload 6, 2) := dk_21 6 (dk_at dksX0_triesScrapes_4 8 rfl rfl)
theorem dX0_triesScrapes_104 : decode cX0_triesScrapes 104 = .ok (.iastore, 1) := dk_79 (dk_at dksX0_triesScrapes_4 10 rfl rfl)
theorem dX0_triesScrapes_105 : decode cX0_triesScrapes 105 = .ok (.aload_n 0, 1) := dk_42 (dk_at dksX0_triesScrapes_4 11 rfl rfl)
theorem dX0_triesScrapes_106 : decode cX0_triesScrapes 106 = .ok (.getfield 18, 3) := dk_180 0 18 (dk_at dksX0_triesScrapes_4 12 rfl rfl)
theorem dX0_triesScrapes_109 : decode cX0_triesScrapes 109 = .ok (.getfield 179, 3) := dk_180 0 179 (dk_at dksX0_triesScrapes_4 15 rfl rfl)
theorem dX0_triesScrapes_112 : decode cX0_triesScrapes 112 = .ok (.iload 5, 2) := dk_21 5 (dk_at dksX0_triesScrapes_4 18 rfl rfl)
theorem dX0_triesScrapes_114 : decode cX0_triesScrapes 114 = .ok (.aload_n 0, 1) := dk_42 (dk_at dksX0_triesScrapes_4 20 rfl rfl)
theorem dX0_triesScrapes_115 : decode cX0_triesScrapes 115 = .ok (.getfield 149, 3) := dk_180 0 149 (dk_at dksX0_triesScrapes_4 21 rfl rfl)
theorem dX0_triesScrapes_118 : decode cX0_triesScrapes 118 = .ok (.getfield 179, 3) := dk_180 0 179 (dk_at dksX0_triesScrapes_5 0 rfl rfl)
theorem dX0_triesScrapes_121 : decode cX0_triesScrapes 121 = .ok (.iload 5, 2) := dk_21 5 (dk_at dksX0_triesScrapes_5 3 rfl rfl)
theorem dX0_triesScrapes_123 : decode cX0_triesScrapes 123 = .ok (.iaload, 1) := dk_46 (dk_at dksX0_triesScrapes_5 5 rfl rfl)
theorem dX0_triesScrapes_124 : decode cX0_triesScrapes 124 = .ok (.iload 6, 2) := dk_21 6 (dk_at dksX0_triesScrapes_5 6 rfl rfl)
theorem dX0_triesScrapes_126 : decode cX0_triesScrapes 126 = .ok (.isub, 1) := dk_100 (dk_at dksX0_triesScrapes_5 8 rfl rfl)
theorem dX0_triesScrapes_127 : decode cX0_triesScrapes 127 = .ok (.iastore, 1) := dk_79 (dk_at dksX0_triesScrapes_5 9 rfl rfl)
theorem dX0_triesScrapes_128 : decode cX0_triesScrapes 128 = .ok (.aload_n 0, 1) := dk_42 (dk_at dksX0_triesScrapes_5 10 rfl rfl)
theorem dX0_triesScrapes_129 : decode cX0_triesScrapes 129 = .ok (.iload_n 1, 1) := dk_27 (dk_at dksX0_triesScrapes_5 11 rfl rfl)
theorem dX0_triesScrapes_130 : decode cX0_triesScrapes 130 = .ok (.iload_n 2, 1) := dk_28 (dk_at dksX0_triesScrapes_5 12 rfl rfl)
theorem dX0_triesScrapes_131 : decode cX0_triesScrapes 131 = .ok (.iload_n 3, 1) := dk_29 (dk_at dksX0_triesScrapes_5 13 rfl rfl)
theorem dX0_triesScrapes_132 : decode cX0_triesScrapes 132 = .ok (.iconst 1, 1) := dk_4 (dk_at dksX0_triesScrapes_5 14 rfl rfl)
theorem dX0_triesScrapes_133 : decode cX0_triesScrapes 133 = .ok (.iadd, 1) := dk_96 (dk_at dksX0_triesScrapes_5 15 rfl rfl)
theorem dX0_triesScrapes_134 : decode cX0_triesScrapes 134 = .ok (.iload 4, 2) := dk_21 4 (dk_at dksX0_triesScrapes_5 16 rfl rfl)
theorem dX0_triesScrapes_136 : decode cX0_triesScrapes 136 = .ok (.iload 6, 2) := dk_21 6 (dk_at dksX0_triesScrapes_5 18 rfl rfl)
theorem dX0_triesScrapes_138 : decode cX0_triesScrapes 138 = .ok (.iadd, 1) := dk_96 (dk_at dksX0_triesScrapes_5 20 rfl rfl)
theorem dX0_triesScrapes_139 : decode cX0_triesScrapes 139 = .ok (.invokevirtual 313, 3) := dk_182 1 57 (dk_at dksX0_triesScrapes_5 21 rfl rfl)
theorem dX0_triesScrapes_142 : decode cX0_triesScrapes 142 = .ok (.iinc 6 1, 3) := dk_132 6 1 (dk_at dksX0_triesScrapes_6 0 rfl rfl)
theorem dX0_triesScrapes_145 : decode cX0_triesScrapes 145 = .ok (.goto (-63), 3) := dk_167 255 193 (dk_at dksX0_triesScrapes_6 3 rfl rfl)
theorem dX0_triesScrapes_148 : decode cX0_triesScrapes 148 = .ok (.aload_n 0, 1) := dk_42 (dk_at dksX0_triesScrapes_6 6 rfl rfl)
theorem dX0_triesScrapes_149 : decode cX0_triesScrapes 149 = .ok (.getfield 18, 3) := dk_180 0 18 (dk_at dksX0_triesScrapes_6 7 rfl rfl)
theorem dX0_triesScrapes_152 : decode cX0_triesScrapes 152 = .ok (.getfield 179, 3) := dk_180 0 179 (dk_at dksX0_triesScrapes_6 10 rfl rfl)
theorem dX0_triesScrapes_155 : decode cX0_triesScrapes 155 = .ok (.iload 5, 2) := dk_21 5 (dk_at dksX0_triesScrapes_6 13 rfl rfl)
theorem dX0_triesScrapes_157 : decode cX0_triesScrapes 157 = .ok (.aload_n 0, 1) := dk_42 (dk_at dksX0_triesScrapes_6 15 rfl rfl)
theorem dX0_triesScrapes_158 : decode cX0_triesScrapes 158 = .ok (.getfield 149, 3) := dk_180 0 149 (dk_at dksX0_triesScrapes_6 16 rfl rfl)
theorem dX0_triesScrapes_161 : decode cX0_triesScrapes 161 = .ok (.getfield 179, 3) := dk_180 0 179 (dk_at dksX0_triesScrapes_6 19 rfl rfl)
theorem dX0_triesScrapes_164 : decode cX0_triesScrapes 164 = .ok (.iload 5, 2) := dk_21 5 (dk_at dksX0_triesScrapes_6 22 rfl rfl)
theorem dX0_triesScrapes_166 : decode cX0_triesScrapes 166 = .ok (.iaload, 1) := dk_46 (dk_at dksX0_triesScrapes_7 0 rfl rfl)
theorem dX0_triesScrapes_167 : decode cX0_triesScrapes 167 = .ok (.iastore, 1) := dk_79 (dk_at dksX0_triesScrapes_7 1 rfl rfl)
theorem dX0_triesScrapes_168 : decode cX0_triesScrapes 168 = .ok (.return_, 1) := dk_177 (dk_at dksX0_triesScrapes_7 2 rfl rfl)
abbrev cX0_when : ByteArray := prog_1_method_35_code
def yX0_when : MethodName := ⟨RX0, "when", "()I"⟩
def dkwX0_when_2 : List UInt8 := [167, 255, 229, 16, 254, 172]
abbrev dktX0_when_2 : List UInt8 := dkwX0_when_2 ++ []
def dkwX0_when_1 : List UInt8 := [180, 1, 1, 16, 60, 96, 162, 0, 19, 42, 27, 182, 1, 66, 153, 0, 5, 27, 172, 132, 1, 1]
abbrev dktX0_when_1 : List UInt8 := dkwX0_when_1 ++ dktX0_when_2
def dkwX0_when_0 : List UInt8 := [42, 180, 0, 149, 199, 0, 5, 2, 172, 42, 180, 0, 149, 180, 1, 1, 60, 27, 42, 180, 0, 149]
abbrev dktX0_when_0 : List UInt8 := dkwX0_when_0 ++ dktX0_when_1
theorem dksX0_when_0 : cX0_when.data.toList.drop 0 = dktX0_when_0 := by decide +kernel
theorem dksX0_when_1 : cX0_when.data.toList.drop 22 = dktX0_when_1 := dk_seg dksX0_when_0 22 rfl rfl
theorem dksX0_when_2 : cX0_when.data.toList.drop 44 = dktX0_when_2 := dk_seg dksX0_when_1 22 rfl rfl
theorem dX0_when_0 : decode cX0_when 0 = .ok (.aload_n 0, 1) := dk_42 (dk_at dksX0_when_0 0 rfl rfl)
theorem dX0_when_1 : decode cX0_when 1 = .ok (.getfield 149, 3) := dk_180 0 149 (dk_at dksX0_when_0 1 rfl rfl)
theorem dX0_when_4 : decode cX0_when 4 = .ok (.ifnonnull 5, 3) := dk_199 0 5 (dk_at dksX0_when_0 4 rfl rfl)
theorem dX0_when_7 : decode cX0_when 7 = .ok (.iconst (-1), 1) := dk_2 (dk_at dksX0_when_0 7 rfl rfl)
theorem dX0_when_8 : decode cX0_when 8 = .ok (.ireturn, 1) := dk_172 (dk_at dksX0_when_0 8 rfl rfl)
theorem dX0_when_9 : decode cX0_when 9 = .ok (.aload_n 0, 1) := dk_42 (dk_at dksX0_when_0 9 rfl rfl)
theorem dX0_when_10 : decode cX0_when 10 = .ok (.getfield 149, 3) := dk_180 0 149 (dk_at dksX0_when_0 10 rfl rfl)
theorem dX0_when_13 : decode cX0_when 13 = .ok (.getfield 257, 3) := dk_180 1 1 (dk_at dksX0_when_0 13 rfl rfl)
theorem dX0_when_16 : decode cX0_when 16 = .ok (.istore_n 1, 1) := dk_60 (dk_at dksX0_when_0 16 rfl rfl)
theorem dX0_when_17 : decode cX0_when 17 = .ok (.iload_n 1, 1) := dk_27 (dk_at dksX0_when_0 17 rfl rfl)
theorem dX0_when_18 : decode cX0_when 18 = .ok (.aload_n 0, 1) := dk_42 (dk_at dksX0_when_0 18 rfl rfl)
theorem dX0_when_19 : decode cX0_when 19 = .ok (.getfield 149, 3) := dk_180 0 149 (dk_at dksX0_when_0 19 rfl rfl)
theorem dX0_when_22 : decode cX0_when 22 = .ok (.getfield 257, 3) := dk_180 1 1 (dk_at dksX0_when_1 0 rfl rfl)
theorem dX0_when_25 : decode cX0_when 25 = .ok (.bipush 60, 2) := dk_16 60 (dk_at dksX0_when_1 3 rfl rfl)
theorem dX0_when_27 : decode cX0_when 27 = .ok (.iadd, 1) := dk_96 (dk_at dksX0_when_1 5 rfl rfl)
theorem dX0_when_28 : decode cX0_when 28 = .ok (.if_icmp .ge 19, 3) := dk_162 0 19 (dk_at dksX0_when_1 6 rfl rfl)
theorem dX0_when_31 : decode cX0_when 31 = .ok (.aload_n 0, 1) := dk_42 (dk_at dksX0_when_1 9 rfl rfl)
theorem dX0_when_32 : decode cX0_when 32 = .ok (.iload_n 1, 1) := dk_27 (dk_at dksX0_when_1 10 rfl rfl)
theorem dX0_when_33 : decode cX0_when 33 = .ok (.invokevirtual 322, 3) := dk_182 1 66 (dk_at dksX0_when_1 11 rfl rfl)
theorem dX0_when_36 : decode cX0_when 36 = .ok (.ifCond .eq 5, 3) := dk_153 0 5 (dk_at dksX0_when_1 14 rfl rfl)
theorem dX0_when_39 : decode cX0_when 39 = .ok (.iload_n 1, 1) := dk_27 (dk_at dksX0_when_1 17 rfl rfl)
theorem dX0_when_40 : decode cX0_when 40 = .ok (.ireturn, 1) := dk_172 (dk_at dksX0_when_1 18 rfl rfl)
theorem dX0_when_41 : decode cX0_when 41 = .ok (.iinc 1 1, 3) := dk_132 1 1 (dk_at dksX0_when_1 19 rfl rfl)
theorem dX0_when_44 : decode cX0_when 44 = .ok (.goto (-27), 3) := dk_167 255 229 (dk_at dksX0_when_2 0 rfl rfl)
theorem dX0_when_47 : decode cX0_when 47 = .ok (.bipush (-2), 2) := dk_16 254 (dk_at dksX0_when_2 3 rfl rfl)
theorem dX0_when_49 : decode cX0_when 49 = .ok (.ireturn, 1) := dk_172 (dk_at dksX0_when_2 5 rfl rfl)
abbrev cX0_staysDry : ByteArray := prog_1_method_34_code
def yX0_staysDry : MethodName := ⟨RX0, "staysDry", "(I)Z"⟩
def dkwX0_staysDry_1 : List UInt8 := [153, 0, 5, 3, 172, 132, 2, 1, 167, 255, 227, 4, 172]
abbrev dktX0_staysDry_1 : List UInt8 := dkwX0_staysDry_1 ++ []
def dkwX0_staysDry_0 : List UInt8 := [27, 61, 28, 27, 42, 180, 0, 149, 180, 1, 63, 96, 162, 0, 22, 42, 180, 0, 149, 28, 182, 0, 236]
abbrev dktX0_staysDry_0 : List UInt8 := dkwX0_staysDry_0 ++ dktX0_staysDry_1
theorem dksX0_staysDry_0 : cX0_staysDry.data.toList.drop 0 = dktX0_staysDry_0 := by decide +kernel
theorem dksX0_staysDry_1 : cX0_staysDry.data.toList.drop 23 = dktX0_staysDry_1 := dk_seg dksX0_staysDry_0 23 rfl rfl
theorem dX0_staysDry_0 : decode cX0_staysDry 0 = .ok (.iload_n 1, 1) := dk_27 (dk_at dksX0_staysDry_0 0 rfl rfl)
theorem dX0_staysDry_1 : decode cX0_staysDry 1 = .ok (.istore_n 2, 1) := dk_61 (dk_at dksX0_staysDry_0 1 rfl rfl)
theorem dX0_staysDry_2 : decode cX0_staysDry 2 = .ok (.iload_n 2, 1) := dk_28 (dk_at dksX0_staysDry_0 2 rfl rfl)
theorem dX0_staysDry_3 : decode cX0_staysDry 3 = .ok (.iload_n 1, 1) := dk_27 (dk_at dksX0_staysDry_0 3 rfl rfl)
theorem dX0_staysDry_4 : decode cX0_staysDry 4 = .ok (.aload_n 0, 1) := dk_42 (dk_at dksX0_staysDry_0 4 rfl rfl)
theorem dX0_staysDry_5 : decode cX0_staysDry 5 = .ok (.getfield 149, 3) := dk_180 0 149 (dk_at dksX0_staysDry_0 5 rfl rfl)
theorem dX0_staysDry_8 : decode cX0_staysDry 8 = .ok (.getfield 319, 3) := dk_180 1 63 (dk_at dksX0_staysDry_0 8 rfl rfl)
theorem dX0_staysDry_11 : decode cX0_staysDry 11 = .ok (.iadd, 1) := dk_96 (dk_at dksX0_staysDry_0 11 rfl rfl)
theorem dX0_staysDry_12 : decode cX0_staysDry 12 = .ok (.if_icmp .ge 22, 3) := dk_162 0 22 (dk_at dksX0_staysDry_0 12 rfl rfl)
theorem dX0_staysDry_15 : decode cX0_staysDry 15 = .ok (.aload_n 0, 1) := dk_42 (dk_at dksX0_staysDry_0 15 rfl rfl)
theorem dX0_staysDry_16 : decode cX0_staysDry 16 = .ok (.getfield 149, 3) := dk_180 0 149 (dk_at dksX0_staysDry_0 16 rfl rfl)
theorem dX0_staysDry_19 : decode cX0_staysDry 19 = .ok (.iload_n 2, 1) := dk_28 (dk_at dksX0_staysDry_0 19 rfl rfl)
theorem dX0_staysDry_20 : decode cX0_staysDry 20 = .ok (.invokevirtual 236, 3) := dk_182 0 236 (dk_at dksX0_staysDry_0 20 rfl rfl)
theorem dX0_staysDry_23 : decode cX0_staysDry 23 = .ok (.ifCond .eq 5, 3) := dk_153 0 5 (dk_at dksX0_staysDry_1 0 rfl rfl)
theorem dX0_staysDry_26 : decode cX0_staysDry 26 = .ok (.iconst 0, 1) := dk_3 (dk_at dksX0_staysDry_1 3 rfl rfl)
theorem dX0_staysDry_27 : decode cX0_staysDry 27 = .ok (.ireturn, 1) := dk_172 (dk_at dksX0_staysDry_1 4 rfl rfl)
theorem dX0_staysDry_28 : decode cX0_staysDry 28 = .ok (.iinc 2 1, 3) := dk_132 2 1 (dk_at dksX0_staysDry_1 5 rfl rfl)
theorem dX0_staysDry_31 : decode cX0_staysDry 31 = .ok (.goto (-29), 3) := dk_167 255 227 (dk_at dksX0_staysDry_1 8 rfl rfl)
theorem dX0_staysDry_34 : decode cX0_staysDry 34 = .ok (.iconst 1, 1) := dk_4 (dk_at dksX0_staysDry_1 11 rfl rfl)
theorem dX0_staysDry_35 : decode cX0_staysDry 35 = .ok (.ireturn, 1) := dk_172 (dk_at dksX0_staysDry_1 12 rfl rfl)
abbrev cX0_game : ByteArray := prog_1_method_37_code
def yX0_game : MethodName := ⟨RX0, "game", "(IIIII)I"⟩
def dkwX0_game_6 : List UInt8 := [180, 1, 76, 172]
abbrev dktX0_game_6 : List UInt8 := dkwX0_game_6 ++ []
def dkwX0_game_5 : List UInt8 := [42, 27, 28, 29, 3, 21, 4, 182, 1, 72, 54, 6, 21, 5, 154, 0, 8, 21, 6, 167, 0, 7, 42]
abbrev dktX0_game_5 : List UInt8 := dkwX0_game_5 ++ dktX0_game_6
def dkwX0_game_4 : List UInt8 := [163, 0, 24, 42, 180, 0, 21, 21, 6, 50, 42, 180, 0, 149, 182, 0, 145, 87, 132, 6, 1, 167, 255, 231]
abbrev dktX0_game_4 : List UInt8 := dkwX0_game_4 ++ dktX0_game_5
def dkwX0_game_3 : List UInt8 := [16, 156, 172, 42, 180, 0, 18, 42, 180, 0, 149, 182, 0, 145, 87, 3, 54, 6, 21, 6, 21, 4]
abbrev dktX0_game_3 : List UInt8 := dkwX0_game_3 ++ dktX0_game_4
def dkwX0_game_2 : List UInt8 := [21, 4, 133, 10, 20, 1, 79, 184, 0, 193, 153, 0, 14, 21, 5, 133, 9, 10, 184, 0, 193, 154, 0, 6]
abbrev dktX0_game_2 : List UInt8 := dkwX0_game_2 ++ dktX0_game_3
def dkwX0_game_1 : List UInt8 := [182, 0, 212, 153, 0, 17, 42, 180, 0, 149, 180, 0, 225, 29, 184, 0, 227, 153, 0, 6, 16, 156, 172]
abbrev dktX0_game_1 : List UInt8 := dkwX0_game_1 ++ dktX0_game_2
def dkwX0_game_0 : List UInt8 := [42, 27, 182, 0, 231, 153, 0, 38, 42, 28, 182, 0, 231, 153, 0, 30, 27, 28, 159, 0, 25, 42, 29]
abbrev dktX0_game_0 : List UInt8 := dkwX0_game_0 ++ dktX0_game_1
theorem dksX0_game_0 : cX0_game.data.toList.drop 0 = dktX0_game_0 := by decide +kernel
theorem dksX0_game_1 : cX0_game.data.toList.drop 23 = dktX0_game_1 := dk_seg dksX0_game_0 23 rfl rfl
theorem dksX0_game_2 : cX0_game.data.toList.drop 46 = dktX0_game_2 := dk_seg dksX0_game_1 23 rfl rfl
theorem dksX0_game_3 : cX0_game.data.toList.drop 70 = dktX0_game_3 := dk_seg dksX0_game_2 24 rfl rfl
theorem dksX0_game_4 : cX0_game.data.toList.drop 92 = dktX0_game_4 := dk_seg dksX0_game_3 22 rfl rfl
theorem dksX0_game_5 : cX0_game.data.toList.drop 116 = dktX0_game_5 := dk_seg dksX0_game_4 24 rfl rfl
theorem dksX0_game_6 : cX0_game.data.toList.drop 139 = dktX0_game_6 := dk_seg dksX0_game_5 23 rfl rfl
theorem dX0_game_0 : decode cX0_game 0 = .ok (.aload_n 0, 1) := dk_42 (dk_at dksX0_game_0 0 rfl rfl)
theorem dX0_game_1 : decode cX0_game 1 = .ok (.iload_n 1, 1) := dk_27 (dk_at dksX0_game_0 1 rfl rfl)
theorem dX0_game_2 : decode cX0_game 2 = .ok (.invokevirtual 231, 3) := dk_182 0 231 (dk_at dksX0_game_0 2 rfl rfl)
theorem dX0_game_5 : decode cX0_game 5 = .ok (.ifCond .eq 38, 3) := dk_153 0 38 (dk_at dksX0_game_0 5 rfl rfl)
theorem dX0_game_8 : decode cX0_game 8 = .ok (.aload_n 0, 1) := dk_42 (dk_at dksX0_game_0 8 rfl rfl)
theorem dX0_game_9 : decode cX0_game 9 = .ok (.iload_n 2, 1) := dk_28 (dk_at dksX0_game_0 9 rfl rfl)
theorem dX0_game_10 : decode cX0_game 10 = .ok (.invokevirtual 231, 3) := dk_182 0 231 (dk_at dksX0_game_0 10 rfl rfl)
theorem dX0_game_13 : decode cX0_game 13 = .ok (.ifCond .eq 30, 3) := dk_153 0 30 (dk_at dksX0_game_0 13 rfl rfl)
theorem dX0_game_16 : decode cX0_game 16 = .ok (.iload_n 1, 1) := dk_27 (dk_at dksX0_game_0 16 rfl rfl)
theorem dX0_game_17 : decode cX0_game 17 = .ok (.iload_n 2, 1) := dk_28 (dk_at dksX0_game_0 17 rfl rfl)
theorem dX0_game_18 : decode cX0_game 18 = .ok (.if_icmp .eq 25, 3) := dk_159 0 25 (dk_at dksX0_game_0 18 rfl rfl)
theorem dX0_game_21 : decode cX0_game 21 = .ok (.aload_n 0, 1) := dk_42 (dk_at dksX0_game_0 21 rfl rfl)
theorem dX0_game_22 : decode cX0_game 22 = .ok (.iload_n 3, 1) := dk_29 (dk_at dksX0_game_0 22 rfl rfl)
theorem dX0_game_23 : decode cX0_game 23 = .ok (.invokevirtual 212, 3) := dk_182 0 212 (dk_at dksX0_game_1 0 rfl rfl)
theorem dX0_game_26 : decode cX0_game 26 = .ok (.ifCond .eq 17, 3) := dk_153 0 17 (dk_at dksX0_game_1 3 rfl rfl)
theorem dX0_game_29 : decode cX0_game 29 = .ok (.aload_n 0, 1) := dk_42 (dk_at dksX0_game_1 6 rfl rfl)
theorem dX0_game_30 : decode cX0_game 30 = .ok (.getfield 149, 3) := dk_180 0 149 (dk_at dksX0_game_1 7 rfl rfl)
theorem dX0_game_33 : decode cX0_game 33 = .ok (.getfield 225, 3) := dk_180 0 225 (dk_at dksX0_game_1 10 rfl rfl)
theorem dX0_game_36 : decode cX0_game 36 = .ok (.iload_n 3, 1) := dk_29 (dk_at dksX0_game_1 13 rfl rfl)
theorem dX0_game_37 : decode cX0_game 37 = .ok (.invokestatic 227, 3) := dk_184 0 227 (dk_at dksX0_game_1 14 rfl rfl)
theorem dX0_game_40 : decode cX0_game 40 = .ok (.ifCond .eq 6, 3) := dk_153 0 6 (dk_at dksX0_game_1 17 rfl rfl)
theorem dX0_game_43 : decode cX0_game 43 = .ok (.bipush (-100), 2) := dk_16 156 (dk_at dksX0_game_1 20 rfl rfl)
theorem dX0_game_45 : decode cX0_game 45 = .ok (.ireturn, 1) := dk_172 (dk_at dksX0_game_1 22 rfl rfl)
theorem dX0_game_46 : decode cX0_game 46 = .ok (.iload 4, 2) := dk_21 4 (dk_at dksX0_game_2 0 rfl rfl)
theorem dX0_game_48 : decode cX0_game 48 = .ok (.i2l, 1) := dk_133 (dk_at dksX0_game_2 2 rfl rfl)
theorem dX0_game_49 : decode cX0_game 49 = .ok (.lconst 1, 1) := dk_10 (dk_at dksX0_game_2 3 rfl rfl)
theorem dX0_game_50 : decode cX0_game 50 = .ok (.ldc2_w 335, 3) := dk_20 1 79 (dk_at dksX0_game_2 4 rfl rfl)
theorem dX0_game_53 : decode cX0_game 53 = .ok (.invokestatic 193, 3) := dk_184 0 193 (dk_at dksX0_game_2 7 rfl rfl)
theorem dX0_game_56 : decode cX0_game 56 = .ok (.ifCond .eq 14, 3) := dk_153 0 14 (dk_at dksX0_game_2 10 rfl rfl)
theorem dX0_game_59 : decode cX0_game 59 = .ok (.iload 5, 2) := dk_21 5 (dk_at dksX0_game_2 13 rfl rfl)
theorem dX0_game_61 : decode cX0_game 61 = .ok (.i2l, 1) := dk_133 (dk_at dksX0_game_2 15 rfl rfl)
theorem dX0_game_62 : decode cX0_game 62 = .ok (.lconst 0, 1) := dk_9 (dk_at dksX0_game_2 16 rfl rfl)
theorem dX0_game_63 : decode cX0_game 63 = .ok (.lconst 1, 1) := dk_10 (dk_at dksX0_game_2 17 rfl rfl)
theorem dX0_game_64 : decode cX0_game 64 = .ok (.invokestatic 193, 3) := dk_184 0 193 (dk_at dksX0_game_2 18 rfl rfl)
theorem dX0_game_67 : decode cX0_game 67 = .ok (.ifCond .ne 6, 3) := dk_154 0 6 (dk_at dksX0_game_2 21 rfl rfl)
theorem dX0_game_70 : decode cX0_game 70 = .ok (.bipush (-100), 2) := dk_16 156 (dk_at dksX0_game_3 0 rfl rfl)
theorem dX0_game_72 : decode cX0_game 72 = .ok (.ireturn, 1) := dk_172 (dk_at dksX0_game_3 2 rfl rfl)
theorem dX0_game_73 : decode cX0_game 73 = .ok (.aload_n 0, 1) := dk_42 (dk_at dksX0_game_3 3 rfl rfl)
theorem dX0_game_74 : decode cX0_game 74 = .ok (.getfield 18, 3) := dk_180 0 18 (dk_at dksX0_game_3 4 rfl rfl)
theorem dX0_game_77 : decode cX0_game 77 = .ok (.aload_n 0, 1) := dk_42 (dk_at dksX0_game_3 7 rfl rfl)
theorem dX0_game_78 : decode cX0_game 78 = .ok (.getfield 149, 3) := dk_180 0 149 (dk_at dksX0_game_3 8 rfl rfl)
theorem dX0_game_81 : decode cX0_game 81 = .ok (.invokevirtual 145, 3) := dk_182 0 145 (dk_at dksX0_game_3 11 rfl rfl)
theorem dX0_game_84 : decode cX0_game 84 = .ok (.pop, 1) := dk_87 (dk_at dksX0_game_3 14 rfl rfl)
theorem dX0_game_85 : decode cX0_game 85 = .ok (.iconst 0, 1) := dk_3 (dk_at dksX0_game_3 15 rfl rfl)
theorem dX0_game_86 : decode cX0_game 86 = .ok (.istore 6, 2) := dk_54 6 (dk_at dksX0_game_3 16 rfl rfl)
theorem dX0_game_88 : decode cX0_game 88 = .ok (.iload 6, 2) := dk_21 6 (dk_at dksX0_game_3 18 rfl rfl)
theorem dX0_game_90 : decode cX0_game 90 = .ok (.iload 4, 2) := dk_21 4 (dk_at dksX0_game_3 20 rfl rfl)
theorem dX0_game_92 : decode cX0_game 92 = .ok (.if_icmp .gt 24, 3) := dk_163 0 24 (dk_at dksX0_game_4 0 rfl rfl)
theorem dX0_game_95 : decode cX0_game 95 = .ok (.aload_n 0, 1) := dk_42 (dk_at dksX0_game_4 3 rfl rfl)
theorem dX0_game_96 : decode cX0_game 96 = .ok (.getfield 21, 3) := dk_180 0 21 (dk_at dksX0_game_4 4 rfl rfl)
theorem dX0_game_99 : decode cX0_game 99 = .ok (.iload 6, 2) := dk_21 6 (dk_at dksX0_game_4 7 rfl rfl)
theorem dX0_game_101 : decode cX0_game 101 = .ok (.aaload, 1) := dk_50 (dk_at dksX0_game_4 9 rfl rfl)
theorem dX0_game_102 : decode cX0_game 102 = .ok (.aload_n 0, 1) := dk_42 (dk_at dksX0_game_4 10 rfl rfl)
theorem dX0_game_103 : decode cX0_game 103 = .ok (.getfield 149, 3) := dk_180 0 149 (dk_at dksX0_game_4 11 rfl rfl)
theorem dX0_game_106 : decode cX0_game 106 = .ok (.invokevirtual 145, 3) := dk_182 0 145 (dk_at dksX0_game_4 14 rfl rfl)
theorem dX0_game_109 : decode cX0_game 109 = .ok (.pop, 1) := dk_87 (dk_at dksX0_game_4 17 rfl rfl)
theorem dX0_game_110 : decode cX0_game 110 = .ok (.iinc 6 1, 3) := dk_132 6 1 (dk_at dksX0_game_4 18 rfl rfl)
theorem dX0_game_113 : decode cX0_game 113 = .ok (.goto (-25), 3) := dk_167 255 231 (dk_at dksX0_game_4 21 rfl rfl)
theorem dX0_game_116 : decode cX0_game 116 = .ok (.aload_n 0, 1) := dk_42 (dk_at dksX0_game_5 0 rfl rfl)
theorem dX0_game_117 : decode cX0_game 117 = .ok (.iload_n 1, 1) := dk_27 (dk_at dksX0_game_5 1 rfl rfl)
theorem dX0_game_118 : decode cX0_game 118 = .ok (.iload_n 2, 1) := dk_28 (dk_at dksX0_game_5 2 rfl rfl)
theorem dX0_game_119 : decode cX0_game 119 = .ok (.iload_n 3, 1) := dk_29 (dk_at dksX0_game_5 3 rfl rfl)
theorem dX0_game_120 : decode cX0_game 120 = .ok (.iconst 0, 1) := dk_3 (dk_at dksX0_game_5 4 rfl rfl)
theorem dX0_game_121 : decode cX0_game 121 = .ok (.iload 4, 2) := dk_21 4 (dk_at dksX0_game_5 5 rfl rfl)
theorem dX0_game_123 : decode cX0_game 123 = .ok (.invokevirtual 328, 3) := dk_182 1 72 (dk_at dksX0_game_5 7 rfl rfl)
theorem dX0_game_126 : decode cX0_game 126 = .ok (.istore 6, 2) := dk_54 6 (dk_at dksX0_game_5 10 rfl rfl)
theorem dX0_game_128 : decode cX0_game 128 = .ok (.iload 5, 2) := dk_21 5 (dk_at dksX0_game_5 12 rfl rfl)
theorem dX0_game_130 : decode cX0_game 130 = .ok (.ifCond .ne 8, 3) := dk_154 0 8 (dk_at dksX0_game_5 14 rfl rfl)
theorem dX0_game_133 : decode cX0_game 133 = .ok (.iload 6, 2) := dk_21 6 (dk_at dksX0_game_5 17 rfl rfl)
theorem dX0_game_135 : decode cX0_game 135 = .ok (.goto 7, 3) := dk_167 0 7 (dk_at dksX0_game_5 19 rfl rfl)
theorem dX0_game_138 : decode cX0_game 138 = .ok (.aload_n 0, 1) := dk_42 (dk_at dksX0_game_5 22 rfl rfl)
theorem dX0_game_139 : decode cX0_game 139 = .ok (.getfield 332, 3) := dk_180 1 76 (dk_at dksX0_game_6 0 rfl rfl)
theorem dX0_game_142 : decode cX0_game 142 = .ok (.ireturn, 1) := dk_172 (dk_at dksX0_game_6 3 rfl rfl)
abbrev cX0_worthFrom : ByteArray := prog_1_method_36_code
def yX0_worthFrom : MethodName := ⟨RX0, "worthFrom", "(IIIII)I"⟩
def dkwX0_worthFrom_10 : List UInt8 := [154, 0, 9, 42, 21, 10, 181, 1, 76, 132, 8, 1, 167, 255, 96, 21, 7, 172]
abbrev dktX0_worthFrom_10 : List UInt8 := dkwX0_worthFrom_10 ++ []
def dkwX0_worthFrom_9 : List UInt8 := [163, 0, 16, 167, 0, 28, 21, 11, 21, 7, 161, 0, 6, 167, 0, 18, 21, 11, 54, 7, 21, 4]
abbrev dktX0_worthFrom_9 : List UInt8 := dkwX0_worthFrom_9 ++ dktX0_worthFrom_10
def dkwX0_worthFrom_8 : List UInt8 := [4, 96, 21, 5, 182, 1, 72, 54, 11, 21, 8, 2, 159, 0, 28, 21, 6, 153, 0, 13, 21, 11, 21, 7]
abbrev dktX0_worthFrom_8 : List UInt8 := dkwX0_worthFrom_8 ++ dktX0_worthFrom_9
def dkwX0_worthFrom_7 : List UInt8 := [28, 25, 9, 180, 1, 1, 182, 1, 34, 25, 9, 42, 180, 0, 31, 182, 1, 41, 42, 27, 28, 29, 21, 4]
abbrev dktX0_worthFrom_7 : List UInt8 := dkwX0_worthFrom_7 ++ dktX0_worthFrom_8
def dkwX0_worthFrom_6 : List UInt8 := [21, 8, 96, 54, 10, 21, 10, 2, 159, 0, 25, 25, 9, 21, 10, 21, 6, 153, 0, 7, 27, 167, 0, 4]
abbrev dktX0_worthFrom_6 : List UInt8 := dkwX0_worthFrom_6 ++ dktX0_worthFrom_7
def dkwX0_worthFrom_5 : List UInt8 := [182, 1, 38, 58, 9, 21, 8, 2, 160, 0, 7, 2, 167, 0, 15, 42, 180, 0, 149, 180, 0, 215, 29, 46]
abbrev dktX0_worthFrom_5 : List UInt8 := dkwX0_worthFrom_5 ++ dktX0_worthFrom_6
def dkwX0_worthFrom_4 : List UInt8 := [180, 0, 218, 29, 46, 162, 0, 152, 42, 180, 0, 21, 21, 4, 4, 96, 50, 42, 180, 0, 21, 21, 4, 50]
abbrev dktX0_worthFrom_4 : List UInt8 := dkwX0_worthFrom_4 ++ dktX0_worthFrom_5
def dkwX0_worthFrom_3 : List UInt8 := [154, 0, 7, 4, 167, 0, 4, 3, 54, 6, 3, 54, 7, 2, 54, 8, 21, 8, 42, 180, 0, 149]
abbrev dktX0_worthFrom_3 : List UInt8 := dkwX0_worthFrom_3 ++ dktX0_worthFrom_4
def dkwX0_worthFrom_2 : List UInt8 := [167, 255, 234, 25, 6, 27, 29, 182, 1, 69, 25, 6, 28, 29, 182, 1, 69, 100, 172, 21, 4, 5, 112]
abbrev dktX0_worthFrom_2 : List UInt8 := dkwX0_worthFrom_2 ++ dktX0_worthFrom_3
def dkwX0_worthFrom_1 : List UInt8 := [54, 7, 21, 7, 25, 6, 180, 1, 63, 162, 0, 18, 25, 6, 42, 180, 0, 31, 182, 1, 41, 132, 7, 1]
abbrev dktX0_worthFrom_1 : List UInt8 := dkwX0_worthFrom_1 ++ dktX0_worthFrom_2
def dkwX0_worthFrom_0 : List UInt8 := [21, 4, 21, 5, 160, 0, 63, 42, 180, 0, 18, 42, 180, 0, 21, 21, 4, 50, 182, 1, 38, 58, 6, 3]
abbrev dktX0_worthFrom_0 : List UInt8 := dkwX0_worthFrom_0 ++ dktX0_worthFrom_1
theorem dksX0_worthFrom_0 : cX0_worthFrom.data.toList.drop 0 = dktX0_worthFrom_0 := by decide +kernel
theorem dksX0_worthFrom_1 : cX0_worthFrom.data.toList.drop 24 = dktX0_worthFrom_1 := dk_seg dksX0_worthFrom_0 24 rfl rfl
theorem dksX0_worthFrom_2 : cX0_worthFrom.data.toList.drop 48 = dktX0_worthFrom_2 := dk_seg dksX0_worthFrom_1 24 rfl rfl
theorem dksX0_worthFrom_3 : cX0_worthFrom.data.toList.drop 71 = dktX0_worthFrom_3 := dk_seg dksX0_worthFrom_2 23 rfl rfl
theorem dksX0_worthFrom_4 : cX0_worthFrom.data.toList.drop 93 = dktX0_worthFrom_4 := dk_seg dksX0_worthFrom_3 22 rfl rfl
theorem dksX0_worthFrom_5 : cX0_worthFrom.data.toList.drop 117 = dktX0_worthFrom_5 := dk_seg dksX0_worthFrom_4 24 rfl rfl
theorem dksX0_worthFrom_6 : cX0_worthFrom.data.toList.drop 141 = dktX0_worthFrom_6 := dk_seg dksX0_worthFrom_5 24 rfl rfl
theorem dksX0_worthFrom_7 : cX0_worthFrom.data.toList.drop 165 = dktX0_worthFrom_7 := dk_seg dksX0_worthFrom_6 24 rfl rfl
theorem dksX0_worthFrom_8 : cX0_worthFrom.data.toList.drop 189 = dktX0_worthFrom_8 := dk_seg dksX0_worthFrom_7 24 rfl rfl
theorem dksX0_worthFrom_9 : cX0_worthFrom.data.toList.drop 213 = dktX0_worthFrom_9 := dk_seg dksX0_worthFrom_8 24 rfl rfl
theorem dksX0_worthFrom_10 : cX0_worthFrom.data.toList.drop 235 = dktX0_worthFrom_10 := dk_seg dksX0_worthFrom_9 22 rfl rfl
theorem dX0_worthFrom_0 : decode cX0_worthFrom 0 = .ok (.iload 4, 2) := dk_21 4 (dk_at dksX0_worthFrom_0 0 rfl rfl)
theorem dX0_worthFrom_2 : decode cX0_worthFrom 2 = .ok (.iload 5, 2) := dk_21 5 (dk_at dksX0_worthFrom_0 2 rfl rfl)
theorem dX0_worthFrom_4 : decode cX0_worthFrom 4 = .ok (.if_icmp .ne 63, 3) := dk_160 0 63 (dk_at dksX0_worthFrom_0 4 rfl rfl)
theorem dX0_worthFrom_7 : decode cX0_worthFrom 7 = .ok (.aload_n 0, 1) := dk_42 (dk_at dksX0_worthFrom_0 7 rfl rfl)
theorem dX0_worthFrom_8 : decode cX0_worthFrom 8 = .ok (.getfield 18, 3) := dk_180 0 18 (dk_at dksX0_worthFrom_0 8 rfl rfl)
theorem dX0_worthFrom_11 : decode cX0_worthFrom 11 = .ok (.aload_n 0, 1) := dk_42 (dk_at dksX0_worthFrom_0 11 rfl rfl)
theorem dX0_worthFrom_12 : decode cX0_worthFrom 12 = .ok (.getfield 21, 3) := dk_180 0 21 (dk_at dksX0_worthFrom_0 12 rfl rfl)
theorem dX0_worthFrom_15 : decode cX0_worthFrom 15 = .ok (.iload 4, 2) := dk_21 4 (dk_at dksX0_worthFrom_0 15 rfl rfl)
theorem dX0_worthFrom_17 : decode cX0_worthFrom 17 = .ok (.aaload, 1) := dk_50 (dk_at dksX0_worthFrom_0 17 rfl rfl)
theorem dX0_worthFrom_18 : decode cX0_worthFrom 18 = .ok (.invokevirtual 294, 3) := dk_182 1 38 (dk_at dksX0_worthFrom_0 18 rfl rfl)
theorem dX0_worthFrom_21 : decode cX0_worthFrom 21 = .ok (.astore 6, 2) := dk_58 6 (dk_at dksX0_worthFrom_0 21 rfl rfl)
theorem dX0_worthFrom_23 : decode cX0_worthFrom 23 = .ok (.iconst 0, 1) := dk_3 (dk_at dksX0_worthFrom_0 23 rfl rfl)
theorem dX0_worthFrom_24 : decode cX0_worthFrom 24 = .ok (.istore 7, 2) := dk_54 7 (dk_at dksX0_worthFrom_1 0 rfl rfl)
theorem dX0_worthFrom_26 : decode cX0_worthFrom 26 = .ok (.iload 7, 2) := dk_21 7 (dk_at dksX0_worthFrom_1 2 rfl rfl)
theorem dX0_worthFrom_28 : decode cX0_worthFrom 28 = .ok (.aload 6, 2) := dk_25 6 (dk_at dksX0_worthFrom_1 4 rfl rfl)
theorem dX0_worthFrom_30 : decode cX0_worthFrom 30 = .ok (.getfield 319, 3) := dk_180 1 63 (dk_at dksX0_worthFrom_1 6 rfl rfl)
theorem dX0_worthFrom_33 : decode cX0_worthFrom 33 = .ok (.if_icmp .ge 18, 3) := dk_162 0 18 (dk_at dksX0_worthFrom_1 9 rfl rfl)
theorem dX0_worthFrom_36 : decode cX0_worthFrom 36 = .ok (.aload 6, 2) := dk_25 6 (dk_at dksX0_worthFrom_1 12 rfl rfl)
theorem dX0_worthFrom_38 : decode cX0_worthFrom 38 = .ok (.aload_n 0, 1) := dk_42 (dk_at dksX0_worthFrom_1 14 rfl rfl)
theorem dX0_worthFrom_39 : decode cX0_worthFrom 39 = .ok (.getfield 31, 3) := dk_180 0 31 (dk_at dksX0_worthFrom_1 15 rfl rfl)
theorem dX0_worthFrom_42 : decode cX0_worthFrom 42 = .ok (.invokevirtual 297, 3) := dk_182 1 41 (dk_at dksX0_worthFrom_1 18 rfl rfl)
theorem dX0_worthFrom_45 : decode cX0_worthFrom 45 = .ok (.iinc 7 1, 3) := dk_132 7 1 (dk_at dksX0_worthFrom_1 21 rfl rfl)
theorem dX0_worthFrom_48 : decode cX0_worthFrom 48 = .ok (.goto (-22), 3) := dk_167 255 234 (dk_at dksX0_worthFrom_2 0 rfl rfl)
theorem dX0_worthFrom_51 : decode cX0_worthFrom 51 = .ok (.aload 6, 2) := dk_25 6 (dk_at dksX0_worthFrom_2 3 rfl rfl)
theorem dX0_worthFrom_53 : decode cX0_worthFrom 53 = .ok (.iload_n 1, 1) := dk_27 (dk_at dksX0_worthFrom_2 5 rfl rfl)
theorem dX0_worthFrom_54 : decode cX0_worthFrom 54 = .ok (.iload_n 3, 1) := dk_29 (dk_at dksX0_worthFrom_2 6 rfl rfl)
theorem dX0_worthFrom_55 : decode cX0_worthFrom 55 = .ok (.invokevirtual 325, 3) := dk_182 1 69 (dk_at dksX0_worthFrom_2 7 rfl rfl)
theorem dX0_worthFrom_58 : decode cX0_worthFrom 58 = .ok (.aload 6, 2) := dk_25 6 (dk_at dksX0_worthFrom_2 10 rfl rfl)
theorem dX0_worthFrom_60 : decode cX0_worthFrom 60 = .ok (.iload_n 2, 1) := dk_28 (dk_at dksX0_worthFrom_2 12 rfl rfl)
theorem dX0_worthFrom_61 : decode cX0_worthFrom 61 = .ok (.iload_n 3, 1) := dk_29 (dk_at dksX0_worthFrom_2 13 rfl rfl)
theorem dX0_worthFrom_62 : decode cX0_worthFrom 62 = .ok (.invokevirtual 325, 3) := dk_182 1 69 (dk_at dksX0_worthFrom_2 14 rfl rfl)
theorem dX0_worthFrom_65 : decode cX0_worthFrom 65 = .ok (.isub, 1) := dk_100 (dk_at dksX0_worthFrom_2 17 rfl rfl)
theorem dX0_worthFrom_66 : decode cX0_worthFrom 66 = .ok (.ireturn, 1) := dk_172 (dk_at dksX0_worthFrom_2 18 rfl rfl)
theorem dX0_worthFrom_67 : decode cX0_worthFrom 67 = .ok (.iload 4, 2) := dk_21 4 (dk_at dksX0_worthFrom_2 19 rfl rfl)
theorem dX0_worthFrom_69 : decode cX0_worthFrom 69 = .ok (.iconst 2, 1) := dk_5 (dk_at dksX0_worthFrom_2 21 rfl rfl)
theorem dX0_worthFrom_70 : decode cX0_worthFrom 70 = .ok (.irem, 1) := dk_112 (dk_at dksX0_worthFrom_2 22 rfl rfl)
theorem dX0_worthFrom_71 : decode cX0_worthFrom 71 = .ok (.ifCond .ne 7, 3) := dk_154 0 7 (dk_at dksX0_worthFrom_3 0 rfl rfl)
theorem dX0_worthFrom_74 : decode cX0_worthFrom 74 = .ok (.iconst 1, 1) := dk_4 (dk_at dksX0_worthFrom_3 3 rfl rfl)
theorem dX0_worthFrom_75 : decode cX0_worthFrom 75 = .ok (.goto 4, 3) := dk_167 0 4 (dk_at dksX0_worthFrom_3 4 rfl rfl)
theorem dX0_worthFrom_78 : decode cX0_worthFrom 78 = .ok (.iconst 0, 1) := dk_3 (dk_at dksX0_worthFrom_3 7 rfl rfl)
theorem dX0_worthFrom_79 : decode cX0_worthFrom 79 = .ok (.istore 6, 2) := dk_54 6 (dk_at dksX0_worthFrom_3 8 rfl rfl)
theorem dX0_worthFrom_81 : decode cX0_worthFrom 81 = .ok (.iconst 0, 1) := dk_3 (dk_at dksX0_worthFrom_3 10 rfl rfl)
theorem dX0_worthFrom_82 : decode cX0_worthFrom 82 = .ok (.istore 7, 2) := dk_54 7 (dk_at dksX0_worthFrom_3 11 rfl rfl)
theorem dX0_worthFrom_84 : decode cX0_worthFrom 84 = .ok (.iconst (-1), 1) := dk_2 (dk_at dksX0_worthFrom_3 13 rfl rfl)
theorem dX0_worthFrom_85 : decode cX0_worthFrom 85 = .ok (.istore 8, 2) := dk_54 8 (dk_at dksX0_worthFrom_3 14 rfl rfl)
theorem dX0_worthFrom_87 : decode cX0_worthFrom 87 = .ok (.iload 8, 2) := dk_21 8 (dk_at dksX0_worthFrom_3 16 rfl rfl)
theorem dX0_worthFrom_89 : decode cX0_worthFrom 89 = .ok (.aload_n 0, 1) := dk_42 (dk_at dksX0_worthFrom_3 18 rfl rfl)
theorem dX0_worthFrom_90 : decode cX0_worthFrom 90 = .ok (.getfield 149, 3) := dk_180 0 149 (dk_at dksX0_worthFrom_3 19 rfl rfl)
theorem dX0_worthFrom_93 : decode cX0_worthFrom 93 = .ok (.getfield 218, 3) := dk_180 0 218 (dk_at dksX0_worthFrom_4 0 rfl rfl)
theorem dX0_worthFrom_96 : decode cX0_worthFrom 96 = .ok (.iload_n 3, 1) := dk_29 (dk_at dksX0_worthFrom_4 3 rfl rfl)
theorem dX0_worthFrom_97 : decode cX0_worthFrom 97 = .ok (.iaload, 1) := dk_46 (dk_at dksX0_worthFrom_4 4 rfl rfl)
theorem dX0_worthFrom_98 : decode cX0_worthFrom 98 = .ok (.if_icmp .ge 152, 3) := dk_162 0 152 (dk_at dksX0_worthFrom_4 5 rfl rfl)
theorem dX0_worthFrom_101 : decode cX0_worthFrom 101 = .ok (.aload_n 0, 1) := dk_42 (dk_at dksX0_worthFrom_4 8 rfl rfl)
theorem dX0_worthFrom_102 : decode cX0_worthFrom 102 = .ok (.getfield 21, 3) := dk_180 0 21 (dk_at dksX0_worthFrom_4 9 rfl rfl)
theorem dX0_worthFrom_105 : decode cX0_worthFrom 105 = .ok (.iload 4, 2) := dk_21 4 (dk_at dksX0_worthFrom_4 12 rfl rfl)
theorem dX0_worthFrom_107 : decode cX0_worthFrom 107 = .ok (.iconst 1, 1) := dk_4 (dk_at dksX0_worthFrom_4 14 rfl rfl)
theorem dX0_worthFrom_108 : decode cX0_worthFrom 108 = .ok (.iadd, 1) := dk_96 (dk_at dksX0_worthFrom_4 15 rfl rfl)
theorem dX0_worthFrom_109 : decode cX0_worthFrom 109 = .ok (.aaload, 1) := dk_50 (dk_at dksX0_worthFrom_4 16 rfl rfl)
theorem dX0_worthFrom_110 : decode cX0_worthFrom 110 = .ok (.aload_n 0, 1) := dk_42 (dk_at dksX0_worthFrom_4 17 rfl rfl)
theorem dX0_worthFrom_111 : decode cX0_worthFrom 111 = .ok (.getfield 21, 3) := dk_180 0 21 (dk_at dksX0_worthFrom_4 18 rfl rfl)
theorem dX0_worthFrom_114 : decode cX0_worthFrom 114 = .ok (.iload 4, 2) := dk_21 4 (dk_at dksX0_worthFrom_4 21 rfl rfl)
theorem dX0_worthFrom_116 : decode cX0_worthFrom 116 = .ok (.aaload, 1) := dk_50 (dk_at dksX0_worthFrom_4 23 rfl rfl)
theorem dX0_worthFrom_117 : decode cX0_worthFrom 117 = .ok (.invokevirtual 294, 3) := dk_182 1 38 (dk_at dksX0_worthFrom_5 0 rfl rfl)
theorem dX0_worthFrom_120 : decode cX0_worthFrom 120 = .ok (.astore 9, 2) := dk_58 9 (dk_at dksX0_worthFrom_5 3 rfl rfl)
theorem dX0_worthFrom_122 : decode cX0_worthFrom 122 = .ok (.iload 8, 2) := dk_21 8 (dk_at dksX0_worthFrom_5 5 rfl rfl)
theorem dX0_worthFrom_124 : decode cX0_worthFrom 124 = .ok (.iconst (-1), 1) := dk_2 (dk_at dksX0_worthFrom_5 7 rfl rfl)
theorem dX0_worthFrom_125 : decode cX0_worthFrom 125 = .ok (.if_icmp .ne 7, 3) := dk_160 0 7 (dk_at dksX0_worthFrom_5 8 rfl rfl)
theorem dX0_worthFrom_128 : decode cX0_worthFrom 128 = .ok (.iconst (-1), 1) := dk_2 (dk_at dksX0_worthFrom_5 11 rfl rfl)
theorem dX0_worthFrom_129 : decode cX0_worthFrom 129 = .ok (.goto 15, 3) := dk_167 0 15 (dk_at dksX0_worthFrom_5 12 rfl rfl)
theorem dX0_worthFrom_132 : decode cX0_worthFrom 132 = .ok (.aload_n 0, 1) := dk_42 (dk_at dksX0_worthFrom_5 15 rfl rfl)
theorem dX0_worthFrom_133 : decode cX0_worthFrom 133 = .ok (.getfield 149, 3) := dk_180 0 149 (dk_at dksX0_worthFrom_5 16 rfl rfl)
theorem dX0_worthFrom_136 : decode cX0_worthFrom 136 = .ok (.getfield 215, 3) := dk_180 0 215 (dk_at dksX0_worthFrom_5 19 rfl rfl)
theorem dX0_worthFrom_139 : decode cX0_worthFrom 139 = .ok (.iload_n 3, 1) := dk_29 (dk_at dksX0_worthFrom_5 22 rfl rfl)
theorem dX0_worthFrom_140 : decode cX0_worthFrom 140 = .ok (.iaload, 1) := dk_46 (dk_at dksX0_worthFrom_5 23 rfl rfl)
theorem dX0_worthFrom_141 : decode cX0_worthFrom 141 = .ok (.iload 8, 2) := dk_21 8 (dk_at dksX0_worthFrom_6 0 rfl rfl)
theorem dX0_worthFrom_143 : decode cX0_worthFrom 143 = .ok (.iadd, 1) := dk_96 (dk_at dksX0_worthFrom_6 2 rfl rfl)
theorem dX0_worthFrom_144 : decode cX0_worthFrom 144 = .ok (.istore 10, 2) := dk_54 10 (dk_at dksX0_worthFrom_6 3 rfl rfl)
theorem dX0_worthFrom_146 : decode cX0_worthFrom 146 = .ok (.iload 10, 2) := dk_21 10 (dk_at dksX0_worthFrom_6 5 rfl rfl)
theorem dX0_worthFrom_148 : decode cX0_worthFrom 148 = .ok (.iconst (-1), 1) := dk_2 (dk_at dksX0_worthFrom_6 7 rfl rfl)
theorem dX0_worthFrom_149 : decode cX0_worthFrom 149 = .ok (.if_icmp .eq 25, 3) := dk_159 0 25 (dk_at dksX0_worthFrom_6 8 rfl rfl)
theorem dX0_worthFrom_152 : decode cX0_worthFrom 152 = .ok (.aload 9, 2) := dk_25 9 (dk_at dksX0_worthFrom_6 11 rfl rfl)
theorem dX0_worthFrom_154 : decode cX0_worthFrom 154 = .ok (.iload 10, 2) := dk_21 10 (dk_at dksX0_worthFrom_6 13 rfl rfl)
theorem dX0_worthFrom_156 : decode cX0_worthFrom 156 = .ok (.iload 6, 2) := dk_21 6 (dk_at dksX0_worthFrom_6 15 rfl rfl)
theorem dX0_worthFrom_158 : decode cX0_worthFrom 158 = .ok (.ifCond .eq 7, 3) := dk_153 0 7 (dk_at dksX0_worthFrom_6 17 rfl rfl)
theorem dX0_worthFrom_161 : decode cX0_worthFrom 161 = .ok (.iload_n 1, 1) := dk_27 (dk_at dksX0_worthFrom_6 20 rfl rfl)
theorem dX0_worthFrom_162 : decode cX0_worthFrom 162 = .ok (.goto 4, 3) := dk_167 0 4 (dk_at dksX0_worthFrom_6 21 rfl rfl)
theorem dX0_worthFrom_165 : decode cX0_worthFrom 165 = .ok (.iload_n 2, 1) := dk_28 (dk_at dksX0_worthFrom_7 0 rfl rfl)
theorem dX0_worthFrom_166 : decode cX0_worthFrom 166 = .ok (.aload 9, 2) := dk_25 9 (dk_at dksX0_worthFrom_7 1 rfl rfl)
theorem dX0_worthFrom_168 : decode cX0_worthFrom 168 = .ok (.getfield 257, 3) := dk_180 1 1 (dk_at dksX0_worthFrom_7 3 rfl rfl)
theorem dX0_worthFrom_171 : decode cX0_worthFrom 171 = .ok (.invokevirtual 290, 3) := dk_182 1 34 (dk_at dksX0_worthFrom_7 6 rfl rfl)
theorem dX0_worthFrom_174 : decode cX0_worthFrom 174 = .ok (.aload 9, 2) := dk_25 9 (dk_at dksX0_worthFrom_7 9 rfl rfl)
theorem dX0_worthFrom_176 : decode cX0_worthFrom 176 = .ok (.aload_n 0, 1) := dk_42 (dk_at dksX0_worthFrom_7 11 rfl rfl)
theorem dX0_worthFrom_177 : decode cX0_worthFrom 177 = .ok (.getfield 31, 3) := dk_180 0 31 (dk_at dksX0_worthFrom_7 12 rfl rfl)
theorem dX0_worthFrom_180 : decode cX0_worthFrom 180 = .ok (.invokevirtual 297, 3) := dk_182 1 41 (dk_at dksX0_worthFrom_7 15 rfl rfl)
theorem dX0_worthFrom_183 : decode cX0_worthFrom 183 = .ok (.aload_n 0, 1) := dk_42 (dk_at dksX0_worthFrom_7 18 rfl rfl)
theorem dX0_worthFrom_184 : decode cX0_worthFrom 184 = .ok (.iload_n 1, 1) := dk_27 (dk_at dksX0_worthFrom_7 19 rfl rfl)
theorem dX0_worthFrom_185 : decode cX0_worthFrom 185 = .ok (.iload_n 2, 1) := dk_28 (dk_at dksX0_worthFrom_7 20 rfl rfl)
theorem dX0_worthFrom_186 : decode cX0_worthFrom 186 = .ok (.iload_n 3, 1) := dk_29 (dk_at dksX0_worthFrom_7 21 rfl rfl)
theorem dX0_worthFrom_187 : decode cX0_worthFrom 187 = .ok (.iload 4, 2) := dk_21 4 (dk_at dksX0_worthFrom_7 22 rfl rfl)
theorem dX0_worthFrom_189 : decode cX0_worthFrom 189 = .ok (.iconst 1, 1) := dk_4 (dk_at dksX0_worthFrom_8 0 rfl rfl)
theorem dX0_worthFrom_190 : decode cX0_worthFrom 190 = .ok (.iadd, 1) := dk_96 (dk_at dksX0_worthFrom_8 1 rfl rfl)
theorem dX0_worthFrom_191 : decode cX0_worthFrom 191 = .ok (.iload 5, 2) := dk_21 5 (dk_at dksX0_worthFrom_8 2 rfl rfl)
theorem dX0_worthFrom_193 : decode cX0_worthFrom 193 = .ok (.invokevirtual 328, 3) := dk_182 1 72 (dk_at dksX0_worthFrom_8 4 rfl rfl)
theorem dX0_worthFrom_196 : decode cX0_worthFrom 196 = .ok (.istore 11, 2) := dk_54 11 (dk_at dksX0_worthFrom_8 7 rfl rfl)
theorem dX0_worthFrom_198 : decode cX0_worthFrom 198 = .ok (.iload 8, 2) := dk_21 8 (dk_at dksX0_worthFrom_8 9 rfl rfl)
theorem dX0_worthFrom_200 : decode cX0_worthFrom 200 = .ok (.iconst (-1), 1) := dk_2 (dk_at dksX0_worthFrom_8 11 rfl rfl)
theorem dX0_worthFrom_201 : decode cX0_worthFrom 201 = .ok (.if_icmp .eq 28, 3) := dk_159 0 28 (dk_at dksX0_worthFrom_8 12 rfl rfl)
theorem dX0_worthFrom_204 : decode cX0_worthFrom 204 = .ok (.iload 6, 2) := dk_21 6 (dk_at dksX0_worthFrom_8 15 rfl rfl)
theorem dX0_worthFrom_206 : decode cX0_worthFrom 206 = .ok (.ifCond .eq 13, 3) := dk_153 0 13 (dk_at dksX0_worthFrom_8 17 rfl rfl)
theorem dX0_worthFrom_209 : decode cX0_worthFrom 209 = .ok (.iload 11, 2) := dk_21 11 (dk_at dksX0_worthFrom_8 20 rfl rfl)
theorem dX0_worthFrom_211 : decode cX0_worthFrom 211 = .ok (.iload 7, 2) := dk_21 7 (dk_at dksX0_worthFrom_8 22 rfl rfl)
theorem dX0_worthFrom_213 : decode cX0_worthFrom 213 = .ok (.if_icmp .gt 16, 3) := dk_163 0 16 (dk_at dksX0_worthFrom_9 0 rfl rfl)
theorem dX0_worthFrom_216 : decode cX0_worthFrom 216 = .ok (.goto 28, 3) := dk_167 0 28 (dk_at dksX0_worthFrom_9 3 rfl rfl)
theorem dX0_worthFrom_219 : decode cX0_worthFrom 219 = .ok (.iload 11, 2) := dk_21 11 (dk_at dksX0_worthFrom_9 6 rfl rfl)
theorem dX0_worthFrom_221 : decode cX0_worthFrom 221 = .ok (.iload 7, 2) := dk_21 7 (dk_at dksX0_worthFrom_9 8 rfl rfl)
theorem dX0_worthFrom_223 : decode cX0_worthFrom 223 = .ok (.if_icmp .lt 6, 3) := dk_161 0 6 (dk_at dksX0_worthFrom_9 10 rfl rfl)
theorem dX0_worthFrom_226 : decode cX0_worthFrom 226 = .ok (.goto 18, 3) := dk_167 0 18 (dk_at dksX0_worthFrom_9 13 rfl rfl)
theorem dX0_worthFrom_229 : decode cX0_worthFrom 229 = .ok (.iload 11, 2) := dk_21 11 (dk_at dksX0_worthFrom_9 16 rfl rfl)
theorem dX0_worthFrom_231 : decode cX0_worthFrom 231 = .ok (.istore 7, 2) := dk_54 7 (dk_at dksX0_worthFrom_9 18 rfl rfl)
theorem dX0_worthFrom_233 : decode cX0_worthFrom 233 = .ok (.iload 4, 2) := dk_21 4 (dk_at dksX0_worthFrom_9 20 rfl rfl)
theorem dX0_worthFrom_235 : decode cX0_worthFrom 235 = .ok (.ifCond .ne 9, 3) := dk_154 0 9 (dk_at dksX0_worthFrom_10 0 rfl rfl)
theorem dX0_worthFrom_238 : decode cX0_worthFrom 238 = .ok (.aload_n 0, 1) := dk_42 (dk_at dksX0_worthFrom_10 3 rfl rfl)
theorem dX0_worthFrom_239 : decode cX0_worthFrom 239 = .ok (.iload 10, 2) := dk_21 10 (dk_at dksX0_worthFrom_10 4 rfl rfl)
theorem dX0_worthFrom_241 : decode cX0_worthFrom 241 = .ok (.putfield 332, 3) := dk_181 1 76 (dk_at dksX0_worthFrom_10 6 rfl rfl)
theorem dX0_worthFrom_244 : decode cX0_worthFrom 244 = .ok (.iinc 8 1, 3) := dk_132 8 1 (dk_at dksX0_worthFrom_10 9 rfl rfl)
theorem dX0_worthFrom_247 : decode cX0_worthFrom 247 = .ok (.goto (-160), 3) := dk_167 255 96 (dk_at dksX0_worthFrom_10 12 rfl rfl)
theorem dX0_worthFrom_250 : decode cX0_worthFrom 250 = .ok (.iload 7, 2) := dk_21 7 (dk_at dksX0_worthFrom_10 15 rfl rfl)
theorem dX0_worthFrom_252 : decode cX0_worthFrom 252 = .ok (.ireturn, 1) := dk_172 (dk_at dksX0_worthFrom_10 17 rfl rfl)
abbrev cX0_share : ByteArray := prog_1_method_39_code
def yX0_share : MethodName := ⟨RX0, "share", "(III)I"⟩
def dkwX0_share_3 : List UInt8 := [184, 1, 81, 108, 172]
abbrev dktX0_share_3 : List UInt8 := dkwX0_share_3 ++ []
def dkwX0_share_2 : List UInt8 := [167, 0, 12, 42, 180, 0, 149, 180, 0, 218, 28, 46, 42, 180, 0, 149, 180, 0, 218, 28, 46, 21, 4]
abbrev dktX0_share_2 : List UInt8 := dkwX0_share_2 ++ dktX0_share_3
def dkwX0_share_1 : List UInt8 := [154, 0, 5, 2, 172, 42, 180, 0, 149, 27, 28, 182, 1, 69, 54, 4, 29, 154, 0, 8, 21, 4]
abbrev dktX0_share_1 : List UInt8 := dkwX0_share_1 ++ dktX0_share_2
def dkwX0_share_0 : List UInt8 := [42, 27, 182, 0, 231, 153, 0, 21, 42, 28, 182, 0, 212, 153, 0, 13, 29, 133, 9, 10, 184, 0, 193]
abbrev dktX0_share_0 : List UInt8 := dkwX0_share_0 ++ dktX0_share_1
theorem dksX0_share_0 : cX0_share.data.toList.drop 0 = dktX0_share_0 := by decide +kernel
theorem dksX0_share_1 : cX0_share.data.toList.drop 23 = dktX0_share_1 := dk_seg dksX0_share_0 23 rfl rfl
theorem dksX0_share_2 : cX0_share.data.toList.drop 45 = dktX0_share_2 := dk_seg dksX0_share_1 22 rfl rfl
theorem dksX0_share_3 : cX0_share.data.toList.drop 68 = dktX0_share_3 := dk_seg dksX0_share_2 23 rfl rfl
theorem dX0_share_0 : decode cX0_share 0 = .ok (.aload_n 0, 1) := dk_42 (dk_at dksX0_share_0 0 rfl rfl)
theorem dX0_share_1 : decode cX0_share 1 = .ok (.iload_n 1, 1) := dk_27 (dk_at dksX0_share_0 1 rfl rfl)
theorem dX0_share_2 : decode cX0_share 2 = .ok (.invokevirtual 231, 3) := dk_182 0 231 (dk_at dksX0_share_0 2 rfl rfl)
theorem dX0_share_5 : decode cX0_share 5 = .ok (.ifCond .eq 21, 3) := dk_153 0 21 (dk_at dksX0_share_0 5 rfl rfl)
theorem dX0_share_8 : decode cX0_share 8 = .ok (.aload_n 0, 1) := dk_42 (dk_at dksX0_share_0 8 rfl rfl)
theorem dX0_share_9 : decode cX0_share 9 = .ok (.iload_n 2, 1) := dk_28 (dk_at dksX0_share_0 9 rfl rfl)
theorem dX0_share_10 : decode cX0_share 10 = .ok (.invokevirtual 212, 3) := dk_182 0 212 (dk_at dksX0_share_0 10 rfl rfl)
theorem dX0_share_13 : decode cX0_share 13 = .ok (.ifCond .eq 13, 3) := dk_153 0 13 (dk_at dksX0_share_0 13 rfl rfl)
theorem dX0_share_16 : decode cX0_share 16 = .ok (.iload_n 3, 1) := dk_29 (dk_at dksX0_share_0 16 rfl rfl)
theorem dX0_share_17 : decode cX0_share 17 = .ok (.i2l, 1) := dk_133 (dk_at dksX0_share_0 17 rfl rfl)
theorem dX0_share_18 : decode cX0_share 18 = .ok (.lconst 0, 1) := dk_9 (dk_at dksX0_share_0 18 rfl rfl)
theorem dX0_share_19 : decode cX0_share 19 = .ok (.lconst 1, 1) := dk_10 (dk_at dksX0_share_0 19 rfl rfl)
theorem dX0_share_20 : decode cX0_share 20 = .ok (.invokestatic 193, 3) := dk_184 0 193 (dk_at dksX0_share_0 20 rfl rfl)
theorem dX0_share_23 : decode cX0_share 23 = .ok (.ifCond .ne 5, 3) := dk_154 0 5 (dk_at dksX0_share_1 0 rfl rfl)
theorem dX0_share_26 : decode cX0_share 26 = .ok (.iconst (-1), 1) := dk_2 (dk_at dksX0_share_1 3 rfl rfl)
theorem dX0_share_27 : decode cX0_share 27 = .ok (.ireturn, 1) := dk_172 (dk_at dksX0_share_1 4 rfl rfl)
theorem dX0_share_28 : decode cX0_share 28 = .ok (.aload_n 0, 1) := dk_42 (dk_at dksX0_share_1 5 rfl rfl)
theorem dX0_share_29 : decode cX0_share 29 = .ok (.getfield 149, 3) := dk_180 0 149 (dk_at dksX0_share_1 6 rfl rfl)
theorem dX0_share_32 : decode cX0_share 32 = .ok (.iload_n 1, 1) := dk_27 (dk_at dksX0_share_1 9 rfl rfl)
theorem dX0_share_33 : decode cX0_share 33 = .ok (.iload_n 2, 1) := dk_28 (dk_at dksX0_share_1 10 rfl rfl)
theorem dX0_share_34 : decode cX0_share 34 = .ok (.invokevirtual 325, 3) := dk_182 1 69 (dk_at dksX0_share_1 11 rfl rfl)
theorem dX0_share_37 : decode cX0_share 37 = .ok (.istore 4, 2) := dk_54 4 (dk_at dksX0_share_1 14 rfl rfl)
theorem dX0_share_39 : decode cX0_share 39 = .ok (.iload_n 3, 1) := dk_29 (dk_at dksX0_share_1 16 rfl rfl)
theorem dX0_share_40 : decode cX0_share 40 = .ok (.ifCond .ne 8, 3) := dk_154 0 8 (dk_at dksX0_share_1 17 rfl rfl)
theorem dX0_share_43 : decode cX0_share 43 = .ok (.iload 4, 2) := dk_21 4 (dk_at dksX0_share_1 20 rfl rfl)
theorem dX0_share_45 : decode cX0_share 45 = .ok (.goto 12, 3) := dk_167 0 12 (dk_at dksX0_share_2 0 rfl rfl)
theorem dX0_share_48 : decode cX0_share 48 = .ok (.aload_n 0, 1) := dk_42 (dk_at dksX0_share_2 3 rfl rfl)
theorem dX0_share_49 : decode cX0_share 49 = .ok (.getfield 149, 3) := dk_180 0 149 (dk_at dksX0_share_2 4 rfl rfl)
theorem dX0_share_52 : decode cX0_share 52 = .ok (.getfield 218, 3) := dk_180 0 218 (dk_at dksX0_share_2 7 rfl rfl)
theorem dX0_share_55 : decode cX0_share 55 = .ok (.iload_n 2, 1) := dk_28 (dk_at dksX0_share_2 10 rfl rfl)
theorem dX0_share_56 : decode cX0_share 56 = .ok (.iaload, 1) := dk_46 (dk_at dksX0_share_2 11 rfl rfl)
theorem dX0_share_57 : decode cX0_share 57 = .ok (.aload_n 0, 1) := dk_42 (dk_at dksX0_share_2 12 rfl rfl)
theorem dX0_share_58 : decode cX0_share 58 = .ok (.getfield 149, 3) := dk_180 0 149 (dk_at dksX0_share_2 13 rfl rfl)
theorem dX0_share_61 : decode cX0_share 61 = .ok (.getfield 218, 3) := dk_180 0 218 (dk_at dksX0_share_2 16 rfl rfl)
theorem dX0_share_64 : decode cX0_share 64 = .ok (.iload_n 2, 1) := dk_28 (dk_at dksX0_share_2 19 rfl rfl)
theorem dX0_share_65 : decode cX0_share 65 = .ok (.iaload, 1) := dk_46 (dk_at dksX0_share_2 20 rfl rfl)
theorem dX0_share_66 : decode cX0_share 66 = .ok (.iload 4, 2) := dk_21 4 (dk_at dksX0_share_2 21 rfl rfl)
theorem dX0_share_68 : decode cX0_share 68 = .ok (.invokestatic 337, 3) := dk_184 1 81 (dk_at dksX0_share_3 0 rfl rfl)
theorem dX0_share_71 : decode cX0_share 71 = .ok (.idiv, 1) := dk_108 (dk_at dksX0_share_3 3 rfl rfl)
theorem dX0_share_72 : decode cX0_share 72 = .ok (.ireturn, 1) := dk_172 (dk_at dksX0_share_3 4 rfl rfl)
abbrev cX0_divisor : ByteArray := prog_1_method_38_code
def yX0_divisor : MethodName := ⟨RX0, "divisor", "(II)I"⟩
def dkwX0_divisor_0 : List UInt8 := [27, 154, 0, 7, 26, 167, 0, 10, 27, 26, 27, 112, 184, 1, 81, 172]
abbrev dktX0_divisor_0 : List UInt8 := dkwX0_divisor_0 ++ []
theorem dksX0_divisor_0 : cX0_divisor.data.toList.drop 0 = dktX0_divisor_0 := by decide +kernel
theorem dX0_divisor_0 : decode cX0_divisor 0 = .ok (.iload_n 1, 1) := dk_27 (dk_at dksX0_divisor_0 0 rfl rfl)
theorem dX0_divisor_1 : decode cX0_divisor 1 = .ok (.ifCond .ne 7, 3) := dk_154 0 7 (dk_at dksX0_divisor_0 1 rfl rfl)
theorem dX0_divisor_4 : decode cX0_divisor 4 = .ok (.iload_n 0, 1) := dk_26 (dk_at dksX0_divisor_0 4 rfl rfl)
theorem dX0_divisor_5 : decode cX0_divisor 5 = .ok (.goto 10, 3) := dk_167 0 10 (dk_at dksX0_divisor_0 5 rfl rfl)
theorem dX0_divisor_8 : decode cX0_divisor 8 = .ok (.iload_n 1, 1) := dk_27 (dk_at dksX0_divisor_0 8 rfl rfl)
theorem dX0_divisor_9 : decode cX0_divisor 9 = .ok (.iload_n 0, 1) := dk_26 (dk_at dksX0_divisor_0 9 rfl rfl)
theorem dX0_divisor_10 : decode cX0_divisor 10 = .ok (.iload_n 1, 1) := dk_27 (dk_at dksX0_divisor_0 10 rfl rfl)
theorem dX0_divisor_11 : decode cX0_divisor 11 = .ok (.irem, 1) := dk_112 (dk_at dksX0_divisor_0 11 rfl rfl)
theorem dX0_divisor_12 : decode cX0_divisor 12 = .ok (.invokestatic 337, 3) := dk_184 1 81 (dk_at dksX0_divisor_0 12 rfl rfl)
theorem dX0_divisor_15 : decode cX0_divisor 15 = .ok (.ireturn, 1) := dk_172 (dk_at dksX0_divisor_0 15 rfl rfl)
abbrev cX0_then : ByteArray := prog_1_method_40_code
def yX0_then : MethodName := ⟨RX0, "then", "(II)I"⟩
def dkwX0_then_1 : List UInt8 := [154, 0, 6, 16, 254, 172, 42, 180, 0, 149, 27, 28, 28, 42, 180, 0, 149, 180, 1, 84, 182, 1, 87, 172]
abbrev dktX0_then_1 : List UInt8 := dkwX0_then_1 ++ []
def dkwX0_then_0 : List UInt8 := [42, 27, 182, 0, 212, 153, 0, 20, 28, 133, 9, 42, 180, 0, 149, 180, 1, 1, 133, 184, 0, 193]
abbrev dktX0_then_0 : List UInt8 := dkwX0_then_0 ++ dktX0_then_1
theorem dksX0_then_0 : cX0_then.data.toList.drop 0 = dktX0_then_0 := by decide +kernel
theorem dksX0_then_1 : cX0_then.data.toList.drop 22 = dktX0_then_1 := dk_seg dksX0_then_0 22 rfl rfl
theorem dX0_then_0 : decode cX0_then 0 = .ok (.aload_n 0, 1) := dk_42 (dk_at dksX0_then_0 0 rfl rfl)
theorem dX0_then_1 : decode cX0_then 1 = .ok (.iload_n 1, 1) := dk_27 (dk_at dksX0_then_0 1 rfl rfl)
theorem dX0_then_2 : decode cX0_then 2 = .ok (.invokevirtual 212, 3) := dk_182 0 212 (dk_at dksX0_then_0 2 rfl rfl)
theorem dX0_then_5 : decode cX0_then 5 = .ok (.ifCond .eq 20, 3) := dk_153 0 20 (dk_at dksX0_then_0 5 rfl rfl)
theorem dX0_then_8 : decode cX0_then 8 = .ok (.iload_n 2, 1) := dk_28 (dk_at dksX0_then_0 8 rfl rfl)
theorem dX0_then_9 : decode cX0_then 9 = .ok (.i2l, 1) := dk_133 (dk_at dksX0_then_0 9 rfl rfl)
theorem dX0_then_10 : decode cX0_then 10 = .ok (.lconst 0, 1) := dk_9 (dk_at dksX0_then_0 10 rfl rfl)
theorem dX0_then_11 : decode cX0_then 11 = .ok (.aload_n 0, 1) := dk_42 (dk_at dksX0_then_0 11 rfl rfl)
theorem dX0_then_12 : decode cX0_then 12 = .ok (.getfield 149, 3) := dk_180 0 149 (dk_at dksX0_then_0 12 rfl rfl)
theorem dX0_then_15 : decode cX0_then 15 = .ok (.getfield 257, 3) := dk_180 1 1 (dk_at dksX0_then_0 15 rfl rfl)
theorem dX0_then_18 : decode cX0_then 18 = .ok (.i2l, 1) := dk_133 (dk_at dksX0_then_0 18 rfl rfl)
theorem dX0_then_19 : decode cX0_then 19 = .ok (.invokestatic 193, 3) := dk_184 0 193 (dk_at dksX0_then_0 19 rfl rfl)
theorem dX0_then_22 : decode cX0_then 22 = .ok (.ifCond .ne 6, 3) := dk_154 0 6 (dk_at dksX0_then_1 0 rfl rfl)
theorem dX0_then_25 : decode cX0_then 25 = .ok (.bipush (-2), 2) := dk_16 254 (dk_at dksX0_then_1 3 rfl rfl)
theorem dX0_then_27 : decode cX0_then 27 = .ok (.ireturn, 1) := dk_172 (dk_at dksX0_then_1 5 rfl rfl)
theorem dX0_then_28 : decode cX0_then 28 = .ok (.aload_n 0, 1) := dk_42 (dk_at dksX0_then_1 6 rfl rfl)
theorem dX0_then_29 : decode cX0_then 29 = .ok (.getfield 149, 3) := dk_180 0 149 (dk_at dksX0_then_1 7 rfl rfl)
theorem dX0_then_32 : decode cX0_then 32 = .ok (.iload_n 1, 1) := dk_27 (dk_at dksX0_then_1 10 rfl rfl)
theorem dX0_then_33 : decode cX0_then 33 = .ok (.iload_n 2, 1) := dk_28 (dk_at dksX0_then_1 11 rfl rfl)
theorem dX0_then_34 : decode cX0_then 34 = .ok (.iload_n 2, 1) := dk_28 (dk_at dksX0_then_1 12 rfl rfl)
theorem dX0_then_35 : decode cX0_then 35 = .ok (.aload_n 0, 1) := dk_42 (dk_at dksX0_then_1 13 rfl rfl)
theorem dX0_then_36 : decode cX0_then 36 = .ok (.getfield 149, 3) := dk_180 0 149 (dk_at dksX0_then_1 14 rfl rfl)
theorem dX0_then_39 : decode cX0_then 39 = .ok (.getfield 340, 3) := dk_180 1 84 (dk_at dksX0_then_1 17 rfl rfl)
theorem dX0_then_42 : decode cX0_then 42 = .ok (.invokevirtual 343, 3) := dk_182 1 87 (dk_at dksX0_then_1 20 rfl rfl)
theorem dX0_then_45 : decode cX0_then 45 = .ok (.ireturn, 1) := dk_172 (dk_at dksX0_then_1 23 rfl rfl)
abbrev cX0_byPart : ByteArray := prog_1_method_41_code
def yX0_byPart : MethodName := ⟨RX0, "byPart", "(II)I"⟩
def dkwX0_byPart_1 : List UInt8 := [180, 0, 149, 27, 42, 180, 0, 149, 180, 1, 1, 19, 1, 91, 28, 182, 1, 87, 172]
abbrev dktX0_byPart_1 : List UInt8 := dkwX0_byPart_1 ++ []
def dkwX0_byPart_0 : List UInt8 := [42, 27, 182, 0, 212, 153, 0, 15, 28, 133, 10, 20, 1, 24, 184, 0, 193, 154, 0, 6, 16, 254, 172, 42]
abbrev dktX0_byPart_0 : List UInt8 := dkwX0_byPart_0 ++ dktX0_byPart_1
theorem dksX0_byPart_0 : cX0_byPart.data.toList.drop 0 = dktX0_byPart_0 := by decide +kernel
theorem dksX0_byPart_1 : cX0_byPart.data.toList.drop 24 = dktX0_byPart_1 := dk_seg dksX0_byPart_0 24 rfl rfl
theorem dX0_byPart_0 : decode cX0_byPart 0 = .ok (.aload_n 0, 1) := dk_42 (dk_at dksX0_byPart_0 0 rfl rfl)
theorem dX0_byPart_1 : decode cX0_byPart 1 = .ok (.iload_n 1, 1) := dk_27 (dk_at dksX0_byPart_0 1 rfl rfl)
theorem dX0_byPart_2 : decode cX0_byPart 2 = .ok (.invokevirtual 212, 3) := dk_182 0 212 (dk_at dksX0_byPart_0 2 rfl rfl)
theorem dX0_byPart_5 : decode cX0_byPart 5 = .ok (.ifCond .eq 15, 3) := dk_153 0 15 (dk_at dksX0_byPart_0 5 rfl rfl)
theorem dX0_byPart_8 : decode cX0_byPart 8 = .ok (.iload_n 2, 1) := dk_28 (dk_at dksX0_byPart_0 8 rfl rfl)
theorem dX0_byPart_9 : decode cX0_byPart 9 = .ok (.i2l, 1) := dk_133 (dk_at dksX0_byPart_0 9 rfl rfl)
theorem dX0_byPart_10 : decode cX0_byPart 10 = .ok (.lconst 1, 1) := dk_10 (dk_at dksX0_byPart_0 10 rfl rfl)
theorem dX0_byPart_11 : decode cX0_byPart 11 = .ok (.ldc2_w 280, 3) := dk_20 1 24 (dk_at dksX0_byPart_0 11 rfl rfl)
theorem dX0_byPart_14 : decode cX0_byPart 14 = .ok (.invokestatic 193, 3) := dk_184 0 193 (dk_at dksX0_byPart_0 14 rfl rfl)
theorem dX0_byPart_17 : decode cX0_byPart 17 = .ok (.ifCond .ne 6, 3) := dk_154 0 6 (dk_at dksX0_byPart_0 17 rfl rfl)
theorem dX0_byPart_20 : decode cX0_byPart 20 = .ok (.bipush (-2), 2) := dk_16 254 (dk_at dksX0_byPart_0 20 rfl rfl)
theorem dX0_byPart_22 : decode cX0_byPart 22 = .ok (.ireturn, 1) := dk_172 (dk_at dksX0_byPart_0 22 rfl rfl)
theorem dX0_byPart_23 : decode cX0_byPart 23 = .ok (.aload_n 0, 1) := dk_42 (dk_at dksX0_byPart_0 23 rfl rfl)
theorem dX0_byPart_24 : decode cX0_byPart 24 = .ok (.getfield 149, 3) := dk_180 0 149 (dk_at dksX0_byPart_1 0 rfl rfl)
theorem dX0_byPart_27 : decode cX0_byPart 27 = .ok (.iload_n 1, 1) := dk_27 (dk_at dksX0_byPart_1 3 rfl rfl)
theorem dX0_byPart_28 : decode cX0_byPart 28 = .ok (.aload_n 0, 1) := dk_42 (dk_at dksX0_byPart_1 4 rfl rfl)
theorem dX0_byPart_29 : decode cX0_byPart 29 = .ok (.getfield 149, 3) := dk_180 0 149 (dk_at dksX0_byPart_1 5 rfl rfl)
theorem dX0_byPart_32 : decode cX0_byPart 32 = .ok (.getfield 257, 3) := dk_180 1 1 (dk_at dksX0_byPart_1 8 rfl rfl)
theorem dX0_byPart_35 : decode cX0_byPart 35 = .ok (.ldc_w 347, 3) := dk_19 1 91 (dk_at dksX0_byPart_1 11 rfl rfl)
theorem dX0_byPart_38 : decode cX0_byPart 38 = .ok (.iload_n 2, 1) := dk_28 (dk_at dksX0_byPart_1 14 rfl rfl)
theorem dX0_byPart_39 : decode cX0_byPart 39 = .ok (.invokevirtual 343, 3) := dk_182 1 87 (dk_at dksX0_byPart_1 15 rfl rfl)
theorem dX0_byPart_42 : decode cX0_byPart 42 = .ok (.ireturn, 1) := dk_172 (dk_at dksX0_byPart_1 18 rfl rfl)
abbrev cX0_one : ByteArray := prog_1_method_42_code
def yX0_one : MethodName := ⟨RX0, "one", "()I"⟩
def dkwX0_one_2 : List UInt8 := [180, 0, 31, 182, 1, 10, 87, 132, 2, 1, 167, 255, 222, 16, 254, 172]
abbrev dktX0_one_2 : List UInt8 := dkwX0_one_2 ++ []
def dkwX0_one_1 : List UInt8 := [16, 100, 162, 0, 34, 43, 182, 1, 92, 153, 0, 8, 43, 180, 1, 1, 172, 43, 42, 182, 1, 7, 42]
abbrev dktX0_one_1 : List UInt8 := dkwX0_one_1 ++ dktX0_one_2
def dkwX0_one_0 : List UInt8 := [42, 180, 0, 149, 199, 0, 5, 2, 172, 42, 180, 0, 18, 42, 180, 0, 149, 182, 0, 145, 76, 3, 61, 28]
abbrev dktX0_one_0 : List UInt8 := dkwX0_one_0 ++ dktX0_one_1
theorem dksX0_one_0 : cX0_one.data.toList.drop 0 = dktX0_one_0 := by decide +kernel
theorem dksX0_one_1 : cX0_one.data.toList.drop 24 = dktX0_one_1 := dk_seg dksX0_one_0 24 rfl rfl
theorem dksX0_one_2 : cX0_one.data.toList.drop 47 = dktX0_one_2 := dk_seg dksX0_one_1 23 rfl rfl
theorem dX0_one_0 : decode cX0_one 0 = .ok (.aload_n 0, 1) := dk_42 (dk_at dksX0_one_0 0 rfl rfl)
theorem dX0_one_1 : decode cX0_one 1 = .ok (.getfield 149, 3) := dk_180 0 149 (dk_at dksX0_one_0 1 rfl rfl)
theorem dX0_one_4 : decode cX0_one 4 = .ok (.ifnonnull 5, 3) := dk_199 0 5 (dk_at dksX0_one_0 4 rfl rfl)
theorem dX0_one_7 : decode cX0_one 7 = .ok (.iconst (-1), 1) := dk_2 (dk_at dksX0_one_0 7 rfl rfl)
theorem dX0_one_8 : decode cX0_one 8 = .ok (.ireturn, 1) := dk_172 (dk_at dksX0_one_0 8 rfl rfl)
theorem dX0_one_9 : decode cX0_one 9 = .ok (.aload_n 0, 1) := dk_42 (dk_at dksX0_one_0 9 rfl rfl)
theorem dX0_one_10 : decode cX0_one 10 = .ok (.getfield 18, 3) := dk_180 0 18 (dk_at dksX0_one_0 10 rfl rfl)
theorem dX0_one_13 : decode cX0_one 13 = .ok (.aload_n 0, 1) := dk_42 (dk_at dksX0_one_0 13 rfl rfl)
theorem dX0_one_14 : decode cX0_one 14 = .ok (.getfield 149, 3) := dk_180 0 149 (dk_at dksX0_one_0 14 rfl rfl)
theorem dX0_one_17 : decode cX0_one 17 = .ok (.invokevirtual 145, 3) := dk_182 0 145 (dk_at dksX0_one_0 17 rfl rfl)
theorem dX0_one_20 : decode cX0_one 20 = .ok (.astore_n 1, 1) := dk_76 (dk_at dksX0_one_0 20 rfl rfl)
theorem dX0_one_21 : decode cX0_one 21 = .ok (.iconst 0, 1) := dk_3 (dk_at dksX0_one_0 21 rfl rfl)
theorem dX0_one_22 : decode cX0_one 22 = .ok (.istore_n 2, 1) := dk_61 (dk_at dksX0_one_0 22 rfl rfl)
theorem dX0_one_23 : decode cX0_one 23 = .ok (.iload_n 2, 1) := dk_28 (dk_at dksX0_one_0 23 rfl rfl)
theorem dX0_one_24 : decode cX0_one 24 = .ok (.bipush 100, 2) := dk_16 100 (dk_at dksX0_one_1 0 rfl rfl)
theorem dX0_one_26 : decode cX0_one 26 = .ok (.if_icmp .ge 34, 3) := dk_162 0 34 (dk_at dksX0_one_1 2 rfl rfl)
theorem dX0_one_29 : decode cX0_one 29 = .ok (.aload_n 1, 1) := dk_43 (dk_at dksX0_one_1 5 rfl rfl)
theorem dX0_one_30 : decode cX0_one 30 = .ok (.invokevirtual 348, 3) := dk_182 1 92 (dk_at dksX0_one_1 6 rfl rfl)
theorem dX0_one_33 : decode cX0_one 33 = .ok (.ifCond .eq 8, 3) := dk_153 0 8 (dk_at dksX0_one_1 9 rfl rfl)
theorem dX0_one_36 : decode cX0_one 36 = .ok (.aload_n 1, 1) := dk_43 (dk_at dksX0_one_1 12 rfl rfl)
theorem dX0_one_37 : decode cX0_one 37 = .ok (.getfield 257, 3) := dk_180 1 1 (dk_at dksX0_one_1 13 rfl rfl)
theorem dX0_one_40 : decode cX0_one 40 = .ok (.ireturn, 1) := dk_172 (dk_at dksX0_one_1 16 rfl rfl)
theorem dX0_one_41 : decode cX0_one 41 = .ok (.aload_n 1, 1) := dk_43 (dk_at dksX0_one_1 17 rfl rfl)
theorem dX0_one_42 : decode cX0_one 42 = .ok (.aload_n 0, 1) := dk_42 (dk_at dksX0_one_1 18 rfl rfl)
theorem dX0_one_43 : decode cX0_one 43 = .ok (.invokevirtual 263, 3) := dk_182 1 7 (dk_at dksX0_one_1 19 rfl rfl)
theorem dX0_one_46 : decode cX0_one 46 = .ok (.aload_n 0, 1) := dk_42 (dk_at dksX0_one_1 22 rfl rfl)
theorem dX0_one_47 : decode cX0_one 47 = .ok (.getfield 31, 3) := dk_180 0 31 (dk_at dksX0_one_2 0 rfl rfl)
theorem dX0_one_50 : decode cX0_one 50 = .ok (.invokevirtual 266, 3) := dk_182 1 10 (dk_at dksX0_one_2 3 rfl rfl)
theorem dX0_one_53 : decode cX0_one 53 = .ok (.pop, 1) := dk_87 (dk_at dksX0_one_2 6 rfl rfl)
theorem dX0_one_54 : decode cX0_one 54 = .ok (.iinc 2 1, 3) := dk_132 2 1 (dk_at dksX0_one_2 7 rfl rfl)
theorem dX0_one_57 : decode cX0_one 57 = .ok (.goto (-34), 3) := dk_167 255 222 (dk_at dksX0_one_2 10 rfl rfl)
theorem dX0_one_60 : decode cX0_one 60 = .ok (.bipush (-2), 2) := dk_16 254 (dk_at dksX0_one_2 13 rfl rfl)
theorem dX0_one_62 : decode cX0_one 62 = .ok (.ireturn, 1) := dk_172 (dk_at dksX0_one_2 15 rfl rfl)
abbrev cX0_log : ByteArray := prog_1_method_43_code
def yX0_log : MethodName := ⟨RX0, "log", "(III)I"⟩
def dkwX0_log_5 : List UInt8 := [180, 0, 149, 89, 180, 1, 96, 4, 96, 181, 1, 96, 42, 180, 0, 149, 180, 1, 96, 172]
abbrev dktX0_log_5 : List UInt8 := dkwX0_log_5 ++ []
def dkwX0_log_4 : List UInt8 := [180, 1, 101, 21, 4, 4, 96, 28, 79, 42, 180, 0, 149, 180, 1, 101, 21, 4, 5, 96, 29, 79, 42]
abbrev dktX0_log_4 : List UInt8 := dkwX0_log_4 ++ dktX0_log_5
def dkwX0_log_3 : List UInt8 := [180, 0, 149, 180, 1, 96, 104, 54, 4, 42, 180, 0, 149, 180, 1, 101, 21, 4, 27, 79, 42, 180, 0, 149]
abbrev dktX0_log_3 : List UInt8 := dkwX0_log_3 ++ dktX0_log_4
def dkwX0_log_2 : List UInt8 := [29, 182, 0, 231, 153, 0, 15, 42, 180, 0, 149, 180, 1, 96, 16, 10, 160, 0, 6, 16, 254, 172, 6, 42]
abbrev dktX0_log_2 : List UInt8 := dkwX0_log_2 ++ dktX0_log_3
def dkwX0_log_1 : List UInt8 := [9, 20, 1, 99, 184, 0, 193, 153, 0, 36, 42, 28, 182, 0, 212, 153, 0, 28, 29, 2, 159, 0, 11, 42]
abbrev dktX0_log_1 : List UInt8 := dkwX0_log_1 ++ dktX0_log_2
def dkwX0_log_0 : List UInt8 := [27, 2, 160, 0, 20, 42, 180, 0, 149, 198, 0, 11, 42, 180, 0, 149, 3, 181, 1, 96, 3, 172, 27, 133]
abbrev dktX0_log_0 : List UInt8 := dkwX0_log_0 ++ dktX0_log_1
theorem dksX0_log_0 : cX0_log.data.toList.drop 0 = dktX0_log_0 := by decide +kernel
theorem dksX0_log_1 : cX0_log.data.toList.drop 24 = dktX0_log_1 := dk_seg dksX0_log_0 24 rfl rfl
theorem dksX0_log_2 : cX0_log.data.toList.drop 48 = dktX0_log_2 := dk_seg dksX0_log_1 24 rfl rfl
theorem dksX0_log_3 : cX0_log.data.toList.drop 72 = dktX0_log_3 := dk_seg dksX0_log_2 24 rfl rfl
theorem dksX0_log_4 : cX0_log.data.toList.drop 96 = dktX0_log_4 := dk_seg dksX0_log_3 24 rfl rfl
theorem dksX0_log_5 : cX0_log.data.toList.drop 119 = dktX0_log_5 := dk_seg dksX0_log_4 23 rfl rfl
theorem dX0_log_0 : decode cX0_log 0 = .ok (.iload_n 1, 1) := dk_27 (dk_at dksX0_log_0 0 rfl rfl)
theorem dX0_log_1 : decode cX0_log 1 = .ok (.iconst (-1), 1) := dk_2 (dk_at dksX0_log_0 1 rfl rfl)
theorem dX0_log_2 : decode cX0_log 2 = .ok (.if_icmp .ne 20, 3) := dk_160 0 20 (dk_at dksX0_log_0 2 rfl rfl)
theorem dX0_log_5 : decode cX0_log 5 = .ok (.aload_n 0, 1) := dk_42 (dk_at dksX0_log_0 5 rfl rfl)
theorem dX0_log_6 : decode cX0_log 6 = .ok (.getfield 149, 3) := dk_180 0 149 (dk_at dksX0_log_0 6 rfl rfl)
theorem dX0_log_9 : decode cX0_log 9 = .ok (.ifnull 11, 3) := dk_198 0 11 (dk_at dksX0_log_0 9 rfl rfl)
theorem dX0_log_12 : decode cX0_log 12 = .ok (.aload_n 0, 1) := dk_42 (dk_at dksX0_log_0 12 rfl rfl)
theorem dX0_log_13 : decode cX0_log 13 = .ok (.getfield 149, 3) := dk_180 0 149 (dk_at dksX0_log_0 13 rfl rfl)
theorem dX0_log_16 : decode cX0_log 16 = .ok (.iconst 0, 1) := dk_3 (dk_at dksX0_log_0 16 rfl rfl)
theorem dX0_log_17 : decode cX0_log 17 = .ok (.putfield 352, 3) := dk_181 1 96 (dk_at dksX0_log_0 17 rfl rfl)
theorem dX0_log_20 : decode cX0_log 20 = .ok (.iconst 0, 1) := dk_3 (dk_at dksX0_log_0 20 rfl rfl)
theorem dX0_log_21 : decode cX0_log 21 = .ok (.ireturn, 1) := dk_172 (dk_at dksX0_log_0 21 rfl rfl)
theorem dX0_log_22 : decode cX0_log 22 = .ok (.iload_n 1, 1) := dk_27 (dk_at dksX0_log_0 22 rfl rfl)
theorem dX0_log_23 : decode cX0_log 23 = .ok (.i2l, 1) := dk_133 (dk_at dksX0_log_0 23 rfl rfl)
theorem dX0_log_24 : decode cX0_log 24 = .ok (.lconst 0, 1) := dk_9 (dk_at dksX0_log_1 0 rfl rfl)
theorem dX0_log_25 : decode cX0_log 25 = .ok (.ldc2_w 355, 3) := dk_20 1 99 (dk_at dksX0_log_1 1 rfl rfl)
theorem dX0_log_28 : decode cX0_log 28 = .ok (.invokestatic 193, 3) := dk_184 0 193 (dk_at dksX0_log_1 4 rfl rfl)
theorem dX0_log_31 : decode cX0_log 31 = .ok (.ifCond .eq 36, 3) := dk_153 0 36 (dk_at dksX0_log_1 7 rfl rfl)
theorem dX0_log_34 : decode cX0_log 34 = .ok (.aload_n 0, 1) := dk_42 (dk_at dksX0_log_1 10 rfl rfl)
theorem dX0_log_35 : decode cX0_log 35 = .ok (.iload_n 2, 1) := dk_28 (dk_at dksX0_log_1 11 rfl rfl)
theorem dX0_log_36 : decode cX0_log 36 = .ok (.invokevirtual 212, 3) := dk_182 0 212 (dk_at dksX0_log_1 12 rfl rfl)
theorem dX0_log_39 : decode cX0_log 39 = .ok (.ifCond .eq 28, 3) := dk_153 0 28 (dk_at dksX0_log_1 15 rfl rfl)
theorem dX0_log_42 : decode cX0_log 42 = .ok (.iload_n 3, 1) := dk_29 (dk_at dksX0_log_1 18 rfl rfl)
theorem dX0_log_43 : decode cX0_log 43 = .ok (.iconst (-1), 1) := dk_2 (dk_at dksX0_log_1 19 rfl rfl)
theorem dX0_log_44 : decode cX0_log 44 = .ok (.if_icmp .eq 11, 3) := dk_159 0 11 (dk_at dksX0_log_1 20 rfl rfl)
theorem dX0_log_47 : decode cX0_log 47 = .ok (.aload_n 0, 1) := dk_42 (dk_at dksX0_log_1 23 rfl rfl)
theorem dX0_log_48 : decode cX0_log 48 = .ok (.iload_n 3, 1) := dk_29 (dk_at dksX0_log_2 0 rfl rfl)
theorem dX0_log_49 : decode cX0_log 49 = .ok (.invokevirtual 231, 3) := dk_182 0 231 (dk_at dksX0_log_2 1 rfl rfl)
theorem dX0_log_52 : decode cX0_log 52 = .ok (.ifCond .eq 15, 3) := dk_153 0 15 (dk_at dksX0_log_2 4 rfl rfl)
theorem dX0_log_55 : decode cX0_log 55 = .ok (.aload_n 0, 1) := dk_42 (dk_at dksX0_log_2 7 rfl rfl)
theorem dX0_log_56 : decode cX0_log 56 = .ok (.getfield 149, 3) := dk_180 0 149 (dk_at dksX0_log_2 8 rfl rfl)
theorem dX0_log_59 : decode cX0_log 59 = .ok (.getfield 352, 3) := dk_180 1 96 (dk_at dksX0_log_2 11 rfl rfl)
theorem dX0_log_62 : decode cX0_log 62 = .ok (.bipush 10, 2) := dk_16 10 (dk_at dksX0_log_2 14 rfl rfl)
theorem dX0_log_64 : decode cX0_log 64 = .ok (.if_icmp .ne 6, 3) := dk_160 0 6 (dk_at dksX0_log_2 16 rfl rfl)
theorem dX0_log_67 : decode cX0_log 67 = .ok (.bipush (-2), 2) := dk_16 254 (dk_at dksX0_log_2 19 rfl rfl)
theorem dX0_log_69 : decode cX0_log 69 = .ok (.ireturn, 1) := dk_172 (dk_at dksX0_log_2 21 rfl rfl)
theorem dX0_log_70 : decode cX0_log 70 = .ok (.iconst 3, 1) := dk_6 (dk_at dksX0_log_2 22 rfl rfl)
theorem dX0_log_71 : decode cX0_log 71 = .ok (.aload_n 0, 1) := dk_42 (dk_at dksX0_log_2 23 rfl rfl)
theorem dX0_log_72 : decode cX0_log 72 = .ok (.getfield 149, 3) := dk_180 0 149 (dk_at dksX0_log_3 0 rfl rfl)
theorem dX0_log_75 : decode cX0_log 75 = .ok (.getfield 352, 3) := dk_180 1 96 (dk_at dksX0_log_3 3 rfl rfl)
theorem dX0_log_78 : decode cX0_log 78 = .ok (.imul, 1) := dk_104 (dk_at dksX0_log_3 6 rfl rfl)
theorem dX0_log_79 : decode cX0_log 79 = .ok (.istore 4, 2) := dk_54 4 (dk_at dksX0_log_3 7 rfl rfl)
theorem dX0_log_81 : decode cX0_log 81 = .ok (.aload_n 0, 1) := dk_42 (dk_at dksX0_log_3 9 rfl rfl)
theorem dX0_log_82 : decode cX0_log 82 = .ok (.getfield 149, 3) := dk_180 0 149 (dk_at dksX0_log_3 10 rfl rfl)
theorem dX0_log_85 : decode cX0_log 85 = .ok (.getfield 357, 3) := dk_180 1 101 (dk_at dksX0_log_3 13 rfl rfl)
theorem dX0_log_88 : decode cX0_log 88 = .ok (.iload 4, 2) := dk_21 4 (dk_at dksX0_log_3 16 rfl rfl)
theorem dX0_log_90 : decode cX0_log 90 = .ok (.iload_n 1, 1) := dk_27 (dk_at dksX0_log_3 18 rfl rfl)
theorem dX0_log_91 : decode cX0_log 91 = .ok (.iastore, 1) := dk_79 (dk_at dksX0_log_3 19 rfl rfl)
theorem dX0_log_92 : decode cX0_log 92 = .ok (.aload_n 0, 1) := dk_42 (dk_at dksX0_log_3 20 rfl rfl)
theorem dX0_log_93 : decode cX0_log 93 = .ok (.getfield 149, 3) := dk_180 0 149 (dk_at dksX0_log_3 21 rfl rfl)
theorem dX0_log_96 : decode cX0_log 96 = .ok (.getfield 357, 3) := dk_180 1 101 (dk_at dksX0_log_4 0 rfl rfl)
theorem dX0_log_99 : decode cX0_log 99 = .ok (.iload 4, 2) := dk_21 4 (dk_at dksX0_log_4 3 rfl rfl)
theorem dX0_log_101 : decode cX0_log 101 = .ok (.iconst 1, 1) := dk_4 (dk_at dksX0_log_4 5 rfl rfl)
theorem dX0_log_102 : decode cX0_log 102 = .ok (.iadd, 1) := dk_96 (dk_at dksX0_log_4 6 rfl rfl)
theorem dX0_log_103 : decode cX0_log 103 = .ok (.iload_n 2, 1) := dk_28 (dk_at dksX0_log_4 7 rfl rfl)
theorem dX0_log_104 : decode cX0_log 104 = .ok (.iastore, 1) := dk_79 (dk_at dksX0_log_4 8 rfl rfl)
theorem dX0_log_105 : decode cX0_log 105 = .ok (.aload_n 0, 1) := dk_42 (dk_at dksX0_log_4 9 rfl rfl)
theorem dX0_log_106 : decode cX0_log 106 = .ok (.getfield 149, 3) := dk_180 0 149 (dk_at dksX0_log_4 10 rfl rfl)
theorem dX0_log_109 : decode cX0_log 109 = .ok (.getfield 357, 3) := dk_180 1 101 (dk_at dksX0_log_4 13 rfl rfl)
theorem dX0_log_112 : decode cX0_log 112 = .ok (.iload 4, 2) := dk_21 4 (dk_at dksX0_log_4 16 rfl rfl)
theorem dX0_log_114 : decode cX0_log 114 = .ok (.iconst 2, 1) := dk_5 (dk_at dksX0_log_4 18 rfl rfl)
theorem dX0_log_115 : decode cX0_log 115 = .ok (.iadd, 1) := dk_96 (dk_at dksX0_log_4 19 rfl rfl)
theorem dX0_log_116 : decode cX0_log 116 = .ok (.iload_n 3, 1) := dk_29 (dk_at dksX0_log_4 20 rfl rfl)
theorem dX0_log_117 : decode cX0_log 117 = .ok (.iastore, 1) := dk_79 (dk_at dksX0_log_4 21 rfl rfl)
theorem dX0_log_118 : decode cX0_log 118 = .ok (.aload_n 0, 1) := dk_42 (dk_at dksX0_log_4 22 rfl rfl)
theorem dX0_log_119 : decode cX0_log 119 = .ok (.getfield 149, 3) := dk_180 0 149 (dk_at dksX0_log_5 0 rfl rfl)
theorem dX0_log_122 : decode cX0_log 122 = .ok (.dup, 1) := dk_89 (dk_at dksX0_log_5 3 rfl rfl)
theorem dX0_log_123 : decode cX0_log 123 = .ok (.getfield 352, 3) := dk_180 1 96 (dk_at dksX0_log_5 4 rfl rfl)
theorem dX0_log_126 : decode cX0_log 126 = .ok (.iconst 1, 1) := dk_4 (dk_at dksX0_log_5 7 rfl rfl)
theorem dX0_log_127 : decode cX0_log 127 = .ok (.iadd, 1) := dk_96 (dk_at dksX0_log_5 8 rfl rfl)
theorem dX0_log_128 : decode cX0_log 128 = .ok (.putfield 352, 3) := dk_181 1 96 (dk_at dksX0_log_5 9 rfl rfl)
theorem dX0_log_131 : decode cX0_log 131 = .ok (.aload_n 0, 1) := dk_42 (dk_at dksX0_log_5 12 rfl rfl)
theorem dX0_log_132 : decode cX0_log 132 = .ok (.getfield 149, 3) := dk_180 0 149 (dk_at dksX0_log_5 13 rfl rfl)
theorem dX0_log_135 : decode cX0_log 135 = .ok (.getfield 352, 3) := dk_180 1 96 (dk_at dksX0_log_5 16 rfl rfl)
theorem dX0_log_138 : decode cX0_log 138 = .ok (.ireturn, 1) := dk_172 (dk_at dksX0_log_5 19 rfl rfl)
abbrev cX0_ruled : ByteArray := prog_1_method_46_code
def yX0_ruled : MethodName := ⟨RX0, "ruled", "(I)I"⟩
def dkwX0_ruled_3 : List UInt8 := [154, 0, 7, 28, 167, 0, 4, 29, 172]
abbrev dktX0_ruled_3 : List UInt8 := dkwX0_ruled_3 ++ []
def dkwX0_ruled_2 : List UInt8 := [21, 4, 51, 154, 0, 6, 167, 0, 11, 132, 2, 1, 21, 4, 4, 100, 62, 132, 4, 255, 167, 255, 227, 27]
abbrev dktX0_ruled_2 : List UInt8 := dkwX0_ruled_2 ++ dktX0_ruled_3
def dkwX0_ruled_1 : List UInt8 := [182, 1, 111, 3, 61, 16, 254, 62, 42, 180, 0, 159, 54, 4, 21, 4, 155, 0, 30, 42, 180, 0, 110]
abbrev dktX0_ruled_1 : List UInt8 := dkwX0_ruled_1 ++ dktX0_ruled_2
def dkwX0_ruled_0 : List UInt8 := [42, 180, 0, 149, 198, 0, 13, 27, 133, 9, 10, 184, 0, 193, 154, 0, 6, 16, 253, 172, 42, 3]
abbrev dktX0_ruled_0 : List UInt8 := dkwX0_ruled_0 ++ dktX0_ruled_1
theorem dksX0_ruled_0 : cX0_ruled.data.toList.drop 0 = dktX0_ruled_0 := by decide +kernel
theorem dksX0_ruled_1 : cX0_ruled.data.toList.drop 22 = dktX0_ruled_1 := dk_seg dksX0_ruled_0 22 rfl rfl
theorem dksX0_ruled_2 : cX0_ruled.data.toList.drop 45 = dktX0_ruled_2 := dk_seg dksX0_ruled_1 23 rfl rfl
theorem dksX0_ruled_3 : cX0_ruled.data.toList.drop 69 = dktX0_ruled_3 := dk_seg dksX0_ruled_2 24 rfl rfl
theorem dX0_ruled_0 : decode cX0_ruled 0 = .ok (.aload_n 0, 1) := dk_42 (dk_at dksX0_ruled_0 0 rfl rfl)
theorem dX0_ruled_1 : decode cX0_ruled 1 = .ok (.getfield 149, 3) := dk_180 0 149 (dk_at dksX0_ruled_0 1 rfl rfl)
theorem dX0_ruled_4 : decode cX0_ruled 4 = .ok (.ifnull 13, 3) := dk_198 0 13 (dk_at dksX0_ruled_0 4 rfl rfl)
theorem dX0_ruled_7 : decode cX0_ruled 7 = .ok (.iload_n 1, 1) := dk_27 (dk_at dksX0_ruled_0 7 rfl rfl)
theorem dX0_ruled_8 : decode cX0_ruled 8 = .ok (.i2l, 1) := dk_133 (dk_at dksX0_ruled_0 8 rfl rfl)
theorem dX0_ruled_9 : decode cX0_ruled 9 = .ok (.lconst 0, 1) := dk_9 (dk_at dksX0_ruled_0 9 rfl rfl)
theorem dX0_ruled_10 : decode cX0_ruled 10 = .ok (.lconst 1, 1) := dk_10 (dk_at dksX0_ruled_0 10 rfl rfl)
theorem dX0_ruled_11 : decode cX0_ruled 11 = .ok (.invokestatic 193, 3) := dk_184 0 193 (dk_at dksX0_ruled_0 11 rfl rfl)
theorem dX0_ruled_14 : decode cX0_ruled 14 = .ok (.ifCond .ne 6, 3) := dk_154 0 6 (dk_at dksX0_ruled_0 14 rfl rfl)
theorem dX0_ruled_17 : decode cX0_ruled 17 = .ok (.bipush (-3), 2) := dk_16 253 (dk_at dksX0_ruled_0 17 rfl rfl)
theorem dX0_ruled_19 : decode cX0_ruled 19 = .ok (.ireturn, 1) := dk_172 (dk_at dksX0_ruled_0 19 rfl rfl)
theorem dX0_ruled_20 : decode cX0_ruled 20 = .ok (.aload_n 0, 1) := dk_42 (dk_at dksX0_ruled_0 20 rfl rfl)
theorem dX0_ruled_21 : decode cX0_ruled 21 = .ok (.iconst 0, 1) := dk_3 (dk_at dksX0_ruled_0 21 rfl rfl)
theorem dX0_ruled_22 : decode cX0_ruled 22 = .ok (.invokevirtual 367, 3) := dk_182 1 111 (dk_at dksX0_ruled_1 0 rfl rfl)
theorem dX0_ruled_25 : decode cX0_ruled 25 = .ok (.iconst 0, 1) := dk_3 (dk_at dksX0_ruled_1 3 rfl rfl)
theorem dX0_ruled_26 : decode cX0_ruled 26 = .ok (.istore_n 2, 1) := dk_61 (dk_at dksX0_ruled_1 4 rfl rfl)
theorem dX0_ruled_27 : decode cX0_ruled 27 = .ok (.bipush (-2), 2) := dk_16 254 (dk_at dksX0_ruled_1 5 rfl rfl)
theorem dX0_ruled_29 : decode cX0_ruled 29 = .ok (.istore_n 3, 1) := dk_62 (dk_at dksX0_ruled_1 7 rfl rfl)
theorem dX0_ruled_30 : decode cX0_ruled 30 = .ok (.aload_n 0, 1) := dk_42 (dk_at dksX0_ruled_1 8 rfl rfl)
theorem dX0_ruled_31 : decode cX0_ruled 31 = .ok (.getfield 159, 3) := dk_180 0 159 (dk_at dksX0_ruled_1 9 rfl rfl)
theorem dX0_ruled_34 : decode cX0_ruled 34 = .ok (.istore 4, 2) := dk_54 4 (dk_at dksX0_ruled_1 12 rfl rfl)
theorem dX0_ruled_36 : decode cX0_ruled 36 = .ok (.iload 4, 2) := dk_21 4 (dk_at dksX0_ruled_1 14 rfl rfl)
theorem dX0_ruled_38 : decode cX0_ruled 38 = .ok (.ifCond .lt 30, 3) := dk_155 0 30 (dk_at dksX0_ruled_1 16 rfl rfl)
theorem dX0_ruled_41 : decode cX0_ruled 41 = .ok (.aload_n 0, 1) := dk_42 (dk_at dksX0_ruled_1 19 rfl rfl)
theorem dX0_ruled_42 : decode cX0_ruled 42 = .ok (.getfield 110, 3) := dk_180 0 110 (dk_at dksX0_ruled_1 20 rfl rfl)
theorem dX0_ruled_45 : decode cX0_ruled 45 = .ok (.iload 4, 2) := dk_21 4 (dk_at dksX0_ruled_2 0 rfl rfl)
theorem dX0_ruled_47 : decode cX0_ruled 47 = .ok (.baload, 1) := dk_51 (dk_at dksX0_ruled_2 2 rfl rfl)
theorem dX0_ruled_48 : decode cX0_ruled 48 = .ok (.ifCond .ne 6, 3) := dk_154 0 6 (dk_at dksX0_ruled_2 3 rfl rfl)
theorem dX0_ruled_51 : decode cX0_ruled 51 = .ok (.goto 11, 3) := dk_167 0 11 (dk_at dksX0_ruled_2 6 rfl rfl)
theorem dX0_ruled_54 : decode cX0_ruled 54 = .ok (.iinc 2 1, 3) := dk_132 2 1 (dk_at dksX0_ruled_2 9 rfl rfl)
theorem dX0_ruled_57 : decode cX0_ruled 57 = .ok (.iload 4, 2) := dk_21 4 (dk_at dksX0_ruled_2 12 rfl rfl)
theorem dX0_ruled_59 : decode cX0_ruled 59 = .ok (.iconst 1, 1) := dk_4 (dk_at dksX0_ruled_2 14 rfl rfl)
theorem dX0_ruled_60 : decode cX0_ruled 60 = .ok (.isub, 1) := dk_100 (dk_at dksX0_ruled_2 15 rfl rfl)
theorem dX0_ruled_61 : decode cX0_ruled 61 = .ok (.istore_n 3, 1) := dk_62 (dk_at dksX0_ruled_2 16 rfl rfl)
theorem dX0_ruled_62 : decode cX0_ruled 62 = .ok (.iinc 4 (-1), 3) := dk_132 4 255 (dk_at dksX0_ruled_2 17 rfl rfl)
theorem dX0_ruled_65 : decode cX0_ruled 65 = .ok (.goto (-29), 3) := dk_167 255 227 (dk_at dksX0_ruled_2 20 rfl rfl)
theorem dX0_ruled_68 : decode cX0_ruled 68 = .ok (.iload_n 1, 1) := dk_27 (dk_at dksX0_ruled_2 23 rfl rfl)
theorem dX0_ruled_69 : decode cX0_ruled 69 = .ok (.ifCond .ne 7, 3) := dk_154 0 7 (dk_at dksX0_ruled_3 0 rfl rfl)
theorem dX0_ruled_72 : decode cX0_ruled 72 = .ok (.iload_n 2, 1) := dk_28 (dk_at dksX0_ruled_3 3 rfl rfl)
theorem dX0_ruled_73 : decode cX0_ruled 73 = .ok (.goto 4, 3) := dk_167 0 4 (dk_at dksX0_ruled_3 4 rfl rfl)
theorem dX0_ruled_76 : decode cX0_ruled 76 = .ok (.iload_n 3, 1) := dk_29 (dk_at dksX0_ruled_3 7 rfl rfl)
theorem dX0_ruled_77 : decode cX0_ruled 77 = .ok (.ireturn, 1) := dk_172 (dk_at dksX0_ruled_3 8 rfl rfl)
abbrev cX0_gathersRules : ByteArray := prog_1_method_45_code
def yX0_gathersRules : MethodName := ⟨RX0, "gathersRules", "(I)V"⟩
def dkwX0_gathersRules_5 : List UInt8 := [182, 1, 10, 87, 132, 4, 1, 167, 255, 166, 132, 3, 1, 167, 255, 138, 177]
abbrev dktX0_gathersRules_5 : List UInt8 := dkwX0_gathersRules_5 ++ []
def dkwX0_gathersRules_4 : List UInt8 := [167, 255, 221, 44, 29, 154, 0, 7, 1, 167, 0, 11, 42, 180, 0, 100, 29, 4, 100, 50, 42, 180, 0, 31]
abbrev dktX0_gathersRules_4 : List UInt8 := dkwX0_gathersRules_4 ++ dktX0_gathersRules_5
def dkwX0_gathersRules_3 : List UInt8 := [27, 160, 0, 26, 42, 180, 0, 114, 7, 29, 104, 21, 5, 96, 44, 21, 5, 182, 0, 223, 79, 132, 5, 1]
abbrev dktX0_gathersRules_3 : List UInt8 := dkwX0_gathersRules_3 ++ dktX0_gathersRules_4
def dkwX0_gathersRules_2 : List UInt8 := [29, 92, 51, 42, 44, 182, 1, 107, 126, 84, 3, 54, 5, 21, 5, 44, 180, 0, 166, 162, 0, 32, 21, 4]
abbrev dktX0_gathersRules_2 : List UInt8 := dkwX0_gathersRules_2 ++ dktX0_gathersRules_3
def dkwX0_gathersRules_1 : List UInt8 := [182, 1, 104, 42, 180, 0, 110, 29, 4, 84, 3, 54, 4, 21, 4, 16, 100, 162, 0, 89, 42, 180, 0, 110]
abbrev dktX0_gathersRules_1 : List UInt8 := dkwX0_gathersRules_1 ++ dktX0_gathersRules_2
def dkwX0_gathersRules_0 : List UInt8 := [42, 180, 0, 18, 42, 180, 0, 149, 182, 0, 145, 77, 3, 62, 29, 42, 180, 0, 159, 163, 0, 116, 44]
abbrev dktX0_gathersRules_0 : List UInt8 := dkwX0_gathersRules_0 ++ dktX0_gathersRules_1
theorem dksX0_gathersRules_0 : cX0_gathersRules.data.toList.drop 0 = dktX0_gathersRules_0 := by decide +kernel
theorem dksX0_gathersRules_1 : cX0_gathersRules.data.toList.drop 23 = dktX0_gathersRules_1 := dk_seg dksX0_gathersRules_0 23 rfl rfl
theorem dksX0_gathersRules_2 : cX0_gathersRules.data.toList.drop 47 = dktX0_gathersRules_2 := dk_seg dksX0_gathersRules_1 24 rfl rfl
theorem dksX0_gathersRules_3 : cX0_gathersRules.data.toList.drop 71 = dktX0_gathersRules_3 := dk_seg dksX0_gathersRules_2 24 rfl rfl
theorem dksX0_gathersRules_4 : cX0_gathersRules.data.toList.drop 95 = dktX0_gathersRules_4 := dk_seg dksX0_gathersRules_3 24 rfl rfl
theorem dksX0_gathersRules_5 : cX0_gathersRules.data.toList.drop 119 = dktX0_gathersRules_5 := dk_seg dksX0_gathersRules_4 24 rfl rfl
theorem dX0_gathersRules_0 : decode cX0_gathersRules 0 = .ok (.aload_n 0, 1) := dk_42 (dk_at dksX0_gathersRules_0 0 rfl rfl)
theorem dX0_gathersRules_1 : decode cX0_gathersRules 1 = .ok (.getfield 18, 3) := dk_180 0 18 (dk_at dksX0_gathersRules_0 1 rfl rfl)
theorem dX0_gathersRules_4 : decode cX0_gathersRules 4 = .ok (.aload_n 0, 1) := dk_42 (dk_at dksX0_gathersRules_0 4 rfl rfl)
theorem dX0_gathersRules_5 : decode cX0_gathersRules 5 = .ok (.getfield 149, 3) := dk_180 0 149 (dk_at dksX0_gathersRules_0 5 rfl rfl)
theorem dX0_gathersRules_8 : decode cX0_gathersRules 8 = .ok (.invokevirtual 145, 3) := dk_182 0 145 (dk_at dksX0_gathersRules_0 8 rfl rfl)
theorem dX0_gathersRules_11 : decode cX0_gathersRules 11 = .ok (.astore_n 2, 1) := dk_77 (dk_at dksX0_gathersRules_0 11 rfl rfl)
theorem dX0_gathersRules_12 : decode cX0_gathersRules 12 = .ok (.iconst 0, 1) := dk_3 (dk_at dksX0_gathersRules_0 12 rfl rfl)
theorem dX0_gathersRules_13 : decode cX0_gathersRules 13 = .ok (.istore_n 3, 1) := dk_62 (dk_at dksX0_gathersRules_0 13 rfl rfl)
theorem dX0_gathersRules_14 : decode cX0_gathersRules 14 = .ok (.iload_n 3, 1) := dk_29 (dk_at dksX0_gathersRules_0 14 rfl rfl)
theorem dX0_gathersRules_15 : decode cX0_gathersRules 15 = .ok (.aload_n 0, 1) := dk_42 (dk_at dksX0_gathersRules_0 15 rfl rfl)
theorem dX0_gathersRules_16 : decode cX0_gathersRules 16 = .ok (.getfield 159, 3) := dk_180 0 159 (dk_at dksX0_gathersRules_0 16 rfl rfl)
theorem dX0_gathersRules_19 : decode cX0_gathersRules 19 = .ok (.if_icmp .gt 116, 3) := dk_163 0 116 (dk_at dksX0_gathersRules_0 19 rfl rfl)
theorem dX0_gathersRules_22 : decode cX0_gathersRules 22 = .ok (.aload_n 2, 1) := dk_44 (dk_at dksX0_gathersRules_0 22 rfl rfl)
theorem dX0_gathersRules_23 : decode cX0_gathersRules 23 = .ok (.invokevirtual 360, 3) := dk_182 1 104 (dk_at dksX0_gathersRules_1 0 rfl rfl)
theorem dX0_gathersRules_26 : decode cX0_gathersRules 26 = .ok (.aload_n 0, 1) := dk_42 (dk_at dksX0_gathersRules_1 3 rfl rfl)
theorem dX0_gathersRules_27 : decode cX0_gathersRules 27 = .ok (.getfield 110, 3) := dk_180 0 110 (dk_at dksX0_gathersRules_1 4 rfl rfl)
theorem dX0_gathersRules_30 : decode cX0_gathersRules 30 = .ok (.iload_n 3, 1) := dk_29 (dk_at dksX0_gathersRules_1 7 rfl rfl)
theorem dX0_gathersRules_31 : decode cX0_gathersRules 31 = .ok (.iconst 1, 1) := dk_4 (dk_at dksX0_gathersRules_1 8 rfl rfl)
theorem dX0_gathersRules_32 : decode cX0_gathersRules 32 = .ok (.bastore, 1) := dk_84 (dk_at dksX0_gathersRules_1 9 rfl rfl)
theorem dX0_gathersRules_33 : decode cX0_gathersRules 33 = .ok (.iconst 0, 1) := dk_3 (dk_at dksX0_gathersRules_1 10 rfl rfl)
theorem dX0_gathersRules_34 : decode cX0_gathersRules 34 = .ok (.istore 4, 2) := dk_54 4 (dk_at dksX0_gathersRules_1 11 rfl rfl)
theorem dX0_gathersRules_36 : decode cX0_gathersRules 36 = .ok (.iload 4, 2) := dk_21 4 (dk_at dksX0_gathersRules_1 13 rfl rfl)
theorem dX0_gathersRules_38 : decode cX0_gathersRules 38 = .ok (.bipush 100, 2) := dk_16 100 (dk_at dksX0_gathersRules_1 15 rfl rfl)
theorem dX0_gathersRules_40 : decode cX0_gathersRules 40 = .ok (.if_icmp .ge 89, 3) := dk_162 0 89 (dk_at dksX0_gathersRules_1 17 rfl rfl)
theorem dX0_gathersRules_43 : decode cX0_gathersRules 43 = .ok (.aload_n 0, 1) := dk_42 (dk_at dksX0_gathersRules_1 20 rfl rfl)
theorem dX0_gathersRules_44 : decode cX0_gathersRules 44 = .ok (.getfield 110, 3) := dk_180 0 110 (dk_at dksX0_gathersRules_1 21 rfl rfl)
theorem dX0_gathersRules_47 : decode cX0_gathersRules 47 = .ok (.iload_n 3, 1) := dk_29 (dk_at dksX0_gathersRules_2 0 rfl rfl)
theorem dX0_gathersRules_48 : decode cX0_gathersRules 48 = .ok (.dup2, 1) := dk_92 (dk_at dksX0_gathersRules_2 1 rfl rfl)
theorem dX0_gathersRules_49 : decode cX0_gathersRules 49 = .ok (.baload, 1) := dk_51 (dk_at dksX0_gathersRules_2 2 rfl rfl)
theorem dX0_gathersRules_50 : decode cX0_gathersRules 50 = .ok (.aload_n 0, 1) := dk_42 (dk_at dksX0_gathersRules_2 3 rfl rfl)
theorem dX0_gathersRules_51 : decode cX0_gathersRules 51 = .ok (.aload_n 2, 1) := dk_44 (dk_at dksX0_gathersRules_2 4 rfl rfl)
theorem dX0_gathersRules_52 : decode cX0_gathersRules 52 = .ok (.invokevirtual 363, 3) := dk_182 1 107 (dk_at dksX0_gathersRules_2 5 rfl rfl)
theorem dX0_gathersRules_55 : decode cX0_gathersRules 55 = .ok (.iand, 1) := dk_126 (dk_at dksX0_gathersRules_2 8 rfl rfl)
theorem dX0_gathersRules_56 : decode cX0_gathersRules 56 = .ok (.bastore, 1) := dk_84 (dk_at dksX0_gathersRules_2 9 rfl rfl)
theorem dX0_gathersRules_57 : decode cX0_gathersRules 57 = .ok (.iconst 0, 1) := dk_3 (dk_at dksX0_gathersRules_2 10 rfl rfl)
theorem dX0_gathersRules_58 : decode cX0_gathersRules 58 = .ok (.istore 5, 2) := dk_54 5 (dk_at dksX0_gathersRules_2 11 rfl rfl)
theorem dX0_gathersRules_60 : decode cX0_gathersRules 60 = .ok (.iload 5, 2) := dk_21 5 (dk_at dksX0_gathersRules_2 13 rfl rfl)
theorem dX0_gathersRules_62 : decode cX0_gathersRules 62 = .ok (.aload_n 2, 1) := dk_44 (dk_at dksX0_gathersRules_2 15 rfl rfl)
theorem dX0_gathersRules_63 : decode cX0_gathersRules 63 = .ok (.getfield 166, 3) := dk_180 0 166 (dk_at dksX0_gathersRules_2 16 rfl rfl)
theorem dX0_gathersRules_66 : decode cX0_gathersRules 66 = .ok (.if_icmp .ge 32, 3) := dk_162 0 32 (dk_at dksX0_gathersRules_2 19 rfl rfl)
theorem dX0_gathersRules_69 : decode cX0_gathersRules 69 = .ok (.iload 4, 2) := dk_21 4 (dk_at dksX0_gathersRules_2 22 rfl rfl)
theorem dX0_gathersRules_71 : decode cX0_gathersRules 71 = .ok (.iload_n 1, 1) := dk_27 (dk_at dksX0_gathersRules_3 0 rfl rfl)
theorem dX0_gathersRules_72 : decode cX0_gathersRules 72 = .ok (.if_icmp .ne 26, 3) := dk_160 0 26 (dk_at dksX0_gathersRules_3 1 rfl rfl)
theorem dX0_gathersRules_75 : decode cX0_gathersRules 75 = .ok (.aload_n 0, 1) := dk_42 (dk_at dksX0_gathersRules_3 4 rfl rfl)
theorem dX0_gathersRules_76 : decode cX0_gathersRules 76 = .ok (.getfield 114, 3) := dk_180 0 114 (dk_at dksX0_gathersRules_3 5 rfl rfl)
theorem dX0_gathersRules_79 : decode cX0_gathersRules 79 = .ok (.iconst 4, 1) := dk_7 (dk_at dksX0_gathersRules_3 8 rfl rfl)
theorem dX0_gathersRules_80 : decode cX0_gathersRules 80 = .ok (.iload_n 3, 1) := dk_29 (dk_at dksX0_gathersRules_3 9 rfl rfl)
theorem dX0_gathersRules_81 : decode cX0_gathersRules 81 = .ok (.imul, 1) := dk_104 (dk_at dksX0_gathersRules_3 10 rfl rfl)
theorem dX0_gathersRules_82 : decode cX0_gathersRules 82 = .ok (.iload 5, 2) := dk_21 5 (dk_at dksX0_gathersRules_3 11 rfl rfl)
theorem dX0_gathersRules_84 : decode cX0_gathersRules 84 = .ok (.iadd, 1) := dk_96 (dk_at dksX0_gathersRules_3 13 rfl rfl)
theorem dX0_gathersRules_85 : decode cX0_gathersRules 85 = .ok (.aload_n 2, 1) := dk_44 (dk_at dksX0_gathersRules_3 14 rfl rfl)
theorem dX0_gathersRules_86 : decode cX0_gathersRules 86 = .ok (.iload 5, 2) := dk_21 5 (dk_at dksX0_gathersRules_3 15 rfl rfl)
theorem dX0_gathersRules_88 : decode cX0_gathersRules 88 = .ok (.invokevirtual 223, 3) := dk_182 0 223 (dk_at dksX0_gathersRules_3 17 rfl rfl)
theorem dX0_gathersRules_91 : decode cX0_gathersRules 91 = .ok (.iastore, 1) := dk_79 (dk_at dksX0_gathersRules_3 20 rfl rfl)
theorem dX0_gathersRules_92 : decode cX0_gathersRules 92 = .ok (.iinc 5 1, 3) := dk_132 5 1 (dk_at dksX0_gathersRules_3 21 rfl rfl)
theorem dX0_gathersRules_95 : decode cX0_gathersRules 95 = .ok (.goto (-35), 3) := dk_167 255 221 (dk_at dksX0_gathersRules_4 0 rfl rfl)
theorem dX0_gathersRules_98 : decode cX0_gathersRules 98 = .ok (.aload_n 2, 1) := dk_44 (dk_at dksX0_gathersRules_4 3 rfl rfl)
theorem dX0_gathersRules_99 : decode cX0_gathersRules 99 = .ok (.iload_n 3, 1) := dk_29 (dk_at dksX0_gathersRules_4 4 rfl rfl)
theorem dX0_gathersRules_100 : decode cX0_gathersRules 100 = .ok (.ifCond .ne 7, 3) := dk_154 0 7 (dk_at dksX0_gathersRules_4 5 rfl rfl)
theorem dX0_gathersRules_103 : decode cX0_gathersRules 103 = .ok (.aconst_null, 1) := dk_1 (dk_at dksX0_gathersRules_4 8 rfl rfl)
theorem dX0_gathersRules_104 : decode cX0_gathersRules 104 = .ok (.goto 11, 3) := dk_167 0 11 (dk_at dksX0_gathersRules_4 9 rfl rfl)
theorem dX0_gathersRules_107 : decode cX0_gathersRules 107 = .ok (.aload_n 0, 1) := dk_42 (dk_at dksX0_gathersRules_4 12 rfl rfl)
theorem dX0_gathersRules_108 : decode cX0_gathersRules 108 = .ok (.getfield 100, 3) := dk_180 0 100 (dk_at dksX0_gathersRules_4 13 rfl rfl)
theorem dX0_gathersRules_111 : decode cX0_gathersRules 111 = .ok (.iload_n 3, 1) := dk_29 (dk_at dksX0_gathersRules_4 16 rfl rfl)
theorem dX0_gathersRules_112 : decode cX0_gathersRules 112 = .ok (.iconst 1, 1) := dk_4 (dk_at dksX0_gathersRules_4 17 rfl rfl)
theorem dX0_gathersRules_113 : decode cX0_gathersRules 113 = .ok (.isub, 1) := dk_100 (dk_at dksX0_gathersRules_4 18 rfl rfl)
theorem dX0_gathersRules_114 : decode cX0_gathersRules 114 = .ok (.aaload, 1) := dk_50 (dk_at dksX0_gathersRules_4 19 rfl rfl)
theorem dX0_gathersRules_115 : decode cX0_gathersRules 115 = .ok (.aload_n 0, 1) := dk_42 (dk_at dksX0_gathersRules_4 20 rfl rfl)
theorem dX0_gathersRules_116 : decode cX0_gathersRules 116 = .ok (.getfield 31, 3) := dk_180 0 31 (dk_at dksX0_gathersRules_4 21 rfl rfl)
theorem dX0_gathersRules_119 : decode cX0_gathersRules 119 = .ok (.invokevirtual 266, 3) := dk_182 1 10 (dk_at dksX0_gathersRules_5 0 rfl rfl)
theorem dX0_gathersRules_122 : decode cX0_gathersRules 122 = .ok (.pop, 1) := dk_87 (dk_at dksX0_gathersRules_5 3 rfl rfl)
theorem dX0_gathersRules_123 : decode cX0_gathersRules 123 = .ok (.iinc 4 1, 3) := dk_132 4 1 (dk_at dksX0_gathersRules_5 4 rfl rfl)
theorem dX0_gathersRules_126 : decode cX0_gathersRules 126 = .ok (.goto (-90), 3) := dk_167 255 166 (dk_at dksX0_gathersRules_5 7 rfl rfl)
theorem dX0_gathersRules_129 : decode cX0_gathersRules 129 = .ok (.iinc 3 1, 3) := dk_132 3 1 (dk_at dksX0_gathersRules_5 10 rfl rfl)
theorem dX0_gathersRules_132 : decode cX0_gathersRules 132 = .ok (.goto (-118), 3) := dk_167 255 138 (dk_at dksX0_gathersRules_5 13 rfl rfl)
theorem dX0_gathersRules_135 : decode cX0_gathersRules 135 = .ok (.return_, 1) := dk_177 (dk_at dksX0_gathersRules_5 16 rfl rfl)
abbrev cX0_areLogsSo : ByteArray := prog_1_method_44_code
def yX0_areLogsSo : MethodName := ⟨RX0, "areLogsSo", "(LLatestCoat$Town;)Z"⟩
def dkwX0_areLogsSo_2 : List UInt8 := [180, 0, 149, 180, 1, 101, 28, 5, 96, 46, 159, 0, 5, 3, 172, 132, 2, 3, 167, 255, 193, 4, 172]
abbrev dktX0_areLogsSo_2 : List UInt8 := dkwX0_areLogsSo_2 ++ []
def dkwX0_areLogsSo_1 : List UInt8 := [43, 180, 1, 1, 160, 0, 34, 43, 42, 180, 0, 149, 180, 1, 101, 28, 4, 96, 46, 182, 0, 223, 42]
abbrev dktX0_areLogsSo_1 : List UInt8 := dkwX0_areLogsSo_1 ++ dktX0_areLogsSo_2
def dkwX0_areLogsSo_0 : List UInt8 := [3, 61, 28, 6, 42, 180, 0, 149, 180, 1, 96, 104, 162, 0, 56, 42, 180, 0, 149, 180, 1, 101, 28, 46]
abbrev dktX0_areLogsSo_0 : List UInt8 := dkwX0_areLogsSo_0 ++ dktX0_areLogsSo_1
theorem dksX0_areLogsSo_0 : cX0_areLogsSo.data.toList.drop 0 = dktX0_areLogsSo_0 := by decide +kernel
theorem dksX0_areLogsSo_1 : cX0_areLogsSo.data.toList.drop 24 = dktX0_areLogsSo_1 := dk_seg dksX0_areLogsSo_0 24 rfl rfl
theorem dksX0_areLogsSo_2 : cX0_areLogsSo.data.toList.drop 47 = dktX0_areLogsSo_2 := dk_seg dksX0_areLogsSo_1 23 rfl rfl
theorem dX0_areLogsSo_0 : decode cX0_areLogsSo 0 = .ok (.iconst 0, 1) := dk_3 (dk_at dksX0_areLogsSo_0 0 rfl rfl)
theorem dX0_areLogsSo_1 : decode cX0_areLogsSo 1 = .ok (.istore_n 2, 1) := dk_61 (dk_at dksX0_areLogsSo_0 1 rfl rfl)
theorem dX0_areLogsSo_2 : decode cX0_areLogsSo 2 = .ok (.iload_n 2, 1) := dk_28 (dk_at dksX0_areLogsSo_0 2 rfl rfl)
theorem dX0_areLogsSo_3 : decode cX0_areLogsSo 3 = .ok (.iconst 3, 1) := dk_6 (dk_at dksX0_areLogsSo_0 3 rfl rfl)
theorem dX0_areLogsSo_4 : decode cX0_areLogsSo 4 = .ok (.aload_n 0, 1) := dk_42 (dk_at dksX0_areLogsSo_0 4 rfl rfl)
theorem dX0_areLogsSo_5 : decode cX0_areLogsSo 5 = .ok (.getfield 149, 3) := dk_180 0 149 (dk_at dksX0_areLogsSo_0 5 rfl rfl)
theorem dX0_areLogsSo_8 : decode cX0_areLogsSo 8 = .ok (.getfield 352, 3) := dk_180 1 96 (dk_at dksX0_areLogsSo_0 8 rfl rfl)
theorem dX0_areLogsSo_11 : decode cX0_areLogsSo 11 = .ok (.imul, 1) := dk_104 (dk_at dksX0_areLogsSo_0 11 rfl rfl)
theorem dX0_areLogsSo_12 : decode cX0_areLogsSo 12 = .ok (.if_icmp .ge 56, 3) := dk_162 0 56 (dk_at dksX0_areLogsSo_0 12 rfl rfl)
theorem dX0_areLogsSo_15 : decode cX0_areLogsSo 15 = .ok (.aload_n 0, 1) := dk_42 (dk_at dksX0_areLogsSo_0 15 rfl rfl)
theorem dX0_areLogsSo_16 : decode cX0_areLogsSo 16 = .ok (.getfield 149, 3) := dk_180 0 149 (dk_at dksX0_areLogsSo_0 16 rfl rfl)
theorem dX0_areLogsSo_19 : decode cX0_areLogsSo 19 = .ok (.getfield 357, 3) := dk_180 1 101 (dk_at dksX0_areLogsSo_0 19 rfl rfl)
theorem dX0_areLogsSo_22 : decode cX0_areLogsSo 22 = .ok (.iload_n 2, 1) := dk_28 (dk_at dksX0_areLogsSo_0 22 rfl rfl)
theorem dX0_areLogsSo_23 : decode cX0_areLogsSo 23 = .ok (.iaload, 1) := dk_46 (dk_at dksX0_areLogsSo_0 23 rfl rfl)
theorem dX0_areLogsSo_24 : decode cX0_areLogsSo 24 = .ok (.aload_n 1, 1) := dk_43 (dk_at dksX0_areLogsSo_1 0 rfl rfl)
theorem dX0_areLogsSo_25 : decode cX0_areLogsSo 25 = .ok (.getfield 257, 3) := dk_180 1 1 (dk_at dksX0_areLogsSo_1 1 rfl rfl)
theorem dX0_areLogsSo_28 : decode cX0_areLogsSo 28 = .ok (.if_icmp .ne 34, 3) := dk_160 0 34 (dk_at dksX0_areLogsSo_1 4 rfl rfl)
theorem dX0_areLogsSo_31 : decode cX0_areLogsSo 31 = .ok (.aload_n 1, 1) := dk_43 (dk_at dksX0_areLogsSo_1 7 rfl rfl)
theorem dX0_areLogsSo_32 : decode cX0_areLogsSo 32 = .ok (.aload_n 0, 1) := dk_42 (dk_at dksX0_areLogsSo_1 8 rfl rfl)
theorem dX0_areLogsSo_33 : decode cX0_areLogsSo 33 = .ok (.getfield 149, 3) := dk_180 0 149 (dk_at dksX0_areLogsSo_1 9 rfl rfl)
theorem dX0_areLogsSo_36 : decode cX0_areLogsSo 36 = .ok (.getfield 357, 3) := dk_180 1 101 (dk_at dksX0_areLogsSo_1 12 rfl rfl)
theorem dX0_areLogsSo_39 : decode cX0_areLogsSo 39 = .ok (.iload_n 2, 1) := dk_28 (dk_at dksX0_areLogsSo_1 15 rfl rfl)
theorem dX0_areLogsSo_40 : decode cX0_areLogsSo 40 = .ok (.iconst 1, 1) := dk_4 (dk_at dksX0_areLogsSo_1 16 rfl rfl)
theorem dX0_areLogsSo_41 : decode cX0_areLogsSo 41 = .ok (.iadd, 1) := dk_96 (dk_at dksX0_areLogsSo_1 17 rfl rfl)
theorem dX0_areLogsSo_42 : decode cX0_areLogsSo 42 = .ok (.iaload, 1) := dk_46 (dk_at dksX0_areLogsSo_1 18 rfl rfl)
theorem dX0_areLogsSo_43 : decode cX0_areLogsSo 43 = .ok (.invokevirtual 223, 3) := dk_182 0 223 (dk_at dksX0_areLogsSo_1 19 rfl rfl)
theorem dX0_areLogsSo_46 : decode cX0_areLogsSo 46 = .ok (.aload_n 0, 1) := dk_42 (dk_at dksX0_areLogsSo_1 22 rfl rfl)
theorem dX0_areLogsSo_47 : decode cX0_areLogsSo 47 = .ok (.getfield 149, 3) := dk_180 0 149 (dk_at dksX0_areLogsSo_2 0 rfl rfl)
theorem dX0_areLogsSo_50 : decode cX0_areLogsSo 50 = .ok (.getfield 357, 3) := dk_180 1 101 (dk_at dksX0_areLogsSo_2 3 rfl rfl)
theorem dX0_areLogsSo_53 : decode cX0_areLogsSo 53 = .ok (.iload_n 2, 1) := dk_28 (dk_at dksX0_areLogsSo_2 6 rfl rfl)
theorem dX0_areLogsSo_54 : decode cX0_areLogsSo 54 = .ok (.iconst 2, 1) := dk_5 (dk_at dksX0_areLogsSo_2 7 rfl rfl)
theorem dX0_areLogsSo_55 : decode cX0_areLogsSo 55 = .ok (.iadd, 1) := dk_96 (dk_at dksX0_areLogsSo_2 8 rfl rfl)
theorem dX0_areLogsSo_56 : decode cX0_areLogsSo 56 = .ok (.iaload, 1) := dk_46 (dk_at dksX0_areLogsSo_2 9 rfl rfl)
theorem dX0_areLogsSo_57 : decode cX0_areLogsSo 57 = .ok (.if_icmp .eq 5, 3) := dk_159 0 5 (dk_at dksX0_areLogsSo_2 10 rfl rfl)
theorem dX0_areLogsSo_60 : decode cX0_areLogsSo 60 = .ok (.iconst 0, 1) := dk_3 (dk_at dksX0_areLogsSo_2 13 rfl rfl)
theorem dX0_areLogsSo_61 : decode cX0_areLogsSo 61 = .ok (.ireturn, 1) := dk_172 (dk_at dksX0_areLogsSo_2 14 rfl rfl)
theorem dX0_areLogsSo_62 : decode cX0_areLogsSo 62 = .ok (.iinc 2 3, 3) := dk_132 2 3 (dk_at dksX0_areLogsSo_2 15 rfl rfl)
theorem dX0_areLogsSo_65 : decode cX0_areLogsSo 65 = .ok (.goto (-63), 3) := dk_167 255 193 (dk_at dksX0_areLogsSo_2 18 rfl rfl)
theorem dX0_areLogsSo_68 : decode cX0_areLogsSo 68 = .ok (.iconst 1, 1) := dk_4 (dk_at dksX0_areLogsSo_2 21 rfl rfl)
theorem dX0_areLogsSo_69 : decode cX0_areLogsSo 69 = .ok (.ireturn, 1) := dk_172 (dk_at dksX0_areLogsSo_2 22 rfl rfl)
abbrev cX0_look : ByteArray := prog_1_method_48_code
def yX0_look : MethodName := ⟨RX0, "look", "(II)I"⟩
def dkwX0_look_4 : List UInt8 := [54, 4, 132, 5, 1, 167, 255, 205, 28, 154, 0, 7, 29, 167, 0, 5, 21, 4, 172]
abbrev dktX0_look_4 : List UInt8 := dkwX0_look_4 ++ []
def dkwX0_look_3 : List UInt8 := [153, 0, 26, 29, 16, 254, 159, 0, 13, 21, 6, 21, 4, 161, 0, 6, 167, 0, 10, 21, 5, 62, 21, 6]
abbrev dktX0_look_3 : List UInt8 := dkwX0_look_3 ++ dktX0_look_4
def dkwX0_look_2 : List UInt8 := [21, 5, 42, 180, 0, 149, 180, 0, 166, 162, 0, 45, 42, 21, 5, 182, 1, 114, 54, 6, 21, 6]
abbrev dktX0_look_2 : List UInt8 := dkwX0_look_2 ++ dktX0_look_3
def dkwX0_look_1 : List UInt8 := [184, 0, 193, 154, 0, 5, 2, 172, 42, 27, 182, 1, 111, 16, 254, 62, 16, 254, 54, 4, 3, 54, 5]
abbrev dktX0_look_1 : List UInt8 := dkwX0_look_1 ++ dktX0_look_2
def dkwX0_look_0 : List UInt8 := [42, 180, 0, 149, 198, 0, 25, 27, 133, 9, 20, 1, 99, 184, 0, 193, 153, 0, 13, 28, 133, 9, 10]
abbrev dktX0_look_0 : List UInt8 := dkwX0_look_0 ++ dktX0_look_1
theorem dksX0_look_0 : cX0_look.data.toList.drop 0 = dktX0_look_0 := by decide +kernel
theorem dksX0_look_1 : cX0_look.data.toList.drop 23 = dktX0_look_1 := dk_seg dksX0_look_0 23 rfl rfl
theorem dksX0_look_2 : cX0_look.data.toList.drop 46 = dktX0_look_2 := dk_seg dksX0_look_1 23 rfl rfl
theorem dksX0_look_3 : cX0_look.data.toList.drop 68 = dktX0_look_3 := dk_seg dksX0_look_2 22 rfl rfl
theorem dksX0_look_4 : cX0_look.data.toList.drop 92 = dktX0_look_4 := dk_seg dksX0_look_3 24 rfl rfl
theorem dX0_look_0 : decode cX0_look 0 = .ok (.aload_n 0, 1) := dk_42 (dk_at dksX0_look_0 0 rfl rfl)
theorem dX0_look_1 : decode cX0_look 1 = .ok (.getfield 149, 3) := dk_180 0 149 (dk_at dksX0_look_0 1 rfl rfl)
theorem dX0_look_4 : decode cX0_look 4 = .ok (.ifnull 25, 3) := dk_198 0 25 (dk_at dksX0_look_0 4 rfl rfl)
theorem dX0_look_7 : decode cX0_look 7 = .ok (.iload_n 1, 1) := dk_27 (dk_at dksX0_look_0 7 rfl rfl)
theorem dX0_look_8 : decode cX0_look 8 = .ok (.i2l, 1) := dk_133 (dk_at dksX0_look_0 8 rfl rfl)
theorem dX0_look_9 : decode cX0_look 9 = .ok (.lconst 0, 1) := dk_9 (dk_at dksX0_look_0 9 rfl rfl)
theorem dX0_look_10 : decode cX0_look 10 = .ok (.ldc2_w 355, 3) := dk_20 1 99 (dk_at dksX0_look_0 10 rfl rfl)
theorem dX0_look_13 : decode cX0_look 13 = .ok (.invokestatic 193, 3) := dk_184 0 193 (dk_at dksX0_look_0 13 rfl rfl)
theorem dX0_look_16 : decode cX0_look 16 = .ok (.ifCond .eq 13, 3) := dk_153 0 13 (dk_at dksX0_look_0 16 rfl rfl)
theorem dX0_look_19 : decode cX0_look 19 = .ok (.iload_n 2, 1) := dk_28 (dk_at dksX0_look_0 19 rfl rfl)
theorem dX0_look_20 : decode cX0_look 20 = .ok (.i2l, 1) := dk_133 (dk_at dksX0_look_0 20 rfl rfl)
theorem dX0_look_21 : decode cX0_look 21 = .ok (.lconst 0, 1) := dk_9 (dk_at dksX0_look_0 21 rfl rfl)
theorem dX0_look_22 : decode cX0_look 22 = .ok (.lconst 1, 1) := dk_10 (dk_at dksX0_look_0 22 rfl rfl)
theorem dX0_look_23 : decode cX0_look 23 = .ok (.invokestatic 193, 3) := dk_184 0 193 (dk_at dksX0_look_1 0 rfl rfl)
theorem dX0_look_26 : decode cX0_look 26 = .ok (.ifCond .ne 5, 3) := dk_154 0 5 (dk_at dksX0_look_1 3 rfl rfl)
theorem dX0_look_29 : decode cX0_look 29 = .ok (.iconst (-1), 1) := dk_2 (dk_at dksX0_look_1 6 rfl rfl)
theorem dX0_look_30 : decode cX0_look 30 = .ok (.ireturn, 1) := dk_172 (dk_at dksX0_look_1 7 rfl rfl)
theorem dX0_look_31 : decode cX0_look 31 = .ok (.aload_n 0, 1) := dk_42 (dk_at dksX0_look_1 8 rfl rfl)
theorem dX0_look_32 : decode cX0_look 32 = .ok (.iload_n 1, 1) := dk_27 (dk_at dksX0_look_1 9 rfl rfl)
theorem dX0_look_33 : decode cX0_look 33 = .ok (.invokevirtual 367, 3) := dk_182 1 111 (dk_at dksX0_look_1 10 rfl rfl)
theorem dX0_look_36 : decode cX0_look 36 = .ok (.bipush (-2), 2) := dk_16 254 (dk_at dksX0_look_1 13 rfl rfl)
theorem dX0_look_38 : decode cX0_look 38 = .ok (.istore_n 3, 1) := dk_62 (dk_at dksX0_look_1 15 rfl rfl)
theorem dX0_look_39 : decode cX0_look 39 = .ok (.bipush (-2), 2) := dk_16 254 (dk_at dksX0_look_1 16 rfl rfl)
theorem dX0_look_41 : decode cX0_look 41 = .ok (.istore 4, 2) := dk_54 4 (dk_at dksX0_look_1 18 rfl rfl)
theorem dX0_look_43 : decode cX0_look 43 = .ok (.iconst 0, 1) := dk_3 (dk_at dksX0_look_1 20 rfl rfl)
theorem dX0_look_44 : decode cX0_look 44 = .ok (.istore 5, 2) := dk_54 5 (dk_at dksX0_look_1 21 rfl rfl)
theorem dX0_look_46 : decode cX0_look 46 = .ok (.iload 5, 2) := dk_21 5 (dk_at dksX0_look_2 0 rfl rfl)
theorem dX0_look_48 : decode cX0_look 48 = .ok (.aload_n 0, 1) := dk_42 (dk_at dksX0_look_2 2 rfl rfl)
theorem dX0_look_49 : decode cX0_look 49 = .ok (.getfield 149, 3) := dk_180 0 149 (dk_at dksX0_look_2 3 rfl rfl)
theorem dX0_look_52 : decode cX0_look 52 = .ok (.getfield 166, 3) := dk_180 0 166 (dk_at dksX0_look_2 6 rfl rfl)
theorem dX0_look_55 : decode cX0_look 55 = .ok (.if_icmp .ge 45, 3) := dk_162 0 45 (dk_at dksX0_look_2 9 rfl rfl)
theorem dX0_look_58 : decode cX0_look 58 = .ok (.aload_n 0, 1) := dk_42 (dk_at dksX0_look_2 12 rfl rfl)
theorem dX0_look_59 : decode cX0_look 59 = .ok (.iload 5, 2) := dk_21 5 (dk_at dksX0_look_2 13 rfl rfl)
theorem dX0_look_61 : decode cX0_look 61 = .ok (.invokevirtual 370, 3) := dk_182 1 114 (dk_at dksX0_look_2 15 rfl rfl)
theorem dX0_look_64 : decode cX0_look 64 = .ok (.istore 6, 2) := dk_54 6 (dk_at dksX0_look_2 18 rfl rfl)
theorem dX0_look_66 : decode cX0_look 66 = .ok (.iload 6, 2) := dk_21 6 (dk_at dksX0_look_2 20 rfl rfl)
theorem dX0_look_68 : decode cX0_look 68 = .ok (.ifCond .eq 26, 3) := dk_153 0 26 (dk_at dksX0_look_3 0 rfl rfl)
theorem dX0_look_71 : decode cX0_look 71 = .ok (.iload_n 3, 1) := dk_29 (dk_at dksX0_look_3 3 rfl rfl)
theorem dX0_look_72 : decode cX0_look 72 = .ok (.bipush (-2), 2) := dk_16 254 (dk_at dksX0_look_3 4 rfl rfl)
theorem dX0_look_74 : decode cX0_look 74 = .ok (.if_icmp .eq 13, 3) := dk_159 0 13 (dk_at dksX0_look_3 6 rfl rfl)
theorem dX0_look_77 : decode cX0_look 77 = .ok (.iload 6, 2) := dk_21 6 (dk_at dksX0_look_3 9 rfl rfl)
theorem dX0_look_79 : decode cX0_look 79 = .ok (.iload 4, 2) := dk_21 4 (dk_at dksX0_look_3 11 rfl rfl)
theorem dX0_look_81 : decode cX0_look 81 = .ok (.if_icmp .lt 6, 3) := dk_161 0 6 (dk_at dksX0_look_3 13 rfl rfl)
theorem dX0_look_84 : decode cX0_look 84 = .ok (.goto 10, 3) := dk_167 0 10 (dk_at dksX0_look_3 16 rfl rfl)
theorem dX0_look_87 : decode cX0_look 87 = .ok (.iload 5, 2) := dk_21 5 (dk_at dksX0_look_3 19 rfl rfl)
theorem dX0_look_89 : decode cX0_look 89 = .ok (.istore_n 3, 1) := dk_62 (dk_at dksX0_look_3 21 rfl rfl)
theorem dX0_look_90 : decode cX0_look 90 = .ok (.iload 6, 2) := dk_21 6 (dk_at dksX0_look_3 22 rfl rfl)
theorem dX0_look_92 : decode cX0_look 92 = .ok (.istore 4, 2) := dk_54 4 (dk_at dksX0_look_4 0 rfl rfl)
theorem dX0_look_94 : decode cX0_look 94 = .ok (.iinc 5 1, 3) := dk_132 5 1 (dk_at dksX0_look_4 2 rfl rfl)
theorem dX0_look_97 : decode cX0_look 97 = .ok (.goto (-51), 3) := dk_167 255 205 (dk_at dksX0_look_4 5 rfl rfl)
theorem dX0_look_100 : decode cX0_look 100 = .ok (.iload_n 2, 1) := dk_28 (dk_at dksX0_look_4 8 rfl rfl)
theorem dX0_look_101 : decode cX0_look 101 = .ok (.ifCond .ne 7, 3) := dk_154 0 7 (dk_at dksX0_look_4 9 rfl rfl)
theorem dX0_look_104 : decode cX0_look 104 = .ok (.iload_n 3, 1) := dk_29 (dk_at dksX0_look_4 12 rfl rfl)
theorem dX0_look_105 : decode cX0_look 105 = .ok (.goto 5, 3) := dk_167 0 5 (dk_at dksX0_look_4 13 rfl rfl)
theorem dX0_look_108 : decode cX0_look 108 = .ok (.iload 4, 2) := dk_21 4 (dk_at dksX0_look_4 16 rfl rfl)
theorem dX0_look_110 : decode cX0_look 110 = .ok (.ireturn, 1) := dk_172 (dk_at dksX0_look_4 18 rfl rfl)
abbrev cX0_alikeAt : ByteArray := prog_1_method_47_code
def yX0_alikeAt : MethodName := ⟨RX0, "alikeAt", "(I)I"⟩
def dkwX0_alikeAt_3 : List UInt8 := [28, 21, 4, 184, 0, 206, 61, 132, 3, 1, 167, 255, 179, 28, 172]
abbrev dktX0_alikeAt_3 : List UInt8 := dkwX0_alikeAt_3 ++ []
def dkwX0_alikeAt_2 : List UInt8 := [21, 5, 104, 27, 96, 46, 29, 160, 0, 7, 4, 167, 0, 4, 3, 96, 54, 4, 132, 5, 1, 167, 255, 209]
abbrev dktX0_alikeAt_2 : List UInt8 := dkwX0_alikeAt_2 ++ dktX0_alikeAt_3
def dkwX0_alikeAt_1 : List UInt8 := [180, 0, 159, 163, 0, 44, 21, 4, 42, 180, 0, 110, 21, 5, 51, 153, 0, 22, 42, 180, 0, 114, 7]
abbrev dktX0_alikeAt_1 : List UInt8 := dkwX0_alikeAt_1 ++ dktX0_alikeAt_2
def dkwX0_alikeAt_0 : List UInt8 := [3, 61, 2, 62, 29, 42, 180, 0, 149, 180, 0, 169, 162, 0, 72, 3, 54, 4, 3, 54, 5, 21, 5, 42]
abbrev dktX0_alikeAt_0 : List UInt8 := dkwX0_alikeAt_0 ++ dktX0_alikeAt_1
theorem dksX0_alikeAt_0 : cX0_alikeAt.data.toList.drop 0 = dktX0_alikeAt_0 := by decide +kernel
theorem dksX0_alikeAt_1 : cX0_alikeAt.data.toList.drop 24 = dktX0_alikeAt_1 := dk_seg dksX0_alikeAt_0 24 rfl rfl
theorem dksX0_alikeAt_2 : cX0_alikeAt.data.toList.drop 47 = dktX0_alikeAt_2 := dk_seg dksX0_alikeAt_1 23 rfl rfl
theorem dksX0_alikeAt_3 : cX0_alikeAt.data.toList.drop 71 = dktX0_alikeAt_3 := dk_seg dksX0_alikeAt_2 24 rfl rfl
theorem dX0_alikeAt_0 : decode cX0_alikeAt 0 = .ok (.iconst 0, 1) := dk_3 (dk_at dksX0_alikeAt_0 0 rfl rfl)
theorem dX0_alikeAt_1 : decode cX0_alikeAt 1 = .ok (.istore_n 2, 1) := dk_61 (dk_at dksX0_alikeAt_0 1 rfl rfl)
theorem dX0_alikeAt_2 : decode cX0_alikeAt 2 = .ok (.iconst (-1), 1) := dk_2 (dk_at dksX0_alikeAt_0 2 rfl rfl)
theorem dX0_alikeAt_3 : decode cX0_alikeAt 3 = .ok (.istore_n 3, 1) := dk_62 (dk_at dksX0_alikeAt_0 3 rfl rfl)
theorem dX0_alikeAt_4 : decode cX0_alikeAt 4 = .ok (.iload_n 3, 1) := dk_29 (dk_at dksX0_alikeAt_0 4 rfl rfl)
theorem dX0_alikeAt_5 : decode cX0_alikeAt 5 = .ok (.aload_n 0, 1) := dk_42 (dk_at dksX0_alikeAt_0 5 rfl rfl)
theorem dX0_alikeAt_6 : decode cX0_alikeAt 6 = .ok (.getfield 149, 3) := dk_180 0 149 (dk_at dksX0_alikeAt_0 6 rfl rfl)
theorem dX0_alikeAt_9 : decode cX0_alikeAt 9 = .ok (.getfield 169, 3) := dk_180 0 169 (dk_at dksX0_alikeAt_0 9 rfl rfl)
theorem dX0_alikeAt_12 : decode cX0_alikeAt 12 = .ok (.if_icmp .ge 72, 3) := dk_162 0 72 (dk_at dksX0_alikeAt_0 12 rfl rfl)
theorem dX0_alikeAt_15 : decode cX0_alikeAt 15 = .ok (.iconst 0, 1) := dk_3 (dk_at dksX0_alikeAt_0 15 rfl rfl)
theorem dX0_alikeAt_16 : decode cX0_alikeAt 16 = .ok (.istore 4, 2) := dk_54 4 (dk_at dksX0_alikeAt_0 16 rfl rfl)
theorem dX0_alikeAt_18 : decode cX0_alikeAt 18 = .ok (.iconst 0, 1) := dk_3 (dk_at dksX0_alikeAt_0 18 rfl rfl)
theorem dX0_alikeAt_19 : decode cX0_alikeAt 19 = .ok (.istore 5, 2) := dk_54 5 (dk_at dksX0_alikeAt_0 19 rfl rfl)
theorem dX0_alikeAt_21 : decode cX0_alikeAt 21 = .ok (.iload 5, 2) := dk_21 5 (dk_at dksX0_alikeAt_0 21 rfl rfl)
theorem dX0_alikeAt_23 : decode cX0_alikeAt 23 = .ok (.aload_n 0, 1) := dk_42 (dk_at dksX0_alikeAt_0 23 rfl rfl)
theorem dX0_alikeAt_24 : decode cX0_alikeAt 24 = .ok (.getfield 159, 3) := dk_180 0 159 (dk_at dksX0_alikeAt_1 0 rfl rfl)
theorem dX0_alikeAt_27 : decode cX0_alikeAt 27 = .ok (.if_icmp .gt 44, 3) := dk_163 0 44 (dk_at dksX0_alikeAt_1 3 rfl rfl)
theorem dX0_alikeAt_30 : decode cX0_alikeAt 30 = .ok (.iload 4, 2) := dk_21 4 (dk_at dksX0_alikeAt_1 6 rfl rfl)
theorem dX0_alikeAt_32 : decode cX0_alikeAt 32 = .ok (.aload_n 0, 1) := dk_42 (dk_at dksX0_alikeAt_1 8 rfl rfl)
theorem dX0_alikeAt_33 : decode cX0_alikeAt 33 = .ok (.getfield 110, 3) := dk_180 0 110 (dk_at dksX0_alikeAt_1 9 rfl rfl)
theorem dX0_alikeAt_36 : decode cX0_alikeAt 36 = .ok (.iload 5, 2) := dk_21 5 (dk_at dksX0_alikeAt_1 12 rfl rfl)
theorem dX0_alikeAt_38 : decode cX0_alikeAt 38 = .ok (.baload, 1) := dk_51 (dk_at dksX0_alikeAt_1 14 rfl rfl)
theorem dX0_alikeAt_39 : decode cX0_alikeAt 39 = .ok (.ifCond .eq 22, 3) := dk_153 0 22 (dk_at dksX0_alikeAt_1 15 rfl rfl)
theorem dX0_alikeAt_42 : decode cX0_alikeAt 42 = .ok (.aload_n 0, 1) := dk_42 (dk_at dksX0_alikeAt_1 18 rfl rfl)
theorem dX0_alikeAt_43 : decode cX0_alikeAt 43 = .ok (.getfield 114, 3) := dk_180 0 114 (dk_at dksX0_alikeAt_1 19 rfl rfl)
theorem dX0_alikeAt_46 : decode cX0_alikeAt 46 = .ok (.iconst 4, 1) := dk_7 (dk_at dksX0_alikeAt_1 22 rfl rfl)
theorem dX0_alikeAt_47 : decode cX0_alikeAt 47 = .ok (.iload 5, 2) := dk_21 5 (dk_at dksX0_alikeAt_2 0 rfl rfl)
theorem dX0_alikeAt_49 : decode cX0_alikeAt 49 = .ok (.imul, 1) := dk_104 (dk_at dksX0_alikeAt_2 2 rfl rfl)
theorem dX0_alikeAt_50 : decode cX0_alikeAt 50 = .ok (.iload_n 1, 1) := dk_27 (dk_at dksX0_alikeAt_2 3 rfl rfl)
theorem dX0_alikeAt_51 : decode cX0_alikeAt 51 = .ok (.iadd, 1) := dk_96 (dk_at dksX0_alikeAt_2 4 rfl rfl)
theorem dX0_alikeAt_52 : decode cX0_alikeAt 52 = .ok (.iaload, 1) := dk_46 (dk_at dksX0_alikeAt_2 5 rfl rfl)
theorem dX0_alikeAt_53 : decode cX0_alikeAt 53 = .ok (.iload_n 3, 1) := dk_29 (dk_at dksX0_alikeAt_2 6 rfl rfl)
theorem dX0_alikeAt_54 : decode cX0_alikeAt 54 = .ok (.if_icmp .ne 7, 3) := dk_160 0 7 (dk_at dksX0_alikeAt_2 7 rfl rfl)
theorem dX0_alikeAt_57 : decode cX0_alikeAt 57 = .ok (.iconst 1, 1) := dk_4 (dk_at dksX0_alikeAt_2 10 rfl rfl)
theorem dX0_alikeAt_58 : decode cX0_alikeAt 58 = .ok (.goto 4, 3) := dk_167 0 4 (dk_at dksX0_alikeAt_2 11 rfl rfl)
theorem dX0_alikeAt_61 : decode cX0_alikeAt 61 = .ok (.iconst 0, 1) := dk_3 (dk_at dksX0_alikeAt_2 14 rfl rfl)
theorem dX0_alikeAt_62 : decode cX0_alikeAt 62 = .ok (.iadd, 1) := dk_96 (dk_at dksX0_alikeAt_2 15 rfl rfl)
theorem dX0_alikeAt_63 : decode cX0_alikeAt 63 = .ok (.istore 4, 2) := dk_54 4 (dk_at dksX0_alikeAt_2 16 rfl rfl)
theorem dX0_alikeAt_65 : decode cX0_alikeAt 65 = .ok (.iinc 5 1, 3) := dk_132 5 1 (dk_at dksX0_alikeAt_2 18 rfl rfl)
theorem dX0_alikeAt_68 : decode cX0_alikeAt 68 = .ok (.goto (-47), 3) := dk_167 255 209 (dk_at dksX0_alikeAt_2 21 rfl rfl)
theorem dX0_alikeAt_71 : decode cX0_alikeAt 71 = .ok (.iload_n 2, 1) := dk_28 (dk_at dksX0_alikeAt_3 0 rfl rfl)
theorem dX0_alikeAt_72 : decode cX0_alikeAt 72 = .ok (.iload 4, 2) := dk_21 4 (dk_at dksX0_alikeAt_3 1 rfl rfl)
theorem dX0_alikeAt_74 : decode cX0_alikeAt 74 = .ok (.invokestatic 206, 3) := dk_184 0 206 (dk_at dksX0_alikeAt_3 3 rfl rfl)
theorem dX0_alikeAt_77 : decode cX0_alikeAt 77 = .ok (.istore_n 2, 1) := dk_61 (dk_at dksX0_alikeAt_3 6 rfl rfl)
theorem dX0_alikeAt_78 : decode cX0_alikeAt 78 = .ok (.iinc 3 1, 3) := dk_132 3 1 (dk_at dksX0_alikeAt_3 7 rfl rfl)
theorem dX0_alikeAt_81 : decode cX0_alikeAt 81 = .ok (.goto (-77), 3) := dk_167 255 179 (dk_at dksX0_alikeAt_3 10 rfl rfl)
theorem dX0_alikeAt_84 : decode cX0_alikeAt 84 = .ok (.iload_n 2, 1) := dk_28 (dk_at dksX0_alikeAt_3 13 rfl rfl)
theorem dX0_alikeAt_85 : decode cX0_alikeAt 85 = .ok (.ireturn, 1) := dk_172 (dk_at dksX0_alikeAt_3 14 rfl rfl)
abbrev cX0_seed : ByteArray := prog_1_method_49_code
def yX0_seed : MethodName := ⟨RX0, "seed", "(I)I"⟩
def dkwX0_seed_0 : List UInt8 := [27, 156, 0, 5, 2, 172, 42, 180, 1, 117, 61, 42, 27, 181, 1, 117, 28, 172]
abbrev dktX0_seed_0 : List UInt8 := dkwX0_seed_0 ++ []
theorem dksX0_seed_0 : cX0_seed.data.toList.drop 0 = dktX0_seed_0 := by decide +kernel
theorem dX0_seed_0 : decode cX0_seed 0 = .ok (.iload_n 1, 1) := dk_27 (dk_at dksX0_seed_0 0 rfl rfl)
theorem dX0_seed_1 : decode cX0_seed 1 = .ok (.ifCond .ge 5, 3) := dk_156 0 5 (dk_at dksX0_seed_0 1 rfl rfl)
theorem dX0_seed_4 : decode cX0_seed 4 = .ok (.iconst (-1), 1) := dk_2 (dk_at dksX0_seed_0 4 rfl rfl)
theorem dX0_seed_5 : decode cX0_seed 5 = .ok (.ireturn, 1) := dk_172 (dk_at dksX0_seed_0 5 rfl rfl)
theorem dX0_seed_6 : decode cX0_seed 6 = .ok (.aload_n 0, 1) := dk_42 (dk_at dksX0_seed_0 6 rfl rfl)
theorem dX0_seed_7 : decode cX0_seed 7 = .ok (.getfield 373, 3) := dk_180 1 117 (dk_at dksX0_seed_0 7 rfl rfl)
theorem dX0_seed_10 : decode cX0_seed 10 = .ok (.istore_n 2, 1) := dk_61 (dk_at dksX0_seed_0 10 rfl rfl)
theorem dX0_seed_11 : decode cX0_seed 11 = .ok (.aload_n 0, 1) := dk_42 (dk_at dksX0_seed_0 11 rfl rfl)
theorem dX0_seed_12 : decode cX0_seed 12 = .ok (.iload_n 1, 1) := dk_27 (dk_at dksX0_seed_0 12 rfl rfl)
theorem dX0_seed_13 : decode cX0_seed 13 = .ok (.putfield 373, 3) := dk_181 1 117 (dk_at dksX0_seed_0 13 rfl rfl)
theorem dX0_seed_16 : decode cX0_seed 16 = .ok (.iload_n 2, 1) := dk_28 (dk_at dksX0_seed_0 16 rfl rfl)
theorem dX0_seed_17 : decode cX0_seed 17 = .ok (.ireturn, 1) := dk_172 (dk_at dksX0_seed_0 17 rfl rfl)
abbrev cX0_years : ByteArray := prog_1_method_52_code
def yX0_years : MethodName := ⟨RX0, "years", "(III)I"⟩
def dkwX0_years_8 : List UInt8 := [167, 255, 235, 29, 154, 0, 8, 21, 4, 167, 0, 5, 21, 5, 172]
abbrev dktX0_years_8 : List UInt8 := dkwX0_years_8 ++ []
def dkwX0_years_7 : List UInt8 := [54, 7, 21, 7, 7, 162, 0, 21, 21, 5, 42, 180, 0, 31, 21, 7, 46, 96, 54, 5, 132, 7, 1]
abbrev dktX0_years_7 : List UInt8 := dkwX0_years_7 ++ dktX0_years_8
def dkwX0_years_6 : List UInt8 := [54, 4, 25, 6, 42, 180, 0, 31, 182, 1, 41, 132, 8, 1, 167, 255, 219, 132, 7, 1, 167, 255, 194, 3]
abbrev dktX0_years_6 : List UInt8 := dkwX0_years_6 ++ dktX0_years_7
def dkwX0_years_5 : List UInt8 := [21, 8, 28, 162, 0, 37, 21, 4, 42, 25, 6, 182, 1, 135, 153, 0, 7, 4, 167, 0, 4, 3, 96]
abbrev dktX0_years_5 : List UInt8 := dkwX0_years_5 ++ dktX0_years_6
def dkwX0_years_4 : List UInt8 := [58, 6, 3, 54, 7, 21, 7, 27, 162, 0, 62, 25, 6, 42, 180, 0, 149, 182, 1, 38, 87, 3, 54, 8]
abbrev dktX0_years_4 : List UInt8 := dkwX0_years_4 ++ dktX0_years_5
def dkwX0_years_3 : List UInt8 := [180, 0, 31, 21, 6, 3, 79, 132, 6, 1, 167, 255, 239, 42, 180, 0, 18, 42, 180, 0, 149, 182, 0, 145]
abbrev dktX0_years_3 : List UInt8 := dkwX0_years_3 ++ dktX0_years_4
def dkwX0_years_2 : List UInt8 := [180, 1, 117, 181, 1, 120, 3, 54, 4, 3, 54, 5, 3, 54, 6, 21, 6, 7, 162, 0, 17, 42]
abbrev dktX0_years_2 : List UInt8 := dkwX0_years_2 ++ dktX0_years_3
def dkwX0_years_1 : List UInt8 := [20, 1, 24, 184, 0, 193, 153, 0, 13, 29, 133, 9, 10, 184, 0, 193, 154, 0, 5, 2, 172, 42, 42]
abbrev dktX0_years_1 : List UInt8 := dkwX0_years_1 ++ dktX0_years_2
def dkwX0_years_0 : List UInt8 := [42, 180, 0, 149, 198, 0, 37, 27, 133, 10, 20, 1, 133, 184, 0, 193, 153, 0, 25, 28, 133, 10]
abbrev dktX0_years_0 : List UInt8 := dkwX0_years_0 ++ dktX0_years_1
theorem dksX0_years_0 : cX0_years.data.toList.drop 0 = dktX0_years_0 := by decide +kernel
theorem dksX0_years_1 : cX0_years.data.toList.drop 22 = dktX0_years_1 := dk_seg dksX0_years_0 22 rfl rfl
theorem dksX0_years_2 : cX0_years.data.toList.drop 45 = dktX0_years_2 := dk_seg dksX0_years_1 23 rfl rfl
theorem dksX0_years_3 : cX0_years.data.toList.drop 67 = dktX0_years_3 := dk_seg dksX0_years_2 22 rfl rfl
theorem dksX0_years_4 : cX0_years.data.toList.drop 91 = dktX0_years_4 := dk_seg dksX0_years_3 24 rfl rfl
theorem dksX0_years_5 : cX0_years.data.toList.drop 115 = dktX0_years_5 := dk_seg dksX0_years_4 24 rfl rfl
theorem dksX0_years_6 : cX0_years.data.toList.drop 138 = dktX0_years_6 := dk_seg dksX0_years_5 23 rfl rfl
theorem dksX0_years_7 : cX0_years.data.toList.drop 162 = dktX0_years_7 := dk_seg dksX0_years_6 24 rfl rfl
theorem dksX0_years_8 : cX0_years.data.toList.drop 185 = dktX0_years_8 := dk_seg dksX0_years_7 23 rfl rfl
theorem dX0_years_0 : decode cX0_years 0 = .ok (.aload_n 0, 1) := dk_42 (dk_at dksX0_years_0 0 rfl rfl)
theorem dX0_years_1 : decode cX0_years 1 = .ok (.getfield 149, 3) := dk_180 0 149 (dk_at dksX0_years_0 1 rfl rfl)
theorem dX0_years_4 : decode cX0_years 4 = .ok (.ifnull 37, 3) := dk_198 0 37 (dk_at dksX0_years_0 4 rfl rfl)
theorem dX0_years_7 : decode cX0_years 7 = .ok (.iload_n 1, 1) := dk_27 (dk_at dksX0_years_0 7 rfl rfl)
theorem dX0_years_8 : decode cX0_years 8 = .ok (.i2l, 1) := dk_133 (dk_at dksX0_years_0 8 rfl rfl)
theorem dX0_years_9 : decode cX0_years 9 = .ok (.lconst 1, 1) := dk_10 (dk_at dksX0_years_0 9 rfl rfl)
theorem dX0_years_10 : decode cX0_years 10 = .ok (.ldc2_w 389, 3) := dk_20 1 133 (dk_at dksX0_years_0 10 rfl rfl)
theorem dX0_years_13 : decode cX0_years 13 = .ok (.invokestatic 193, 3) := dk_184 0 193 (dk_at dksX0_years_0 13 rfl rfl)
theorem dX0_years_16 : decode cX0_years 16 = .ok (.ifCond .eq 25, 3) := dk_153 0 25 (dk_at dksX0_years_0 16 rfl rfl)
theorem dX0_years_19 : decode cX0_years 19 = .ok (.iload_n 2, 1) := dk_28 (dk_at dksX0_years_0 19 rfl rfl)
theorem dX0_years_20 : decode cX0_years 20 = .ok (.i2l, 1) := dk_133 (dk_at dksX0_years_0 20 rfl rfl)
theorem dX0_years_21 : decode cX0_years 21 = .ok (.lconst 1, 1) := dk_10 (dk_at dksX0_years_0 21 rfl rfl)
theorem dX0_years_22 : decode cX0_years 22 = .ok (.ldc2_w 280, 3) := dk_20 1 24 (dk_at dksX0_years_1 0 rfl rfl)
theorem dX0_years_25 : decode cX0_years 25 = .ok (.invokestatic 193, 3) := dk_184 0 193 (dk_at dksX0_years_1 3 rfl rfl)
theorem dX0_years_28 : decode cX0_years 28 = .ok (.ifCond .eq 13, 3) := dk_153 0 13 (dk_at dksX0_years_1 6 rfl rfl)
theorem dX0_years_31 : decode cX0_years 31 = .ok (.iload_n 3, 1) := dk_29 (dk_at dksX0_years_1 9 rfl rfl)
theorem dX0_years_32 : decode cX0_years 32 = .ok (.i2l, 1) := dk_133 (dk_at dksX0_years_1 10 rfl rfl)
theorem dX0_years_33 : decode cX0_years 33 = .ok (.lconst 0, 1) := dk_9 (dk_at dksX0_years_1 11 rfl rfl)
theorem dX0_years_34 : decode cX0_years 34 = .ok (.lconst 1, 1) := dk_10 (dk_at dksX0_years_1 12 rfl rfl)
theorem dX0_years_35 : decode cX0_years 35 = .ok (.invokestatic 193, 3) := dk_184 0 193 (dk_at dksX0_years_1 13 rfl rfl)
theorem dX0_years_38 : decode cX0_years 38 = .ok (.ifCond .ne 5, 3) := dk_154 0 5 (dk_at dksX0_years_1 16 rfl rfl)
theorem dX0_years_41 : decode cX0_years 41 = .ok (.iconst (-1), 1) := dk_2 (dk_at dksX0_years_1 19 rfl rfl)
theorem dX0_years_42 : decode cX0_years 42 = .ok (.ireturn, 1) := dk_172 (dk_at dksX0_years_1 20 rfl rfl)
theorem dX0_years_43 : decode cX0_years 43 = .ok (.aload_n 0, 1) := dk_42 (dk_at dksX0_years_1 21 rfl rfl)
theorem dX0_years_44 : decode cX0_years 44 = .ok (.aload_n 0, 1) := dk_42 (dk_at dksX0_years_1 22 rfl rfl)
theorem dX0_years_45 : decode cX0_years 45 = .ok (.getfield 373, 3) := dk_180 1 117 (dk_at dksX0_years_2 0 rfl rfl)
theorem dX0_years_48 : decode cX0_years 48 = .ok (.putfield 376, 3) := dk_181 1 120 (dk_at dksX0_years_2 3 rfl rfl)
theorem dX0_years_51 : decode cX0_years 51 = .ok (.iconst 0, 1) := dk_3 (dk_at dksX0_years_2 6 rfl rfl)
theorem dX0_years_52 : decode cX0_years 52 = .ok (.istore 4, 2) := dk_54 4 (dk_at dksX0_years_2 7 rfl rfl)
theorem dX0_years_54 : decode cX0_years 54 = .ok (.iconst 0, 1) := dk_3 (dk_at dksX0_years_2 9 rfl rfl)
theorem dX0_years_55 : decode cX0_years 55 = .ok (.istore 5, 2) := dk_54 5 (dk_at dksX0_years_2 10 rfl rfl)
theorem dX0_years_57 : decode cX0_years 57 = .ok (.iconst 0, 1) := dk_3 (dk_at dksX0_years_2 12 rfl rfl)
theorem dX0_years_58 : decode cX0_years 58 = .ok (.istore 6, 2) := dk_54 6 (dk_at dksX0_years_2 13 rfl rfl)
theorem dX0_years_60 : decode cX0_years 60 = .ok (.iload 6, 2) := dk_21 6 (dk_at dksX0_years_2 15 rfl rfl)
theorem dX0_years_62 : decode cX0_years 62 = .ok (.iconst 4, 1) := dk_7 (dk_at dksX0_years_2 17 rfl rfl)
theorem dX0_years_63 : decode cX0_years 63 = .ok (.if_icmp .ge 17, 3) := dk_162 0 17 (dk_at dksX0_years_2 18 rfl rfl)
theorem dX0_years_66 : decode cX0_years 66 = .ok (.aload_n 0, 1) := dk_42 (dk_at dksX0_years_2 21 rfl rfl)
theorem dX0_years_67 : decode cX0_years 67 = .ok (.getfield 31, 3) := dk_180 0 31 (dk_at dksX0_years_3 0 rfl rfl)
theorem dX0_years_70 : decode cX0_years 70 = .ok (.iload 6, 2) := dk_21 6 (dk_at dksX0_years_3 3 rfl rfl)
theorem dX0_years_72 : decode cX0_years 72 = .ok (.iconst 0, 1) := dk_3 (dk_at dksX0_years_3 5 rfl rfl)
theorem dX0_years_73 : decode cX0_years 73 = .ok (.iastore, 1) := dk_79 (dk_at dksX0_years_3 6 rfl rfl)
theorem dX0_years_74 : decode cX0_years 74 = .ok (.iinc 6 1, 3) := dk_132 6 1 (dk_at dksX0_years_3 7 rfl rfl)
theorem dX0_years_77 : decode cX0_years 77 = .ok (.goto (-17), 3) := dk_167 255 239 (dk_at dksX0_years_3 10 rfl rfl)
theorem dX0_years_80 : decode cX0_years 80 = .ok (.aload_n 0, 1) := dk_42 (dk_at dksX0_years_3 13 rfl rfl)
theorem dX0_years_81 : decode cX0_years 81 = .ok (.getfield 18, 3) := dk_180 0 18 (dk_at dksX0_years_3 14 rfl rfl)
theorem dX0_years_84 : decode cX0_years 84 = .ok (.aload_n 0, 1) := dk_42 (dk_at dksX0_years_3 17 rfl rfl)
theorem dX0_years_85 : decode cX0_years 85 = .ok (.getfield 149, 3) := dk_180 0 149 (dk_at dksX0_years_3 18 rfl rfl)
theorem dX0_years_88 : decode cX0_years 88 = .ok (.invokevirtual 145, 3) := dk_182 0 145 (dk_at dksX0_years_3 21 rfl rfl)
theorem dX0_years_91 : decode cX0_years 91 = .ok (.astore 6, 2) := dk_58 6 (dk_at dksX0_years_4 0 rfl rfl)
theorem dX0_years_93 : decode cX0_years 93 = .ok (.iconst 0, 1) := dk_3 (dk_at dksX0_years_4 2 rfl rfl)
theorem dX0_years_94 : decode cX0_years 94 = .ok (.istore 7, 2) := dk_54 7 (dk_at dksX0_years_4 3 rfl rfl)
theorem dX0_years_96 : decode cX0_years 96 = .ok (.iload 7, 2) := dk_21 7 (dk_at dksX0_years_4 5 rfl rfl)
theorem dX0_years_98 : decode cX0_years 98 = .ok (.iload_n 1, 1) := dk_27 (dk_at dksX0_years_4 7 rfl rfl)
theorem dX0_years_99 : decode cX0_years 99 = .ok (.if_icmp .ge 62, 3) := dk_162 0 62 (dk_at dksX0_years_4 8 rfl rfl)
theorem dX0_years_102 : decode cX0_years 102 = .ok (.aload 6, 2) := dk_25 6 (dk_at dksX0_years_4 11 rfl rfl)
theorem dX0_years_104 : decode cX0_years 104 = .ok (.aload_n 0, 1) := dk_42 (dk_at dksX0_years_4 13 rfl rfl)
theorem dX0_years_105 : decode cX0_years 105 = .ok (.getfield 149, 3) := dk_180 0 149 (dk_at dksX0_years_4 14 rfl rfl)
theorem dX0_years_108 : decode cX0_years 108 = .ok (.invokevirtual 294, 3) := dk_182 1 38 (dk_at dksX0_years_4 17 rfl rfl)
theorem dX0_years_111 : decode cX0_years 111 = .ok (.pop, 1) := dk_87 (dk_at dksX0_years_4 20 rfl rfl)
theorem dX0_years_112 : decode cX0_years 112 = .ok (.iconst 0, 1) := dk_3 (dk_at dksX0_years_4 21 rfl rfl)
theorem dX0_years_113 : decode cX0_years 113 = .ok (.istore 8, 2) := dk_54 8 (dk_at dksX0_years_4 22 rfl rfl)
theorem dX0_years_115 : decode cX0_years 115 = .ok (.iload 8, 2) := dk_21 8 (dk_at dksX0_years_5 0 rfl rfl)
theorem dX0_years_117 : decode cX0_years 117 = .ok (.iload_n 2, 1) := dk_28 (dk_at dksX0_years_5 2 rfl rfl)
theorem dX0_years_118 : decode cX0_years 118 = .ok (.if_icmp .ge 37, 3) := dk_162 0 37 (dk_at dksX0_years_5 3 rfl rfl)
theorem dX0_years_121 : decode cX0_years 121 = .ok (.iload 4, 2) := dk_21 4 (dk_at dksX0_years_5 6 rfl rfl)
theorem dX0_years_123 : decode cX0_years 123 = .ok (.aload_n 0, 1) := dk_42 (dk_at dksX0_years_5 8 rfl rfl)
theorem dX0_years_124 : decode cX0_years 124 = .ok (.aload 6, 2) := dk_25 6 (dk_at dksX0_years_5 9 rfl rfl)
theorem dX0_years_126 : decode cX0_years 126 = .ok (.invokevirtual 391, 3) := dk_182 1 135 (dk_at dksX0_years_5 11 rfl rfl)
theorem dX0_years_129 : decode cX0_years 129 = .ok (.ifCond .eq 7, 3) := dk_153 0 7 (dk_at dksX0_years_5 14 rfl rfl)
theorem dX0_years_132 : decode cX0_years 132 = .ok (.iconst 1, 1) := dk_4 (dk_at dksX0_years_5 17 rfl rfl)
theorem dX0_years_133 : decode cX0_years 133 = .ok (.goto 4, 3) := dk_167 0 4 (dk_at dksX0_years_5 18 rfl rfl)
theorem dX0_years_136 : decode cX0_years 136 = .ok (.iconst 0, 1) := dk_3 (dk_at dksX0_years_5 21 rfl rfl)
theorem dX0_years_137 : decode cX0_years 137 = .ok (.iadd, 1) := dk_96 (dk_at dksX0_years_5 22 rfl rfl)
theorem dX0_years_138 : decode cX0_years 138 = .ok (.istore 4, 2) := dk_54 4 (dk_at dksX0_years_6 0 rfl rfl)
theorem dX0_years_140 : decode cX0_years 140 = .ok (.aload 6, 2) := dk_25 6 (dk_at dksX0_years_6 2 rfl rfl)
theorem dX0_years_142 : decode cX0_years 142 = .ok (.aload_n 0, 1) := dk_42 (dk_at dksX0_years_6 4 rfl rfl)
theorem dX0_years_143 : decode cX0_years 143 = .ok (.getfield 31, 3) := dk_180 0 31 (dk_at dksX0_years_6 5 rfl rfl)
theorem dX0_years_146 : decode cX0_years 146 = .ok (.invokevirtual 297, 3) := dk_182 1 41 (dk_at dksX0_years_6 8 rfl rfl)
theorem dX0_years_149 : decode cX0_years 149 = .ok (.iinc 8 1, 3) := dk_132 8 1 (dk_at dksX0_years_6 11 rfl rfl)
theorem dX0_years_152 : decode cX0_years 152 = .ok (.goto (-37), 3) := dk_167 255 219 (dk_at dksX0_years_6 14 rfl rfl)
theorem dX0_years_155 : decode cX0_years 155 = .ok (.iinc 7 1, 3) := dk_132 7 1 (dk_at dksX0_years_6 17 rfl rfl)
theorem dX0_years_158 : decode cX0_years 158 = .ok (.goto (-62), 3) := dk_167 255 194 (dk_at dksX0_years_6 20 rfl rfl)
theorem dX0_years_161 : decode cX0_years 161 = .ok (.iconst 0, 1) := dk_3 (dk_at dksX0_years_6 23 rfl rfl)
theorem dX0_years_162 : decode cX0_years 162 = .ok (.istore 7, 2) := dk_54 7 (dk_at dksX0_years_7 0 rfl rfl)
theorem dX0_years_164 : decode cX0_years 164 = .ok (.iload 7, 2) := dk_21 7 (dk_at dksX0_years_7 2 rfl rfl)
theorem dX0_years_166 : decode cX0_years 166 = .ok (.iconst 4, 1) := dk_7 (dk_at dksX0_years_7 4 rfl rfl)
theorem dX0_years_167 : decode cX0_years 167 = .ok (.if_icmp .ge 21, 3) := dk_162 0 21 (dk_at dksX0_years_7 5 rfl rfl)
theorem dX0_years_170 : decode cX0_years 170 = .ok (.iload 5, 2) := dk_21 5 (dk_at dksX0_years_7 8 rfl rfl)
theorem dX0_years_172 : decode cX0_years 172 = .ok (.aload_n 0, 1) := dk_42 (dk_at dksX0_years_7 10 rfl rfl)
theorem dX0_years_173 : decode cX0_years 173 = .ok (.getfield 31, 3) := dk_180 0 31 (dk_at dksX0_years_7 11 rfl rfl)
theorem dX0_years_176 : decode cX0_years 176 = .ok (.iload 7, 2) := dk_21 7 (dk_at dksX0_years_7 14 rfl rfl)
theorem dX0_years_178 : decode cX0_years 178 = .ok (.iaload, 1) := dk_46 (dk_at dksX0_years_7 16 rfl rfl)
theorem dX0_years_179 : decode cX0_years 179 = .ok (.iadd, 1) := dk_96 (dk_at dksX0_years_7 17 rfl rfl)
theorem dX0_years_180 : decode cX0_years 180 = .ok (.istore 5, 2) := dk_54 5 (dk_at dksX0_years_7 18 rfl rfl)
theorem dX0_years_182 : decode cX0_years 182 = .ok (.iinc 7 1, 3) := dk_132 7 1 (dk_at dksX0_years_7 20 rfl rfl)
theorem dX0_years_185 : decode cX0_years 185 = .ok (.goto (-21), 3) := dk_167 255 235 (dk_at dksX0_years_8 0 rfl rfl)
theorem dX0_years_188 : decode cX0_years 188 = .ok (.iload_n 3, 1) := dk_29 (dk_at dksX0_years_8 3 rfl rfl)
theorem dX0_years_189 : decode cX0_years 189 = .ok (.ifCond .ne 8, 3) := dk_154 0 8 (dk_at dksX0_years_8 4 rfl rfl)
theorem dX0_years_192 : decode cX0_years 192 = .ok (.iload 4, 2) := dk_21 4 (dk_at dksX0_years_8 7 rfl rfl)
theorem dX0_years_194 : decode cX0_years 194 = .ok (.goto 5, 3) := dk_167 0 5 (dk_at dksX0_years_8 9 rfl rfl)
theorem dX0_years_197 : decode cX0_years 197 = .ok (.iload 5, 2) := dk_21 5 (dk_at dksX0_years_8 12 rfl rfl)
theorem dX0_years_199 : decode cX0_years 199 = .ok (.ireturn, 1) := dk_172 (dk_at dksX0_years_8 14 rfl rfl)
abbrev cX0_paintsDrawn : ByteArray := prog_1_method_51_code
def yX0_paintsDrawn : MethodName := ⟨RX0, "paintsDrawn", "(LLatestCoat$Town;)Z"⟩
def dkwX0_paintsDrawn_2 : List UInt8 := [182, 1, 17, 4, 172]
abbrev dktX0_paintsDrawn_2 : List UInt8 := dkwX0_paintsDrawn_2 ++ []
def dkwX0_paintsDrawn_1 : List UInt8 := [61, 42, 43, 180, 0, 152, 182, 1, 130, 62, 43, 29, 28, 182, 1, 14, 154, 0, 5, 3, 172, 43, 29, 28]
abbrev dktX0_paintsDrawn_1 : List UInt8 := dkwX0_paintsDrawn_1 ++ dktX0_paintsDrawn_2
def dkwX0_paintsDrawn_0 : List UInt8 := [43, 180, 0, 169, 153, 0, 10, 43, 180, 0, 152, 154, 0, 5, 3, 172, 42, 43, 180, 0, 169, 182, 1, 130]
abbrev dktX0_paintsDrawn_0 : List UInt8 := dkwX0_paintsDrawn_0 ++ dktX0_paintsDrawn_1
theorem dksX0_paintsDrawn_0 : cX0_paintsDrawn.data.toList.drop 0 = dktX0_paintsDrawn_0 := by decide +kernel
theorem dksX0_paintsDrawn_1 : cX0_paintsDrawn.data.toList.drop 24 = dktX0_paintsDrawn_1 := dk_seg dksX0_paintsDrawn_0 24 rfl rfl
theorem dksX0_paintsDrawn_2 : cX0_paintsDrawn.data.toList.drop 48 = dktX0_paintsDrawn_2 := dk_seg dksX0_paintsDrawn_1 24 rfl rfl
theorem dX0_paintsDrawn_0 : decode cX0_paintsDrawn 0 = .ok (.aload_n 1, 1) := dk_43 (dk_at dksX0_paintsDrawn_0 0 rfl rfl)
theorem dX0_paintsDrawn_1 : decode cX0_paintsDrawn 1 = .ok (.getfield 169, 3) := dk_180 0 169 (dk_at dksX0_paintsDrawn_0 1 rfl rfl)
theorem dX0_paintsDrawn_4 : decode cX0_paintsDrawn 4 = .ok (.ifCond .eq 10, 3) := dk_153 0 10 (dk_at dksX0_paintsDrawn_0 4 rfl rfl)
theorem dX0_paintsDrawn_7 : decode cX0_paintsDrawn 7 = .ok (.aload_n 1, 1) := dk_43 (dk_at dksX0_paintsDrawn_0 7 rfl rfl)
theorem dX0_paintsDrawn_8 : decode cX0_paintsDrawn 8 = .ok (.getfield 152, 3) := dk_180 0 152 (dk_at dksX0_paintsDrawn_0 8 rfl rfl)
theorem dX0_paintsDrawn_11 : decode cX0_paintsDrawn 11 = .ok (.ifCond .ne 5, 3) := dk_154 0 5 (dk_at dksX0_paintsDrawn_0 11 rfl rfl)
theorem dX0_paintsDrawn_14 : decode cX0_paintsDrawn 14 = .ok (.iconst 0, 1) := dk_3 (dk_at dksX0_paintsDrawn_0 14 rfl rfl)
theorem dX0_paintsDrawn_15 : decode cX0_paintsDrawn 15 = .ok (.ireturn, 1) := dk_172 (dk_at dksX0_paintsDrawn_0 15 rfl rfl)
theorem dX0_paintsDrawn_16 : decode cX0_paintsDrawn 16 = .ok (.aload_n 0, 1) := dk_42 (dk_at dksX0_paintsDrawn_0 16 rfl rfl)
theorem dX0_paintsDrawn_17 : decode cX0_paintsDrawn 17 = .ok (.aload_n 1, 1) := dk_43 (dk_at dksX0_paintsDrawn_0 17 rfl rfl)
theorem dX0_paintsDrawn_18 : decode cX0_paintsDrawn 18 = .ok (.getfield 169, 3) := dk_180 0 169 (dk_at dksX0_paintsDrawn_0 18 rfl rfl)
theorem dX0_paintsDrawn_21 : decode cX0_paintsDrawn 21 = .ok (.invokevirtual 386, 3) := dk_182 1 130 (dk_at dksX0_paintsDrawn_0 21 rfl rfl)
theorem dX0_paintsDrawn_24 : decode cX0_paintsDrawn 24 = .ok (.istore_n 2, 1) := dk_61 (dk_at dksX0_paintsDrawn_1 0 rfl rfl)
theorem dX0_paintsDrawn_25 : decode cX0_paintsDrawn 25 = .ok (.aload_n 0, 1) := dk_42 (dk_at dksX0_paintsDrawn_1 1 rfl rfl)
theorem dX0_paintsDrawn_26 : decode cX0_paintsDrawn 26 = .ok (.aload_n 1, 1) := dk_43 (dk_at dksX0_paintsDrawn_1 2 rfl rfl)
theorem dX0_paintsDrawn_27 : decode cX0_paintsDrawn 27 = .ok (.getfield 152, 3) := dk_180 0 152 (dk_at dksX0_paintsDrawn_1 3 rfl rfl)
theorem dX0_paintsDrawn_30 : decode cX0_paintsDrawn 30 = .ok (.invokevirtual 386, 3) := dk_182 1 130 (dk_at dksX0_paintsDrawn_1 6 rfl rfl)
theorem dX0_paintsDrawn_33 : decode cX0_paintsDrawn 33 = .ok (.istore_n 3, 1) := dk_62 (dk_at dksX0_paintsDrawn_1 9 rfl rfl)
theorem dX0_paintsDrawn_34 : decode cX0_paintsDrawn 34 = .ok (.aload_n 1, 1) := dk_43 (dk_at dksX0_paintsDrawn_1 10 rfl rfl)
theorem dX0_paintsDrawn_35 : decode cX0_paintsDrawn 35 = .ok (.iload_n 3, 1) := dk_29 (dk_at dksX0_paintsDrawn_1 11 rfl rfl)
theorem dX0_paintsDrawn_36 : decode cX0_paintsDrawn 36 = .ok (.iload_n 2, 1) := dk_28 (dk_at dksX0_paintsDrawn_1 12 rfl rfl)
theorem dX0_paintsDrawn_37 : decode cX0_paintsDrawn 37 = .ok (.invokevirtual 270, 3) := dk_182 1 14 (dk_at dksX0_paintsDrawn_1 13 rfl rfl)
theorem dX0_paintsDrawn_40 : decode cX0_paintsDrawn 40 = .ok (.ifCond .ne 5, 3) := dk_154 0 5 (dk_at dksX0_paintsDrawn_1 16 rfl rfl)
theorem dX0_paintsDrawn_43 : decode cX0_paintsDrawn 43 = .ok (.iconst 0, 1) := dk_3 (dk_at dksX0_paintsDrawn_1 19 rfl rfl)
theorem dX0_paintsDrawn_44 : decode cX0_paintsDrawn 44 = .ok (.ireturn, 1) := dk_172 (dk_at dksX0_paintsDrawn_1 20 rfl rfl)
theorem dX0_paintsDrawn_45 : decode cX0_paintsDrawn 45 = .ok (.aload_n 1, 1) := dk_43 (dk_at dksX0_paintsDrawn_1 21 rfl rfl)
theorem dX0_paintsDrawn_46 : decode cX0_paintsDrawn 46 = .ok (.iload_n 3, 1) := dk_29 (dk_at dksX0_paintsDrawn_1 22 rfl rfl)
theorem dX0_paintsDrawn_47 : decode cX0_paintsDrawn 47 = .ok (.iload_n 2, 1) := dk_28 (dk_at dksX0_paintsDrawn_1 23 rfl rfl)
theorem dX0_paintsDrawn_48 : decode cX0_paintsDrawn 48 = .ok (.invokevirtual 273, 3) := dk_182 1 17 (dk_at dksX0_paintsDrawn_2 0 rfl rfl)
theorem dX0_paintsDrawn_51 : decode cX0_paintsDrawn 51 = .ok (.iconst 1, 1) := dk_4 (dk_at dksX0_paintsDrawn_2 3 rfl rfl)
theorem dX0_paintsDrawn_52 : decode cX0_paintsDrawn 52 = .ok (.ireturn, 1) := dk_172 (dk_at dksX0_paintsDrawn_2 4 rfl rfl)
abbrev cX0_draw : ByteArray := prog_1_method_50_code
def yX0_draw : MethodName := ⟨RX0, "draw", "(I)I"⟩
def dkwX0_draw_1 : List UInt8 := [180, 1, 120, 19, 1, 129, 108, 27, 112, 172]
abbrev dktX0_draw_1 : List UInt8 := dkwX0_draw_1 ++ []
def dkwX0_draw_0 : List UInt8 := [42, 42, 180, 1, 120, 133, 20, 1, 123, 105, 20, 1, 125, 97, 20, 1, 127, 113, 136, 181, 1, 120, 42]
abbrev dktX0_draw_0 : List UInt8 := dkwX0_draw_0 ++ dktX0_draw_1
theorem dksX0_draw_0 : cX0_draw.data.toList.drop 0 = dktX0_draw_0 := by decide +kernel
theorem dksX0_draw_1 : cX0_draw.data.toList.drop 23 = dktX0_draw_1 := dk_seg dksX0_draw_0 23 rfl rfl
theorem dX0_draw_0 : decode cX0_draw 0 = .ok (.aload_n 0, 1) := dk_42 (dk_at dksX0_draw_0 0 rfl rfl)
theorem dX0_draw_1 : decode cX0_draw 1 = .ok (.aload_n 0, 1) := dk_42 (dk_at dksX0_draw_0 1 rfl rfl)
theorem dX0_draw_2 : decode cX0_draw 2 = .ok (.getfield 376, 3) := dk_180 1 120 (dk_at dksX0_draw_0 2 rfl rfl)
theorem dX0_draw_5 : decode cX0_draw 5 = .ok (.i2l, 1) := dk_133 (dk_at dksX0_draw_0 5 rfl rfl)
theorem dX0_draw_6 : decode cX0_draw 6 = .ok (.ldc2_w 379, 3) := dk_20 1 123 (dk_at dksX0_draw_0 6 rfl rfl)
theorem dX0_draw_9 : decode cX0_draw 9 = .ok (.lmul, 1) := dk_105 (dk_at dksX0_draw_0 9 rfl rfl)
theorem dX0_draw_10 : decode cX0_draw 10 = .ok (.ldc2_w 381, 3) := dk_20 1 125 (dk_at dksX0_draw_0 10 rfl rfl)
theorem dX0_draw_13 : decode cX0_draw 13 = .ok (.ladd, 1) := dk_97 (dk_at dksX0_draw_0 13 rfl rfl)
theorem dX0_draw_14 : decode cX0_draw 14 = .ok (.ldc2_w 383, 3) := dk_20 1 127 (dk_at dksX0_draw_0 14 rfl rfl)
theorem dX0_draw_17 : decode cX0_draw 17 = .ok (.lrem, 1) := dk_113 (dk_at dksX0_draw_0 17 rfl rfl)
theorem dX0_draw_18 : decode cX0_draw 18 = .ok (.l2i, 1) := dk_136 (dk_at dksX0_draw_0 18 rfl rfl)
theorem dX0_draw_19 : decode cX0_draw 19 = .ok (.putfield 376, 3) := dk_181 1 120 (dk_at dksX0_draw_0 19 rfl rfl)
theorem dX0_draw_22 : decode cX0_draw 22 = .ok (.aload_n 0, 1) := dk_42 (dk_at dksX0_draw_0 22 rfl rfl)
theorem dX0_draw_23 : decode cX0_draw 23 = .ok (.getfield 376, 3) := dk_180 1 120 (dk_at dksX0_draw_1 0 rfl rfl)
theorem dX0_draw_26 : decode cX0_draw 26 = .ok (.ldc_w 385, 3) := dk_19 1 129 (dk_at dksX0_draw_1 3 rfl rfl)
theorem dX0_draw_29 : decode cX0_draw 29 = .ok (.idiv, 1) := dk_108 (dk_at dksX0_draw_1 6 rfl rfl)
theorem dX0_draw_30 : decode cX0_draw 30 = .ok (.iload_n 1, 1) := dk_27 (dk_at dksX0_draw_1 7 rfl rfl)
theorem dX0_draw_31 : decode cX0_draw 31 = .ok (.irem, 1) := dk_112 (dk_at dksX0_draw_1 8 rfl rfl)
theorem dX0_draw_32 : decode cX0_draw 32 = .ok (.ireturn, 1) := dk_172 (dk_at dksX0_draw_1 9 rfl rfl)
abbrev cX0_count : ByteArray := prog_1_method_53_code
def yX0_count : MethodName := ⟨RX0, "count", "(I)I"⟩
def dkwX0_count_10 : List UInt8 := [180, 1, 96, 172, 42, 180, 0, 149, 180, 0, 239, 172]
abbrev dktX0_count_10 : List UInt8 := dkwX0_count_10 ++ []
def dkwX0_count_9 : List UInt8 := [3, 128, 61, 132, 3, 1, 167, 255, 221, 28, 172, 42, 180, 0, 149, 180, 0, 225, 172, 42, 180, 0, 149]
abbrev dktX0_count_9 : List UInt8 := dkwX0_count_9 ++ dktX0_count_10
def dkwX0_count_8 : List UInt8 := [180, 0, 152, 162, 0, 30, 28, 42, 180, 0, 149, 29, 182, 0, 188, 153, 0, 9, 4, 29, 120, 167, 0, 4]
abbrev dktX0_count_8 : List UInt8 := dkwX0_count_8 ++ dktX0_count_9
def dkwX0_count_7 : List UInt8 := [42, 180, 0, 149, 180, 1, 143, 172, 42, 180, 0, 149, 180, 1, 1, 172, 3, 62, 29, 42, 180, 0, 149]
abbrev dktX0_count_7 : List UInt8 := dkwX0_count_7 ++ dktX0_count_8
def dkwX0_count_6 : List UInt8 := [42, 180, 0, 149, 180, 0, 166, 172, 42, 180, 0, 149, 180, 0, 152, 172, 42, 180, 0, 149, 180, 0, 169, 172]
abbrev dktX0_count_6 : List UInt8 := dkwX0_count_6 ++ dktX0_count_7
def dkwX0_count_5 : List UInt8 := [42, 180, 0, 149, 180, 1, 63, 172, 42, 180, 0, 149, 180, 1, 84, 172, 42, 180, 0, 149, 180, 1, 140, 172]
abbrev dktX0_count_5 : List UInt8 := dkwX0_count_5 ++ dktX0_count_6
def dkwX0_count_4 : List UInt8 := [170, 0, 0, 0, 0, 188, 0, 0, 0, 0, 0, 0, 0, 12, 0, 0, 0, 66, 0, 0, 0, 74, 0, 0, 0, 82, 0, 0, 0, 90, 0, 0, 0, 98, 0, 0, 0, 106, 0, 0, 0, 114, 0, 0, 0, 188, 0, 0, 0, 188, 0, 0, 0, 122, 0, 0, 0, 130, 0, 0, 0, 172, 0, 0, 0, 180]
abbrev dktX0_count_4 : List UInt8 := dkwX0_count_4 ++ dktX0_count_5
def dkwX0_count_3 : List UInt8 := [20, 1, 138, 184, 0, 193, 154, 0, 5, 2, 172, 42, 180, 0, 149, 199, 0, 5, 3, 172, 3, 61, 27]
abbrev dktX0_count_3 : List UInt8 := dkwX0_count_3 ++ dktX0_count_4
def dkwX0_count_2 : List UInt8 := [42, 180, 0, 159, 172, 42, 180, 0, 35, 172, 42, 180, 1, 117, 172, 42, 180, 0, 123, 172, 27, 133, 9]
abbrev dktX0_count_2 : List UInt8 := dkwX0_count_2 ++ dktX0_count_3
def dkwX0_count_1 : List UInt8 := [170, 0, 0, 0, 0, 0, 71, 0, 0, 0, 7, 0, 0, 0, 15, 0, 0, 0, 51, 0, 0, 0, 56, 0, 0, 0, 71, 0, 0, 0, 71, 0, 0, 0, 71, 0, 0, 0, 71, 0, 0, 0, 71, 0, 0, 0, 61, 0, 0, 0, 66]
abbrev dktX0_count_1 : List UInt8 := dkwX0_count_1 ++ dktX0_count_2
def dkwX0_count_0 : List UInt8 := [27]
abbrev dktX0_count_0 : List UInt8 := dkwX0_count_0 ++ dktX0_count_1
theorem dksX0_count_0 : cX0_count.data.toList.drop 0 = dktX0_count_0 := by decide +kernel
theorem dksX0_count_1 : cX0_count.data.toList.drop 1 = dktX0_count_1 := dk_seg dksX0_count_0 1 rfl rfl
theorem dksX0_count_2 : cX0_count.data.toList.drop 52 = dktX0_count_2 := dk_seg dksX0_count_1 51 rfl rfl
theorem dksX0_count_3 : cX0_count.data.toList.drop 75 = dktX0_count_3 := dk_seg dksX0_count_2 23 rfl rfl
theorem dksX0_count_4 : cX0_count.data.toList.drop 98 = dktX0_count_4 := dk_seg dksX0_count_3 23 rfl rfl
theorem dksX0_count_5 : cX0_count.data.toList.drop 164 = dktX0_count_5 := dk_seg dksX0_count_4 66 rfl rfl
theorem dksX0_count_6 : cX0_count.data.toList.drop 188 = dktX0_count_6 := dk_seg dksX0_count_5 24 rfl rfl
theorem dksX0_count_7 : cX0_count.data.toList.drop 212 = dktX0_count_7 := dk_seg dksX0_count_6 24 rfl rfl
theorem dksX0_count_8 : cX0_count.data.toList.drop 235 = dktX0_count_8 := dk_seg dksX0_count_7 23 rfl rfl
theorem dksX0_count_9 : cX0_count.data.toList.drop 259 = dktX0_count_9 := dk_seg dksX0_count_8 24 rfl rfl
theorem dksX0_count_10 : cX0_count.data.toList.drop 282 = dktX0_count_10 := dk_seg dksX0_count_9 23 rfl rfl
theorem dX0_count_0 : decode cX0_count 0 = .ok (.iload_n 1, 1) := dk_27 (dk_at dksX0_count_0 0 rfl rfl)
theorem dX0_count_1 : decode cX0_count 1 = .ok (.tableswitch 71 7 15 #[51, 56, 71, 71, 71, 71, 71, 61, 66], 51) := by decide +kernel
theorem dX0_count_52 : decode cX0_count 52 = .ok (.aload_n 0, 1) := dk_42 (dk_at dksX0_count_2 0 rfl rfl)
theorem dX0_count_53 : decode cX0_count 53 = .ok (.getfield 159, 3) := dk_180 0 159 (dk_at dksX0_count_2 1 rfl rfl)
theorem dX0_count_56 : decode cX0_count 56 = .ok (.ireturn, 1) := dk_172 (dk_at dksX0_count_2 4 rfl rfl)
theorem dX0_count_57 : decode cX0_count 57 = .ok (.aload_n 0, 1) := dk_42 (dk_at dksX0_count_2 5 rfl rfl)
theorem dX0_count_58 : decode cX0_count 58 = .ok (.getfield 35, 3) := dk_180 0 35 (dk_at dksX0_count_2 6 rfl rfl)
theorem dX0_count_61 : decode cX0_count 61 = .ok (.ireturn, 1) := dk_172 (dk_at dksX0_count_2 9 rfl rfl)
theorem dX0_count_62 : decode cX0_count 62 = .ok (.aload_n 0, 1) := dk_42 (dk_at dksX0_count_2 10 rfl rfl)
theorem dX0_count_63 : decode cX0_count 63 = .ok (.getfield 373, 3) := dk_180 1 117 (dk_at dksX0_count_2 11 rfl rfl)
theorem dX0_count_66 : decode cX0_count 66 = .ok (.ireturn, 1) := dk_172 (dk_at dksX0_count_2 14 rfl rfl)
theorem dX0_count_67 : decode cX0_count 67 = .ok (.aload_n 0, 1) := dk_42 (dk_at dksX0_count_2 15 rfl rfl)
theorem dX0_count_68 : decode cX0_count 68 = .ok (.getfield 123, 3) := dk_180 0 123 (dk_at dksX0_count_2 16 rfl rfl)
theorem dX0_count_71 : decode cX0_count 71 = .ok (.ireturn, 1) := dk_172 (dk_at dksX0_count_2 19 rfl rfl)
theorem dX0_count_72 : decode cX0_count 72 = .ok (.iload_n 1, 1) := dk_27 (dk_at dksX0_count_2 20 rfl rfl)
theorem dX0_count_73 : decode cX0_count 73 = .ok (.i2l, 1) := dk_133 (dk_at dksX0_count_2 21 rfl rfl)
theorem dX0_count_74 : decode cX0_count 74 = .ok (.lconst 0, 1) := dk_9 (dk_at dksX0_count_2 22 rfl rfl)
theorem dX0_count_75 : decode cX0_count 75 = .ok (.ldc2_w 394, 3) := dk_20 1 138 (dk_at dksX0_count_3 0 rfl rfl)
theorem dX0_count_78 : decode cX0_count 78 = .ok (.invokestatic 193, 3) := dk_184 0 193 (dk_at dksX0_count_3 3 rfl rfl)
theorem dX0_count_81 : decode cX0_count 81 = .ok (.ifCond .ne 5, 3) := dk_154 0 5 (dk_at dksX0_count_3 6 rfl rfl)
theorem dX0_count_84 : decode cX0_count 84 = .ok (.iconst (-1), 1) := dk_2 (dk_at dksX0_count_3 9 rfl rfl)
theorem dX0_count_85 : decode cX0_count 85 = .ok (.ireturn, 1) := dk_172 (dk_at dksX0_count_3 10 rfl rfl)
theorem dX0_count_86 : decode cX0_count 86 = .ok (.aload_n 0, 1) := dk_42 (dk_at dksX0_count_3 11 rfl rfl)
theorem dX0_count_87 : decode cX0_count 87 = .ok (.getfield 149, 3) := dk_180 0 149 (dk_at dksX0_count_3 12 rfl rfl)
theorem dX0_count_90 : decode cX0_count 90 = .ok (.ifnonnull 5, 3) := dk_199 0 5 (dk_at dksX0_count_3 15 rfl rfl)
theorem dX0_count_93 : decode cX0_count 93 = .ok (.iconst 0, 1) := dk_3 (dk_at dksX0_count_3 18 rfl rfl)
theorem dX0_count_94 : decode cX0_count 94 = .ok (.ireturn, 1) := dk_172 (dk_at dksX0_count_3 19 rfl rfl)
theorem dX0_count_95 : decode cX0_count 95 = .ok (.iconst 0, 1) := dk_3 (dk_at dksX0_count_3 20 rfl rfl)
theorem dX0_count_96 : decode cX0_count 96 = .ok (.istore_n 2, 1) := dk_61 (dk_at dksX0_count_3 21 rfl rfl)
theorem dX0_count_97 : decode cX0_count 97 = .ok (.iload_n 1, 1) := dk_27 (dk_at dksX0_count_3 22 rfl rfl)
theorem dX0_count_98 : decode cX0_count 98 = .ok (.tableswitch 188 0 12 #[66, 74, 82, 90, 98, 106, 114, 188, 188, 122, 130, 172, 180], 66) := by decide +kernel
theorem dX0_count_164 : decode cX0_count 164 = .ok (.aload_n 0, 1) := dk_42 (dk_at dksX0_count_5 0 rfl rfl)
theorem dX0_count_165 : decode cX0_count 165 = .ok (.getfield 149, 3) := dk_180 0 149 (dk_at dksX0_count_5 1 rfl rfl)
theorem dX0_count_168 : decode cX0_count 168 = .ok (.getfield 319, 3) := dk_180 1 63 (dk_at dksX0_count_5 4 rfl rfl)
theorem dX0_count_171 : decode cX0_count 171 = .ok (.ireturn, 1) := dk_172 (dk_at dksX0_count_5 7 rfl rfl)
theorem dX0_count_172 : decode cX0_count 172 = .ok (.aload_n 0, 1) := dk_42 (dk_at dksX0_count_5 8 rfl rfl)
theorem dX0_count_173 : decode cX0_count 173 = .ok (.getfield 149, 3) := dk_180 0 149 (dk_at dksX0_count_5 9 rfl rfl)
theorem dX0_count_176 : decode cX0_count 176 = .ok (.getfield 340, 3) := dk_180 1 84 (dk_at dksX0_count_5 12 rfl rfl)
theorem dX0_count_179 : decode cX0_count 179 = .ok (.ireturn, 1) := dk_172 (dk_at dksX0_count_5 15 rfl rfl)
theorem dX0_count_180 : decode cX0_count 180 = .ok (.aload_n 0, 1) := dk_42 (dk_at dksX0_count_5 16 rfl rfl)
theorem dX0_count_181 : decode cX0_count 181 = .ok (.getfield 149, 3) := dk_180 0 149 (dk_at dksX0_count_5 17 rfl rfl)
theorem dX0_count_184 : decode cX0_count 184 = .ok (.getfield 396, 3) := dk_180 1 140 (dk_at dksX0_count_5 20 rfl rfl)
theorem dX0_count_187 : decode cX0_count 187 = .ok (.ireturn, 1) := dk_172 (dk_at dksX0_count_5 23 rfl rfl)
theorem dX0_count_188 : decode cX0_count 188 = .ok (.aload_n 0, 1) := dk_42 (dk_at dksX0_count_6 0 rfl rfl)
theorem dX0_count_189 : decode cX0_count 189 = .ok (.getfield 149, 3) := dk_180 0 149 (dk_at dksX0_count_6 1 rfl rfl)
theorem dX0_count_192 : decode cX0_count 192 = .ok (.getfield 166, 3) := dk_180 0 166 (dk_at dksX0_count_6 4 rfl rfl)
theorem dX0_count_195 : decode cX0_count 195 = .ok (.ireturn, 1) := dk_172 (dk_at dksX0_count_6 7 rfl rfl)
theorem dX0_count_196 : decode cX0_count 196 = .ok (.aload_n 0, 1) := dk_42 (dk_at dksX0_count_6 8 rfl rfl)
theorem dX0_count_197 : decode cX0_count 197 = .ok (.getfield 149, 3) := dk_180 0 149 (dk_at dksX0_count_6 9 rfl rfl)
theorem dX0_count_200 : decode cX0_count 200 = .ok (.getfield 152, 3) := dk_180 0 152 (dk_at dksX0_count_6 12 rfl rfl)
theorem dX0_count_203 : decode cX0_count 203 = .ok (.ireturn, 1) := dk_172 (dk_at dksX0_count_6 15 rfl rfl)
theorem dX0_count_204 : decode cX0_count 204 = .ok (.aload_n 0, 1) := dk_42 (dk_at dksX0_count_6 16 rfl rfl)
theorem dX0_count_205 : decode cX0_count 205 = .ok (.getfield 149, 3) := dk_180 0 149 (dk_at dksX0_count_6 17 rfl rfl)
theorem dX0_count_208 : decode cX0_count 208 = .ok (.getfield 169, 3) := dk_180 0 169 (dk_at dksX0_count_6 20 rfl rfl)
theorem dX0_count_211 : decode cX0_count 211 = .ok (.ireturn, 1) := dk_172 (dk_at dksX0_count_6 23 rfl rfl)
theorem dX0_count_212 : decode cX0_count 212 = .ok (.aload_n 0, 1) := dk_42 (dk_at dksX0_count_7 0 rfl rfl)
theorem dX0_count_213 : decode cX0_count 213 = .ok (.getfield 149, 3) := dk_180 0 149 (dk_at dksX0_count_7 1 rfl rfl)
theorem dX0_count_216 : decode cX0_count 216 = .ok (.getfield 399, 3) := dk_180 1 143 (dk_at dksX0_count_7 4 rfl rfl)
theorem dX0_count_219 : decode cX0_count 219 = .ok (.ireturn, 1) := dk_172 (dk_at dksX0_count_7 7 rfl rfl)
theorem dX0_count_220 : decode cX0_count 220 = .ok (.aload_n 0, 1) := dk_42 (dk_at dksX0_count_7 8 rfl rfl)
theorem dX0_count_221 : decode cX0_count 221 = .ok (.getfield 149, 3) := dk_180 0 149 (dk_at dksX0_count_7 9 rfl rfl)
theorem dX0_count_224 : decode cX0_count 224 = .ok (.getfield 257, 3) := dk_180 1 1 (dk_at dksX0_count_7 12 rfl rfl)
theorem dX0_count_227 : decode cX0_count 227 = .ok (.ireturn, 1) := dk_172 (dk_at dksX0_count_7 15 rfl rfl)
theorem dX0_count_228 : decode cX0_count 228 = .ok (.iconst 0, 1) := dk_3 (dk_at dksX0_count_7 16 rfl rfl)
theorem dX0_count_229 : decode cX0_count 229 = .ok (.istore_n 3, 1) := dk_62 (dk_at dksX0_count_7 17 rfl rfl)
theorem dX0_count_230 : decode cX0_count 230 = .ok (.iload_n 3, 1) := dk_29 (dk_at dksX0_count_7 18 rfl rfl)
theorem dX0_count_231 : decode cX0_count 231 = .ok (.aload_n 0, 1) := dk_42 (dk_at dksX0_count_7 19 rfl rfl)
theorem dX0_count_232 : decode cX0_count 232 = .ok (.getfield 149, 3) := dk_180 0 149 (dk_at dksX0_count_7 20 rfl rfl)
theorem dX0_count_235 : decode cX0_count 235 = .ok (.getfield 152, 3) := dk_180 0 152 (dk_at dksX0_count_8 0 rfl rfl)
theorem dX0_count_238 : decode cX0_count 238 = .ok (.if_icmp .ge 30, 3) := dk_162 0 30 (dk_at dksX0_count_8 3 rfl rfl)
theorem dX0_count_241 : decode cX0_count 241 = .ok (.iload_n 2, 1) := dk_28 (dk_at dksX0_count_8 6 rfl rfl)
theorem dX0_count_242 : decode cX0_count 242 = .ok (.aload_n 0, 1) := dk_42 (dk_at dksX0_count_8 7 rfl rfl)
theorem dX0_count_243 : decode cX0_count 243 = .ok (.getfield 149, 3) := dk_180 0 149 (dk_at dksX0_count_8 8 rfl rfl)
theorem dX0_count_246 : decode cX0_count 246 = .ok (.iload_n 3, 1) := dk_29 (dk_at dksX0_count_8 11 rfl rfl)
theorem dX0_count_247 : decode cX0_count 247 = .ok (.invokevirtual 188, 3) := dk_182 0 188 (dk_at dksX0_count_8 12 rfl rfl)
theorem dX0_count_250 : decode cX0_count 250 = .ok (.ifCond .eq 9, 3) := dk_153 0 9 (dk_at dksX0_count_8 15 rfl rfl)
theorem dX0_count_253 : decode cX0_count 253 = .ok (.iconst 1, 1) := dk_4 (dk_at dksX0_count_8 18 rfl rfl)
theorem dX0_count_254 : decode cX0_count 254 = .ok (.iload_n 3, 1) := dk_29 (dk_at dksX0_count_8 19 rfl rfl)
theorem dX0_count_255 : decode cX0_count 255 = .ok (.ishl, 1) := dk_120 (dk_at dksX0_count_8 20 rfl rfl)
theorem dX0_count_256 : decode cX0_count 256 = .ok (.goto 4, 3) := dk_167 0 4 (dk_at dksX0_count_8 21 rfl rfl)
theorem dX0_count_259 : decode cX0_count 259 = .ok (.iconst 0, 1) := dk_3 (dk_at dksX0_count_9 0 rfl rfl)
theorem dX0_count_260 : decode cX0_count 260 = .ok (.ior, 1) := dk_128 (dk_at dksX0_count_9 1 rfl rfl)
theorem dX0_count_261 : decode cX0_count 261 = .ok (.istore_n 2, 1) := dk_61 (dk_at dksX0_count_9 2 rfl rfl)
theorem dX0_count_262 : decode cX0_count 262 = .ok (.iinc 3 1, 3) := dk_132 3 1 (dk_at dksX0_count_9 3 rfl rfl)
theorem dX0_count_265 : decode cX0_count 265 = .ok (.goto (-35), 3) := dk_167 255 221 (dk_at dksX0_count_9 6 rfl rfl)
theorem dX0_count_268 : decode cX0_count 268 = .ok (.iload_n 2, 1) := dk_28 (dk_at dksX0_count_9 9 rfl rfl)
theorem dX0_count_269 : decode cX0_count 269 = .ok (.ireturn, 1) := dk_172 (dk_at dksX0_count_9 10 rfl rfl)
theorem dX0_count_270 : decode cX0_count 270 = .ok (.aload_n 0, 1) := dk_42 (dk_at dksX0_count_9 11 rfl rfl)
theorem dX0_count_271 : decode cX0_count 271 = .ok (.getfield 149, 3) := dk_180 0 149 (dk_at dksX0_count_9 12 rfl rfl)
theorem dX0_count_274 : decode cX0_count 274 = .ok (.getfield 225, 3) := dk_180 0 225 (dk_at dksX0_count_9 15 rfl rfl)
theorem dX0_count_277 : decode cX0_count 277 = .ok (.ireturn, 1) := dk_172 (dk_at dksX0_count_9 18 rfl rfl)
theorem dX0_count_278 : decode cX0_count 278 = .ok (.aload_n 0, 1) := dk_42 (dk_at dksX0_count_9 19 rfl rfl)
theorem dX0_count_279 : decode cX0_count 279 = .ok (.getfield 149, 3) := dk_180 0 149 (dk_at dksX0_count_9 20 rfl rfl)
theorem dX0_count_282 : decode cX0_count 282 = .ok (.getfield 352, 3) := dk_180 1 96 (dk_at dksX0_count_10 0 rfl rfl)
theorem dX0_count_285 : decode cX0_count 285 = .ok (.ireturn, 1) := dk_172 (dk_at dksX0_count_10 3 rfl rfl)
theorem dX0_count_286 : decode cX0_count 286 = .ok (.aload_n 0, 1) := dk_42 (dk_at dksX0_count_10 4 rfl rfl)
theorem dX0_count_287 : decode cX0_count 287 = .ok (.getfield 149, 3) := dk_180 0 149 (dk_at dksX0_count_10 5 rfl rfl)
theorem dX0_count_290 : decode cX0_count 290 = .ok (.getfield 239, 3) := dk_180 0 239 (dk_at dksX0_count_10 8 rfl rfl)
theorem dX0_count_293 : decode cX0_count 293 = .ok (.ireturn, 1) := dk_172 (dk_at dksX0_count_10 11 rfl rfl)
abbrev cX0_image : ByteArray := prog_1_method_54_code
def yX0_image : MethodName := ⟨RX0, "image", "(I)I"⟩
def dkwX0_image_4 : List UInt8 := [42, 180, 0, 149, 180, 1, 1, 172]
abbrev dktX0_image_4 : List UInt8 := dkwX0_image_4 ++ []
def dkwX0_image_3 : List UInt8 := [181, 1, 153, 42, 180, 0, 149, 199, 0, 5, 3, 172, 44, 180, 1, 154, 42, 180, 0, 149, 182, 0, 145, 87]
abbrev dktX0_image_3 : List UInt8 := dkwX0_image_3 ++ dktX0_image_4
def dkwX0_image_2 : List UInt8 := [198, 0, 7, 4, 167, 0, 4, 3, 181, 1, 148, 44, 42, 180, 1, 117, 181, 1, 152, 44, 42, 180, 0, 35]
abbrev dktX0_image_2 : List UInt8 := dkwX0_image_2 ++ dktX0_image_3
def dkwX0_image_1 : List UInt8 := [180, 0, 119, 27, 187, 0, 117, 89, 183, 1, 147, 83, 42, 180, 0, 119, 27, 50, 77, 44, 42, 180, 0, 149]
abbrev dktX0_image_1 : List UInt8 := dkwX0_image_1 ++ dktX0_image_2
def dkwX0_image_0 : List UInt8 := [27, 133, 9, 20, 1, 145, 184, 0, 193, 154, 0, 5, 2, 172, 42, 180, 0, 119, 27, 50, 199, 0, 16, 42]
abbrev dktX0_image_0 : List UInt8 := dkwX0_image_0 ++ dktX0_image_1
theorem dksX0_image_0 : cX0_image.data.toList.drop 0 = dktX0_image_0 := by decide +kernel
theorem dksX0_image_1 : cX0_image.data.toList.drop 24 = dktX0_image_1 := dk_seg dksX0_image_0 24 rfl rfl
theorem dksX0_image_2 : cX0_image.data.toList.drop 48 = dktX0_image_2 := dk_seg dksX0_image_1 24 rfl rfl
theorem dksX0_image_3 : cX0_image.data.toList.drop 72 = dktX0_image_3 := dk_seg dksX0_image_2 24 rfl rfl
theorem dksX0_image_4 : cX0_image.data.toList.drop 96 = dktX0_image_4 := dk_seg dksX0_image_3 24 rfl rfl
theorem dX0_image_0 : decode cX0_image 0 = .ok (.iload_n 1, 1) := dk_27 (dk_at dksX0_image_0 0 rfl rfl)
theorem dX0_image_1 : decode cX0_image 1 = .ok (.i2l, 1) := dk_133 (dk_at dksX0_image_0 1 rfl rfl)
theorem dX0_image_2 : decode cX0_image 2 = .ok (.lconst 0, 1) := dk_9 (dk_at dksX0_image_0 2 rfl rfl)
theorem dX0_image_3 : decode cX0_image 3 = .ok (.ldc2_w 401, 3) := dk_20 1 145 (dk_at dksX0_image_0 3 rfl rfl)
theorem dX0_image_6 : decode cX0_image 6 = .ok (.invokestatic 193, 3) := dk_184 0 193 (dk_at dksX0_image_0 6 rfl rfl)
theorem dX0_image_9 : decode cX0_image 9 = .ok (.ifCond .ne 5, 3) := dk_154 0 5 (dk_at dksX0_image_0 9 rfl rfl)
theorem dX0_image_12 : decode cX0_image 12 = .ok (.iconst (-1), 1) := dk_2 (dk_at dksX0_image_0 12 rfl rfl)
theorem dX0_image_13 : decode cX0_image 13 = .ok (.ireturn, 1) := dk_172 (dk_at dksX0_image_0 13 rfl rfl)
theorem dX0_image_14 : decode cX0_image 14 = .ok (.aload_n 0, 1) := dk_42 (dk_at dksX0_image_0 14 rfl rfl)
theorem dX0_image_15 : decode cX0_image 15 = .ok (.getfield 119, 3) := dk_180 0 119 (dk_at dksX0_image_0 15 rfl rfl)
theorem dX0_image_18 : decode cX0_image 18 = .ok (.iload_n 1, 1) := dk_27 (dk_at dksX0_image_0 18 rfl rfl)
theorem dX0_image_19 : decode cX0_image 19 = .ok (.aaload, 1) := dk_50 (dk_at dksX0_image_0 19 rfl rfl)
theorem dX0_image_20 : decode cX0_image 20 = .ok (.ifnonnull 16, 3) := dk_199 0 16 (dk_at dksX0_image_0 20 rfl rfl)
theorem dX0_image_23 : decode cX0_image 23 = .ok (.aload_n 0, 1) := dk_42 (dk_at dksX0_image_0 23 rfl rfl)
theorem dX0_image_24 : decode cX0_image 24 = .ok (.getfield 119, 3) := dk_180 0 119 (dk_at dksX0_image_1 0 rfl rfl)
theorem dX0_image_27 : decode cX0_image 27 = .ok (.iload_n 1, 1) := dk_27 (dk_at dksX0_image_1 3 rfl rfl)
theorem dX0_image_28 : decode cX0_image 28 = .ok (.new 117, 3) := dk_187 0 117 (dk_at dksX0_image_1 4 rfl rfl)
theorem dX0_image_31 : decode cX0_image 31 = .ok (.dup, 1) := dk_89 (dk_at dksX0_image_1 7 rfl rfl)
theorem dX0_image_32 : decode cX0_image 32 = .ok (.invokespecial 403, 3) := dk_183 1 147 (dk_at dksX0_image_1 8 rfl rfl)
theorem dX0_image_35 : decode cX0_image 35 = .ok (.aastore, 1) := dk_83 (dk_at dksX0_image_1 11 rfl rfl)
theorem dX0_image_36 : decode cX0_image 36 = .ok (.aload_n 0, 1) := dk_42 (dk_at dksX0_image_1 12 rfl rfl)
theorem dX0_image_37 : decode cX0_image 37 = .ok (.getfield 119, 3) := dk_180 0 119 (dk_at dksX0_image_1 13 rfl rfl)
theorem dX0_image_40 : decode cX0_image 40 = .ok (.iload_n 1, 1) := dk_27 (dk_at dksX0_image_1 16 rfl rfl)
theorem dX0_image_41 : decode cX0_image 41 = .ok (.aaload, 1) := dk_50 (dk_at dksX0_image_1 17 rfl rfl)
theorem dX0_image_42 : decode cX0_image 42 = .ok (.astore_n 2, 1) := dk_77 (dk_at dksX0_image_1 18 rfl rfl)
theorem dX0_image_43 : decode cX0_image 43 = .ok (.aload_n 2, 1) := dk_44 (dk_at dksX0_image_1 19 rfl rfl)
theorem dX0_image_44 : decode cX0_image 44 = .ok (.aload_n 0, 1) := dk_42 (dk_at dksX0_image_1 20 rfl rfl)
theorem dX0_image_45 : decode cX0_image 45 = .ok (.getfield 149, 3) := dk_180 0 149 (dk_at dksX0_image_1 21 rfl rfl)
theorem dX0_image_48 : decode cX0_image 48 = .ok (.ifnull 7, 3) := dk_198 0 7 (dk_at dksX0_image_2 0 rfl rfl)
theorem dX0_image_51 : decode cX0_image 51 = .ok (.iconst 1, 1) := dk_4 (dk_at dksX0_image_2 3 rfl rfl)
theorem dX0_image_52 : decode cX0_image 52 = .ok (.goto 4, 3) := dk_167 0 4 (dk_at dksX0_image_2 4 rfl rfl)
theorem dX0_image_55 : decode cX0_image 55 = .ok (.iconst 0, 1) := dk_3 (dk_at dksX0_image_2 7 rfl rfl)
theorem dX0_image_56 : decode cX0_image 56 = .ok (.putfield 404, 3) := dk_181 1 148 (dk_at dksX0_image_2 8 rfl rfl)
theorem dX0_image_59 : decode cX0_image 59 = .ok (.aload_n 2, 1) := dk_44 (dk_at dksX0_image_2 11 rfl rfl)
theorem dX0_image_60 : decode cX0_image 60 = .ok (.aload_n 0, 1) := dk_42 (dk_at dksX0_image_2 12 rfl rfl)
theorem dX0_image_61 : decode cX0_image 61 = .ok (.getfield 373, 3) := dk_180 1 117 (dk_at dksX0_image_2 13 rfl rfl)
theorem dX0_image_64 : decode cX0_image 64 = .ok (.putfield 408, 3) := dk_181 1 152 (dk_at dksX0_image_2 16 rfl rfl)
theorem dX0_image_67 : decode cX0_image 67 = .ok (.aload_n 2, 1) := dk_44 (dk_at dksX0_image_2 19 rfl rfl)
theorem dX0_image_68 : decode cX0_image 68 = .ok (.aload_n 0, 1) := dk_42 (dk_at dksX0_image_2 20 rfl rfl)
theorem dX0_image_69 : decode cX0_image 69 = .ok (.getfield 35, 3) := dk_180 0 35 (dk_at dksX0_image_2 21 rfl rfl)
theorem dX0_image_72 : decode cX0_image 72 = .ok (.putfield 409, 3) := dk_181 1 153 (dk_at dksX0_image_3 0 rfl rfl)
theorem dX0_image_75 : decode cX0_image 75 = .ok (.aload_n 0, 1) := dk_42 (dk_at dksX0_image_3 3 rfl rfl)
theorem dX0_image_76 : decode cX0_image 76 = .ok (.getfield 149, 3) := dk_180 0 149 (dk_at dksX0_image_3 4 rfl rfl)
theorem dX0_image_79 : decode cX0_image 79 = .ok (.ifnonnull 5, 3) := dk_199 0 5 (dk_at dksX0_image_3 7 rfl rfl)
theorem dX0_image_82 : decode cX0_image 82 = .ok (.iconst 0, 1) := dk_3 (dk_at dksX0_image_3 10 rfl rfl)
theorem dX0_image_83 : decode cX0_image 83 = .ok (.ireturn, 1) := dk_172 (dk_at dksX0_image_3 11 rfl rfl)
theorem dX0_image_84 : decode cX0_image 84 = .ok (.aload_n 2, 1) := dk_44 (dk_at dksX0_image_3 12 rfl rfl)
theorem dX0_image_85 : decode cX0_image 85 = .ok (.getfield 410, 3) := dk_180 1 154 (dk_at dksX0_image_3 13 rfl rfl)
theorem dX0_image_88 : decode cX0_image 88 = .ok (.aload_n 0, 1) := dk_42 (dk_at dksX0_image_3 16 rfl rfl)
theorem dX0_image_89 : decode cX0_image 89 = .ok (.getfield 149, 3) := dk_180 0 149 (dk_at dksX0_image_3 17 rfl rfl)
theorem dX0_image_92 : decode cX0_image 92 = .ok (.invokevirtual 145, 3) := dk_182 0 145 (dk_at dksX0_image_3 20 rfl rfl)
theorem dX0_image_95 : decode cX0_image 95 = .ok (.pop, 1) := dk_87 (dk_at dksX0_image_3 23 rfl rfl)
theorem dX0_image_96 : decode cX0_image 96 = .ok (.aload_n 0, 1) := dk_42 (dk_at dksX0_image_4 0 rfl rfl)
theorem dX0_image_97 : decode cX0_image 97 = .ok (.getfield 149, 3) := dk_180 0 149 (dk_at dksX0_image_4 1 rfl rfl)
theorem dX0_image_100 : decode cX0_image 100 = .ok (.getfield 257, 3) := dk_180 1 1 (dk_at dksX0_image_4 4 rfl rfl)
theorem dX0_image_103 : decode cX0_image 103 = .ok (.ireturn, 1) := dk_172 (dk_at dksX0_image_4 7 rfl rfl)
abbrev cX0_back : ByteArray := prog_1_method_55_code
def yX0_back : MethodName := ⟨RX0, "back", "(I)I"⟩
def dkwX0_back_4 : List UInt8 := [167, 0, 10, 42, 180, 0, 149, 180, 1, 1, 172]
abbrev dktX0_back_4 : List UInt8 := dkwX0_back_4 ++ []
def dkwX0_back_3 : List UInt8 := [181, 1, 117, 42, 42, 180, 0, 119, 27, 50, 180, 1, 153, 181, 0, 35, 42, 180, 0, 149, 199, 0, 7, 3]
abbrev dktX0_back_3 : List UInt8 := dkwX0_back_3 ++ dktX0_back_4
def dkwX0_back_2 : List UInt8 := [180, 1, 154, 182, 0, 145, 167, 0, 4, 1, 181, 0, 149, 42, 42, 180, 0, 119, 27, 50, 180, 1, 152]
abbrev dktX0_back_2 : List UInt8 := dkwX0_back_2 ++ dktX0_back_3
def dkwX0_back_1 : List UInt8 := [42, 180, 0, 119, 27, 50, 180, 1, 148, 153, 0, 22, 42, 180, 0, 12, 42, 180, 0, 119, 27, 50]
abbrev dktX0_back_1 : List UInt8 := dkwX0_back_1 ++ dktX0_back_2
def dkwX0_back_0 : List UInt8 := [27, 133, 9, 20, 1, 145, 184, 0, 193, 153, 0, 12, 42, 180, 0, 119, 27, 50, 199, 0, 5, 2, 172, 42]
abbrev dktX0_back_0 : List UInt8 := dkwX0_back_0 ++ dktX0_back_1
theorem dksX0_back_0 : cX0_back.data.toList.drop 0 = dktX0_back_0 := by decide +kernel
theorem dksX0_back_1 : cX0_back.data.toList.drop 24 = dktX0_back_1 := dk_seg dksX0_back_0 24 rfl rfl
theorem dksX0_back_2 : cX0_back.data.toList.drop 46 = dktX0_back_2 := dk_seg dksX0_back_1 22 rfl rfl
theorem dksX0_back_3 : cX0_back.data.toList.drop 69 = dktX0_back_3 := dk_seg dksX0_back_2 23 rfl rfl
theorem dksX0_back_4 : cX0_back.data.toList.drop 93 = dktX0_back_4 := dk_seg dksX0_back_3 24 rfl rfl
theorem dX0_back_0 : decode cX0_back 0 = .ok (.iload_n 1, 1) := dk_27 (dk_at dksX0_back_0 0 rfl rfl)
theorem dX0_back_1 : decode cX0_back 1 = .ok (.i2l, 1) := dk_133 (dk_at dksX0_back_0 1 rfl rfl)
theorem dX0_back_2 : decode cX0_back 2 = .ok (.lconst 0, 1) := dk_9 (dk_at dksX0_back_0 2 rfl rfl)
theorem dX0_back_3 : decode cX0_back 3 = .ok (.ldc2_w 401, 3) := dk_20 1 145 (dk_at dksX0_back_0 3 rfl rfl)
theorem dX0_back_6 : decode cX0_back 6 = .ok (.invokestatic 193, 3) := dk_184 0 193 (dk_at dksX0_back_0 6 rfl rfl)
theorem dX0_back_9 : decode cX0_back 9 = .ok (.ifCond .eq 12, 3) := dk_153 0 12 (dk_at dksX0_back_0 9 rfl rfl)
theorem dX0_back_12 : decode cX0_back 12 = .ok (.aload_n 0, 1) := dk_42 (dk_at dksX0_back_0 12 rfl rfl)
theorem dX0_back_13 : decode cX0_back 13 = .ok (.getfield 119, 3) := dk_180 0 119 (dk_at dksX0_back_0 13 rfl rfl)
theorem dX0_back_16 : decode cX0_back 16 = .ok (.iload_n 1, 1) := dk_27 (dk_at dksX0_back_0 16 rfl rfl)
theorem dX0_back_17 : decode cX0_back 17 = .ok (.aaload, 1) := dk_50 (dk_at dksX0_back_0 17 rfl rfl)
theorem dX0_back_18 : decode cX0_back 18 = .ok (.ifnonnull 5, 3) := dk_199 0 5 (dk_at dksX0_back_0 18 rfl rfl)
theorem dX0_back_21 : decode cX0_back 21 = .ok (.iconst (-1), 1) := dk_2 (dk_at dksX0_back_0 21 rfl rfl)
theorem dX0_back_22 : decode cX0_back 22 = .ok (.ireturn, 1) := dk_172 (dk_at dksX0_back_0 22 rfl rfl)
theorem dX0_back_23 : decode cX0_back 23 = .ok (.aload_n 0, 1) := dk_42 (dk_at dksX0_back_0 23 rfl rfl)
theorem dX0_back_24 : decode cX0_back 24 = .ok (.aload_n 0, 1) := dk_42 (dk_at dksX0_back_1 0 rfl rfl)
theorem dX0_back_25 : decode cX0_back 25 = .ok (.getfield 119, 3) := dk_180 0 119 (dk_at dksX0_back_1 1 rfl rfl)
theorem dX0_back_28 : decode cX0_back 28 = .ok (.iload_n 1, 1) := dk_27 (dk_at dksX0_back_1 4 rfl rfl)
theorem dX0_back_29 : decode cX0_back 29 = .ok (.aaload, 1) := dk_50 (dk_at dksX0_back_1 5 rfl rfl)
theorem dX0_back_30 : decode cX0_back 30 = .ok (.getfield 404, 3) := dk_180 1 148 (dk_at dksX0_back_1 6 rfl rfl)
theorem dX0_back_33 : decode cX0_back 33 = .ok (.ifCond .eq 22, 3) := dk_153 0 22 (dk_at dksX0_back_1 9 rfl rfl)
theorem dX0_back_36 : decode cX0_back 36 = .ok (.aload_n 0, 1) := dk_42 (dk_at dksX0_back_1 12 rfl rfl)
theorem dX0_back_37 : decode cX0_back 37 = .ok (.getfield 12, 3) := dk_180 0 12 (dk_at dksX0_back_1 13 rfl rfl)
theorem dX0_back_40 : decode cX0_back 40 = .ok (.aload_n 0, 1) := dk_42 (dk_at dksX0_back_1 16 rfl rfl)
theorem dX0_back_41 : decode cX0_back 41 = .ok (.getfield 119, 3) := dk_180 0 119 (dk_at dksX0_back_1 17 rfl rfl)
theorem dX0_back_44 : decode cX0_back 44 = .ok (.iload_n 1, 1) := dk_27 (dk_at dksX0_back_1 20 rfl rfl)
theorem dX0_back_45 : decode cX0_back 45 = .ok (.aaload, 1) := dk_50 (dk_at dksX0_back_1 21 rfl rfl)
theorem dX0_back_46 : decode cX0_back 46 = .ok (.getfield 410, 3) := dk_180 1 154 (dk_at dksX0_back_2 0 rfl rfl)
theorem dX0_back_49 : decode cX0_back 49 = .ok (.invokevirtual 145, 3) := dk_182 0 145 (dk_at dksX0_back_2 3 rfl rfl)
theorem dX0_back_52 : decode cX0_back 52 = .ok (.goto 4, 3) := dk_167 0 4 (dk_at dksX0_back_2 6 rfl rfl)
theorem dX0_back_55 : decode cX0_back 55 = .ok (.aconst_null, 1) := dk_1 (dk_at dksX0_back_2 9 rfl rfl)
theorem dX0_back_56 : decode cX0_back 56 = .ok (.putfield 149, 3) := dk_181 0 149 (dk_at dksX0_back_2 10 rfl rfl)
theorem dX0_back_59 : decode cX0_back 59 = .ok (.aload_n 0, 1) := dk_42 (dk_at dksX0_back_2 13 rfl rfl)
theorem dX0_back_60 : decode cX0_back 60 = .ok (.aload_n 0, 1) := dk_42 (dk_at dksX0_back_2 14 rfl rfl)
theorem dX0_back_61 : decode cX0_back 61 = .ok (.getfield 119, 3) := dk_180 0 119 (dk_at dksX0_back_2 15 rfl rfl)
theorem dX0_back_64 : decode cX0_back 64 = .ok (.iload_n 1, 1) := dk_27 (dk_at dksX0_back_2 18 rfl rfl)
theorem dX0_back_65 : decode cX0_back 65 = .ok (.aaload, 1) := dk_50 (dk_at dksX0_back_2 19 rfl rfl)
theorem dX0_back_66 : decode cX0_back 66 = .ok (.getfield 408, 3) := dk_180 1 152 (dk_at dksX0_back_2 20 rfl rfl)
theorem dX0_back_69 : decode cX0_back 69 = .ok (.putfield 373, 3) := dk_181 1 117 (dk_at dksX0_back_3 0 rfl rfl)
theorem dX0_back_72 : decode cX0_back 72 = .ok (.aload_n 0, 1) := dk_42 (dk_at dksX0_back_3 3 rfl rfl)
theorem dX0_back_73 : decode cX0_back 73 = .ok (.aload_n 0, 1) := dk_42 (dk_at dksX0_back_3 4 rfl rfl)
theorem dX0_back_74 : decode cX0_back 74 = .ok (.getfield 119, 3) := dk_180 0 119 (dk_at dksX0_back_3 5 rfl rfl)
theorem dX0_back_77 : decode cX0_back 77 = .ok (.iload_n 1, 1) := dk_27 (dk_at dksX0_back_3 8 rfl rfl)
theorem dX0_back_78 : decode cX0_back 78 = .ok (.aaload, 1) := dk_50 (dk_at dksX0_back_3 9 rfl rfl)
theorem dX0_back_79 : decode cX0_back 79 = .ok (.getfield 409, 3) := dk_180 1 153 (dk_at dksX0_back_3 10 rfl rfl)
theorem dX0_back_82 : decode cX0_back 82 = .ok (.putfield 35, 3) := dk_181 0 35 (dk_at dksX0_back_3 13 rfl rfl)
theorem dX0_back_85 : decode cX0_back 85 = .ok (.aload_n 0, 1) := dk_42 (dk_at dksX0_back_3 16 rfl rfl)
theorem dX0_back_86 : decode cX0_back 86 = .ok (.getfield 149, 3) := dk_180 0 149 (dk_at dksX0_back_3 17 rfl rfl)
theorem dX0_back_89 : decode cX0_back 89 = .ok (.ifnonnull 7, 3) := dk_199 0 7 (dk_at dksX0_back_3 20 rfl rfl)
theorem dX0_back_92 : decode cX0_back 92 = .ok (.iconst 0, 1) := dk_3 (dk_at dksX0_back_3 23 rfl rfl)
theorem dX0_back_93 : decode cX0_back 93 = .ok (.goto 10, 3) := dk_167 0 10 (dk_at dksX0_back_4 0 rfl rfl)
theorem dX0_back_96 : decode cX0_back 96 = .ok (.aload_n 0, 1) := dk_42 (dk_at dksX0_back_4 3 rfl rfl)
theorem dX0_back_97 : decode cX0_back 97 = .ok (.getfield 149, 3) := dk_180 0 149 (dk_at dksX0_back_4 4 rfl rfl)
theorem dX0_back_100 : decode cX0_back 100 = .ok (.getfield 257, 3) := dk_180 1 1 (dk_at dksX0_back_4 7 rfl rfl)
theorem dX0_back_103 : decode cX0_back 103 = .ok (.ireturn, 1) := dk_172 (dk_at dksX0_back_4 10 rfl rfl)
theorem q129 : (Jvm.Cond.initialized "LatestCoat") ∈ lw_all := lw_g (lw_at lw_m1 1 rfl) rfl
theorem q156 : (Jvm.Cond.instantiable "LatestCoat" (25 : Nat)) ∈ lw_all := lw_g (lw_at lw_m1 28 rfl) rfl
theorem q158 : (Jvm.Cond.instanceMethod ({ cls := "LatestCoat", name := "<init>", desc := "()V" } : Jvm.MethodName)) ∈ lw_all := lw_g (lw_at lw_m1 30 rfl) rfl
theorem q159 : (Jvm.Cond.code ({ cls := "LatestCoat", name := "<init>", desc := "()V" } : Jvm.MethodName) prog_1_method_3_code (1 : Nat) (Option.none : Option Jvm.ClassFile.FieldType)) ∈ lw_all := lw_g (lw_at lw_m1 31 rfl) rfl
theorem q160 : (Jvm.Cond.methodLink "LatestCoat" (3 : Nat) ({ cls := "java/lang/Object", name := "<init>", desc := "()V" } : Jvm.MethodName)) ∈ lw_all := lw_g (lw_at lw_m1 32 rfl) rfl
theorem q163 : (Jvm.Cond.classLink "LatestCoat" (9 : Nat) "LatestCoat$Town") ∈ lw_all := lw_g (lw_at lw_m1 35 rfl) rfl
theorem q165 : (Jvm.Cond.methodLinkNest "LatestCoat" (11 : Nat) ({ cls := "LatestCoat$Town", name := "<init>", desc := "()V" } : Jvm.MethodName) "LatestCoat") ∈ lw_tbl := lw_at lw_m1 37 rfl
theorem q171 : (Jvm.Cond.fieldLinkNest "LatestCoat" (319 : Nat) "LatestCoat$Town" "dry" "I" "LatestCoat") ∈ lw_tbl := lw_at lw_m1 43 rfl
theorem q174 : (Jvm.Cond.fieldLinkNest "LatestCoat" (340 : Nat) "LatestCoat$Town" "part" "I" "LatestCoat") ∈ lw_tbl := lw_at lw_m1 46 rfl
theorem q177 : (Jvm.Cond.fieldLinkNest "LatestCoat" (396 : Nat) "LatestCoat$Town" "cost" "I" "LatestCoat") ∈ lw_tbl := lw_at lw_m1 49 rfl
theorem q179 : (Jvm.Cond.fieldLinkNest "LatestCoat" (166 : Nat) "LatestCoat$Town" "thingMany" "I" "LatestCoat") ∈ lw_tbl := lw_at lw_m1 51 rfl
theorem q182 : (Jvm.Cond.fieldLinkNest "LatestCoat" (152 : Nat) "LatestCoat$Town" "cellMany" "I" "LatestCoat") ∈ lw_tbl := lw_at lw_m1 54 rfl
theorem q185 : (Jvm.Cond.fieldLinkNest "LatestCoat" (169 : Nat) "LatestCoat$Town" "painterMany" "I" "LatestCoat") ∈ lw_tbl := lw_at lw_m1 57 rfl
theorem q191 : (Jvm.Cond.fieldLinkNest "LatestCoat" (399 : Nat) "LatestCoat$Town" "suit" "I" "LatestCoat") ∈ lw_tbl := lw_at lw_m1 63 rfl
theorem q193 : (Jvm.Cond.fieldLinkNest "LatestCoat" (352 : Nat) "LatestCoat$Town" "logMany" "I" "LatestCoat") ∈ lw_tbl := lw_at lw_m1 65 rfl
theorem q195 : (Jvm.Cond.fieldLinkNest "LatestCoat" (239 : Nat) "LatestCoat$Town" "undoMany" "I" "LatestCoat") ∈ lw_tbl := lw_at lw_m1 67 rfl
theorem q199 : (Jvm.Cond.fieldLinkNest "LatestCoat" (257 : Nat) "LatestCoat$Town" "now" "I" "LatestCoat") ∈ lw_tbl := lw_at lw_m1 71 rfl
theorem q201 : (Jvm.Cond.fieldLinkNest "LatestCoat" (225 : Nat) "LatestCoat$Town" "bare" "I" "LatestCoat") ∈ lw_tbl := lw_at lw_m1 73 rfl
theorem q204 : (Jvm.Cond.fieldLinkNest "LatestCoat" (215 : Nat) "LatestCoat$Town" "first" "[I" "LatestCoat") ∈ lw_tbl := lw_at lw_m1 76 rfl
theorem q207 : (Jvm.Cond.fieldLinkNest "LatestCoat" (218 : Nat) "LatestCoat$Town" "size" "[I" "LatestCoat") ∈ lw_tbl := lw_at lw_m1 79 rfl
theorem q210 : (Jvm.Cond.fieldLinkNest "LatestCoat" (221 : Nat) "LatestCoat$Town" "rent" "[I" "LatestCoat") ∈ lw_tbl := lw_at lw_m1 82 rfl
theorem q212 : (Jvm.Cond.fieldLinkNest "LatestCoat" (176 : Nat) "LatestCoat$Town" "thingOf" "[I" "LatestCoat") ∈ lw_tbl := lw_at lw_m1 84 rfl
theorem q215 : (Jvm.Cond.fieldLinkNest "LatestCoat" (200 : Nat) "LatestCoat$Town" "colour" "[I" "LatestCoat") ∈ lw_tbl := lw_at lw_m1 87 rfl
theorem q226 : (Jvm.Cond.fieldLinkNest "LatestCoat" (357 : Nat) "LatestCoat$Town" "logs" "[I" "LatestCoat") ∈ lw_tbl := lw_at lw_m1 98 rfl
theorem q228 : (Jvm.Cond.fieldLinkNest "LatestCoat" (179 : Nat) "LatestCoat$Town" "many" "[I" "LatestCoat") ∈ lw_tbl := lw_at lw_m1 100 rfl
theorem q230 : (Jvm.Cond.fieldLinkNest "LatestCoat" (197 : Nat) "LatestCoat$Town" "by" "[I" "LatestCoat") ∈ lw_tbl := lw_at lw_m1 102 rfl
theorem q232 : (Jvm.Cond.fieldLinkNest "LatestCoat" (203 : Nat) "LatestCoat$Town" "when" "[I" "LatestCoat") ∈ lw_tbl := lw_at lw_m1 104 rfl
theorem q234 : (Jvm.Cond.fieldLinkNest "LatestCoat" (234 : Nat) "LatestCoat$Town" "purse" "[I" "LatestCoat") ∈ lw_tbl := lw_at lw_m1 106 rfl
theorem q236 : (Jvm.Cond.fieldLinkNest "LatestCoat" (242 : Nat) "LatestCoat$Town" "undo" "[I" "LatestCoat") ∈ lw_tbl := lw_at lw_m1 108 rfl
theorem q303 : (Jvm.Cond.classLink "LatestCoat" (39 : Nat) "LatestCoat$Fault") ∈ lw_all := lw_g (lw_at lw_m1 175 rfl) rfl
theorem q342 : (Jvm.Cond.methodLink "LatestCoat" (41 : Nat) ({ cls := "LatestCoat$Fault", name := "<init>", desc := "()V" } : Jvm.MethodName)) ∈ lw_all := lw_g (lw_at lw_m1 214 rfl) rfl
theorem q356 : (Jvm.Cond.fieldLinkNest "LatestCoat" (133 : Nat) "LatestCoat$Fault" "kind" "I" "LatestCoat") ∈ lw_tbl := lw_at lw_m1 228 rfl
theorem q358 : (Jvm.Cond.fieldLinkNest "LatestCoat" (130 : Nat) "LatestCoat$Fault" "place" "I" "LatestCoat") ∈ lw_tbl := lw_at lw_m1 230 rfl
theorem q377 : (Jvm.Cond.classLink "LatestCoat" (50 : Nat) "java/lang/String") ∈ lw_all := lw_g (lw_at lw_m2 9 rfl) rfl
theorem q379 : (Jvm.Cond.stringRef "LatestCoat" (52 : Nat) "street") ∈ lw_tbl := lw_at lw_m2 11 rfl
theorem q380 : (Jvm.Cond.stringRef "LatestCoat" (54 : Nat) "thing") ∈ lw_tbl := lw_at lw_m2 12 rfl
theorem q381 : (Jvm.Cond.stringRef "LatestCoat" (56 : Nat) "painter") ∈ lw_tbl := lw_at lw_m2 13 rfl
theorem q382 : (Jvm.Cond.stringRef "LatestCoat" (58 : Nat) "coat") ∈ lw_tbl := lw_at lw_m2 14 rfl
theorem q383 : (Jvm.Cond.stringRef "LatestCoat" (60 : Nat) "bare") ∈ lw_tbl := lw_at lw_m2 15 rfl
theorem q384 : (Jvm.Cond.stringRef "LatestCoat" (62 : Nat) "rain") ∈ lw_tbl := lw_at lw_m2 16 rfl
theorem q385 : (Jvm.Cond.stringRef "LatestCoat" (64 : Nat) "suit") ∈ lw_tbl := lw_at lw_m2 17 rfl
theorem q386 : (Jvm.Cond.stringRef "LatestCoat" (70 : Nat) "paint") ∈ lw_tbl := lw_at lw_m2 18 rfl
theorem q387 : (Jvm.Cond.stringRef "LatestCoat" (75 : Nat) "cell") ∈ lw_tbl := lw_at lw_m2 19 rfl
theorem q388 : (Jvm.Cond.stringRef "LatestCoat" (77 : Nat) "rent") ∈ lw_tbl := lw_at lw_m2 20 rfl
theorem q389 : (Jvm.Cond.stringRef "LatestCoat" (79 : Nat) "top") ∈ lw_tbl := lw_at lw_m2 21 rfl
theorem q390 : (Jvm.Cond.stringRef "LatestCoat" (81 : Nat) "wet") ∈ lw_tbl := lw_at lw_m2 22 rfl
theorem q391 : (Jvm.Cond.stringRef "LatestCoat" (83 : Nat) "whose") ∈ lw_tbl := lw_at lw_m2 23 rfl
theorem q392 : (Jvm.Cond.stringRef "LatestCoat" (85 : Nat) "mine") ∈ lw_tbl := lw_at lw_m2 24 rfl
theorem q393 : (Jvm.Cond.stringRef "LatestCoat" (87 : Nat) "owner") ∈ lw_tbl := lw_at lw_m2 25 rfl
theorem q394 : (Jvm.Cond.stringRef "LatestCoat" (89 : Nat) "coats") ∈ lw_tbl := lw_at lw_m2 26 rfl
theorem q395 : (Jvm.Cond.stringRef "LatestCoat" (91 : Nat) "purse") ∈ lw_tbl := lw_at lw_m2 27 rfl
theorem q396 : (Jvm.Cond.stringRef "LatestCoat" (93 : Nat) "hour") ∈ lw_tbl := lw_at lw_m2 28 rfl
theorem q397 : (Jvm.Cond.classLink "LatestCoat" (98 : Nat) "LatestCoat$Rule") ∈ lw_all := lw_g (lw_at lw_m2 29 rfl) rfl
theorem q399 : (Jvm.Cond.classLink "LatestCoat" (117 : Nat) "LatestCoat$Image") ∈ lw_all := lw_g (lw_at lw_m2 31 rfl) rfl
theorem q401 : (Jvm.Cond.fieldLink "LatestCoat" (149 : Nat) "LatestCoat" "town" "LLatestCoat$Town;") ∈ lw_all := lw_g (lw_at lw_m2 33 rfl) rfl
theorem q402 : (Jvm.Cond.fieldLink "LatestCoat" (12 : Nat) "LatestCoat" "own" "LLatestCoat$Town;") ∈ lw_all := lw_g (lw_at lw_m2 34 rfl) rfl
theorem q403 : (Jvm.Cond.fieldLink "LatestCoat" (18 : Nat) "LatestCoat" "spare" "LLatestCoat$Town;") ∈ lw_all := lw_g (lw_at lw_m2 35 rfl) rfl
theorem q404 : (Jvm.Cond.fieldLink "LatestCoat" (21 : Nat) "LatestCoat" "turn" "[LLatestCoat$Town;") ∈ lw_all := lw_g (lw_at lw_m2 36 rfl) rfl
theorem q406 : (Jvm.Cond.fieldLink "LatestCoat" (25 : Nat) "LatestCoat" "reading" "LLatestCoat$Town;") ∈ lw_all := lw_g (lw_at lw_m2 38 rfl) rfl
theorem q407 : (Jvm.Cond.fieldLink "LatestCoat" (28 : Nat) "LatestCoat" "blank" "LLatestCoat$Town;") ∈ lw_all := lw_g (lw_at lw_m2 39 rfl) rfl
theorem q409 : (Jvm.Cond.fieldLink "LatestCoat" (31 : Nat) "LatestCoat" "got" "[I") ∈ lw_all := lw_g (lw_at lw_m2 41 rfl) rfl
theorem q410 : (Jvm.Cond.fieldLink "LatestCoat" (373 : Nat) "LatestCoat" "x" "I") ∈ lw_all := lw_g (lw_at lw_m2 42 rfl) rfl
theorem q411 : (Jvm.Cond.fieldLink "LatestCoat" (35 : Nat) "LatestCoat" "inForce" "I") ∈ lw_all := lw_g (lw_at lw_m2 43 rfl) rfl
theorem q413 : (Jvm.Cond.fieldLink "LatestCoat" (42 : Nat) "LatestCoat" "fault" "LLatestCoat$Fault;") ∈ lw_all := lw_g (lw_at lw_m2 45 rfl) rfl
theorem q415 : (Jvm.Cond.fieldLink "LatestCoat" (46 : Nat) "LatestCoat" "tape" "[B") ∈ lw_all := lw_g (lw_at lw_m2 47 rfl) rfl
theorem q417 : (Jvm.Cond.fieldLink "LatestCoat" (123 : Nat) "LatestCoat" "taped" "I") ∈ lw_all := lw_g (lw_at lw_m2 49 rfl) rfl
theorem q418 : (Jvm.Cond.fieldLink "LatestCoat" (66 : Nat) "LatestCoat" "lineWords" "[Ljava/lang/String;") ∈ lw_all := lw_g (lw_at lw_m2 50 rfl) rfl
theorem q420 : (Jvm.Cond.fieldLink "LatestCoat" (72 : Nat) "LatestCoat" "clauseWords" "[Ljava/lang/String;") ∈ lw_all := lw_g (lw_at lw_m2 52 rfl) rfl
theorem q423 : (Jvm.Cond.fieldLink "LatestCoat" (95 : Nat) "LatestCoat" "wordNames" "[Ljava/lang/String;") ∈ lw_all := lw_g (lw_at lw_m2 55 rfl) rfl
theorem q424 : (Jvm.Cond.fieldLink "LatestCoat" (100 : Nat) "LatestCoat" "rules" "[LLatestCoat$Rule;") ∈ lw_all := lw_g (lw_at lw_m2 56 rfl) rfl
theorem q425 : (Jvm.Cond.fieldLink "LatestCoat" (159 : Nat) "LatestCoat" "ruleMany" "I") ∈ lw_all := lw_g (lw_at lw_m2 57 rfl) rfl
theorem q426 : (Jvm.Cond.fieldLink "LatestCoat" (104 : Nat) "LatestCoat" "row" "[I") ∈ lw_all := lw_g (lw_at lw_m2 58 rfl) rfl
theorem q427 : (Jvm.Cond.fieldLink "LatestCoat" (107 : Nat) "LatestCoat" "bestRow" "[I") ∈ lw_all := lw_g (lw_at lw_m2 59 rfl) rfl
theorem q428 : (Jvm.Cond.fieldLink "LatestCoat" (310 : Nat) "LatestCoat" "bestMany" "I") ∈ lw_all := lw_g (lw_at lw_m2 60 rfl) rfl
theorem q429 : (Jvm.Cond.fieldLink "LatestCoat" (332 : Nat) "LatestCoat" "firstCell" "I") ∈ lw_all := lw_g (lw_at lw_m2 61 rfl) rfl
theorem q430 : (Jvm.Cond.fieldLink "LatestCoat" (110 : Nat) "LatestCoat" "isFit" "[Z") ∈ lw_all := lw_g (lw_at lw_m2 62 rfl) rfl
theorem q431 : (Jvm.Cond.fieldLink "LatestCoat" (114 : Nat) "LatestCoat" "whoThen" "[I") ∈ lw_all := lw_g (lw_at lw_m2 63 rfl) rfl
theorem q432 : (Jvm.Cond.fieldLink "LatestCoat" (376 : Nat) "LatestCoat" "drawX" "I") ∈ lw_all := lw_g (lw_at lw_m2 64 rfl) rfl
theorem q433 : (Jvm.Cond.fieldLink "LatestCoat" (119 : Nat) "LatestCoat" "images" "[LLatestCoat$Image;") ∈ lw_all := lw_g (lw_at lw_m2 65 rfl) rfl
theorem q434 : (Jvm.Cond.lays "LatestCoat" "LatestCoat" "town" "LLatestCoat$Town;") ∈ lw_all := lw_g (lw_at lw_m2 66 rfl) rfl
theorem q435 : (Jvm.Cond.soleField "LatestCoat" "town") ∈ lw_all := lw_g (lw_at lw_m2 67 rfl) rfl
theorem q436 : (Jvm.Cond.laysFinal "LatestCoat" "LatestCoat" "own" "LLatestCoat$Town;") ∈ lw_all := lw_g (lw_at lw_m2 68 rfl) rfl
theorem q437 : (Jvm.Cond.soleField "LatestCoat" "own") ∈ lw_all := lw_g (lw_at lw_m2 69 rfl) rfl
theorem q438 : (Jvm.Cond.laysFinal "LatestCoat" "LatestCoat" "spare" "LLatestCoat$Town;") ∈ lw_all := lw_g (lw_at lw_m2 70 rfl) rfl
theorem q439 : (Jvm.Cond.soleField "LatestCoat" "spare") ∈ lw_all := lw_g (lw_at lw_m2 71 rfl) rfl
theorem q440 : (Jvm.Cond.laysFinal "LatestCoat" "LatestCoat" "turn" "[LLatestCoat$Town;") ∈ lw_all := lw_g (lw_at lw_m2 72 rfl) rfl
theorem q441 : (Jvm.Cond.soleField "LatestCoat" "turn") ∈ lw_all := lw_g (lw_at lw_m2 73 rfl) rfl
theorem q442 : (Jvm.Cond.laysFinal "LatestCoat" "LatestCoat" "reading" "LLatestCoat$Town;") ∈ lw_all := lw_g (lw_at lw_m2 74 rfl) rfl
theorem q443 : (Jvm.Cond.soleField "LatestCoat" "reading") ∈ lw_all := lw_g (lw_at lw_m2 75 rfl) rfl
theorem q444 : (Jvm.Cond.laysFinal "LatestCoat" "LatestCoat" "blank" "LLatestCoat$Town;") ∈ lw_all := lw_g (lw_at lw_m2 76 rfl) rfl
theorem q445 : (Jvm.Cond.soleField "LatestCoat" "blank") ∈ lw_all := lw_g (lw_at lw_m2 77 rfl) rfl
theorem q446 : (Jvm.Cond.laysFinal "LatestCoat" "LatestCoat" "got" "[I") ∈ lw_all := lw_g (lw_at lw_m2 78 rfl) rfl
theorem q447 : (Jvm.Cond.soleField "LatestCoat" "got") ∈ lw_all := lw_g (lw_at lw_m2 79 rfl) rfl
theorem q448 : (Jvm.Cond.lays "LatestCoat" "LatestCoat" "x" "I") ∈ lw_all := lw_g (lw_at lw_m2 80 rfl) rfl
theorem q449 : (Jvm.Cond.soleField "LatestCoat" "x") ∈ lw_all := lw_g (lw_at lw_m2 81 rfl) rfl
theorem q450 : (Jvm.Cond.lays "LatestCoat" "LatestCoat" "inForce" "I") ∈ lw_all := lw_g (lw_at lw_m2 82 rfl) rfl
theorem q451 : (Jvm.Cond.soleField "LatestCoat" "inForce") ∈ lw_all := lw_g (lw_at lw_m2 83 rfl) rfl
theorem q452 : (Jvm.Cond.laysFinal "LatestCoat" "LatestCoat" "fault" "LLatestCoat$Fault;") ∈ lw_all := lw_g (lw_at lw_m2 84 rfl) rfl
theorem q453 : (Jvm.Cond.soleField "LatestCoat" "fault") ∈ lw_all := lw_g (lw_at lw_m2 85 rfl) rfl
theorem q454 : (Jvm.Cond.laysFinal "LatestCoat" "LatestCoat" "tape" "[B") ∈ lw_all := lw_g (lw_at lw_m2 86 rfl) rfl
theorem q455 : (Jvm.Cond.soleField "LatestCoat" "tape") ∈ lw_all := lw_g (lw_at lw_m2 87 rfl) rfl
theorem q456 : (Jvm.Cond.lays "LatestCoat" "LatestCoat" "taped" "I") ∈ lw_all := lw_g (lw_at lw_m2 88 rfl) rfl
theorem q457 : (Jvm.Cond.soleField "LatestCoat" "taped") ∈ lw_all := lw_g (lw_at lw_m2 89 rfl) rfl
theorem q458 : (Jvm.Cond.laysFinal "LatestCoat" "LatestCoat" "lineWords" "[Ljava/lang/String;") ∈ lw_all := lw_g (lw_at lw_m2 90 rfl) rfl
theorem q459 : (Jvm.Cond.soleField "LatestCoat" "lineWords") ∈ lw_all := lw_g (lw_at lw_m2 91 rfl) rfl
theorem q460 : (Jvm.Cond.laysFinal "LatestCoat" "LatestCoat" "clauseWords" "[Ljava/lang/String;") ∈ lw_all := lw_g (lw_at lw_m2 92 rfl) rfl
theorem q461 : (Jvm.Cond.soleField "LatestCoat" "clauseWords") ∈ lw_all := lw_g (lw_at lw_m2 93 rfl) rfl
theorem q462 : (Jvm.Cond.laysFinal "LatestCoat" "LatestCoat" "wordNames" "[Ljava/lang/String;") ∈ lw_all := lw_g (lw_at lw_m2 94 rfl) rfl
theorem q463 : (Jvm.Cond.soleField "LatestCoat" "wordNames") ∈ lw_all := lw_g (lw_at lw_m2 95 rfl) rfl
theorem q464 : (Jvm.Cond.laysFinal "LatestCoat" "LatestCoat" "rules" "[LLatestCoat$Rule;") ∈ lw_all := lw_g (lw_at lw_m2 96 rfl) rfl
theorem q465 : (Jvm.Cond.soleField "LatestCoat" "rules") ∈ lw_all := lw_g (lw_at lw_m2 97 rfl) rfl
theorem q466 : (Jvm.Cond.lays "LatestCoat" "LatestCoat" "ruleMany" "I") ∈ lw_all := lw_g (lw_at lw_m2 98 rfl) rfl
theorem q467 : (Jvm.Cond.soleField "LatestCoat" "ruleMany") ∈ lw_all := lw_g (lw_at lw_m2 99 rfl) rfl
theorem q468 : (Jvm.Cond.laysFinal "LatestCoat" "LatestCoat" "row" "[I") ∈ lw_all := lw_g (lw_at lw_m2 100 rfl) rfl
theorem q469 : (Jvm.Cond.soleField "LatestCoat" "row") ∈ lw_all := lw_g (lw_at lw_m2 101 rfl) rfl
theorem q470 : (Jvm.Cond.laysFinal "LatestCoat" "LatestCoat" "bestRow" "[I") ∈ lw_all := lw_g (lw_at lw_m2 102 rfl) rfl
theorem q471 : (Jvm.Cond.soleField "LatestCoat" "bestRow") ∈ lw_all := lw_g (lw_at lw_m2 103 rfl) rfl
theorem q472 : (Jvm.Cond.lays "LatestCoat" "LatestCoat" "bestMany" "I") ∈ lw_all := lw_g (lw_at lw_m2 104 rfl) rfl
theorem q473 : (Jvm.Cond.soleField "LatestCoat" "bestMany") ∈ lw_all := lw_g (lw_at lw_m2 105 rfl) rfl
theorem q474 : (Jvm.Cond.lays "LatestCoat" "LatestCoat" "firstCell" "I") ∈ lw_all := lw_g (lw_at lw_m2 106 rfl) rfl
theorem q475 : (Jvm.Cond.soleField "LatestCoat" "firstCell") ∈ lw_all := lw_g (lw_at lw_m2 107 rfl) rfl
theorem q476 : (Jvm.Cond.laysFinal "LatestCoat" "LatestCoat" "isFit" "[Z") ∈ lw_all := lw_g (lw_at lw_m2 108 rfl) rfl
theorem q477 : (Jvm.Cond.soleField "LatestCoat" "isFit") ∈ lw_all := lw_g (lw_at lw_m2 109 rfl) rfl
theorem q478 : (Jvm.Cond.laysFinal "LatestCoat" "LatestCoat" "whoThen" "[I") ∈ lw_all := lw_g (lw_at lw_m2 110 rfl) rfl
theorem q479 : (Jvm.Cond.soleField "LatestCoat" "whoThen") ∈ lw_all := lw_g (lw_at lw_m2 111 rfl) rfl
theorem q480 : (Jvm.Cond.lays "LatestCoat" "LatestCoat" "drawX" "I") ∈ lw_all := lw_g (lw_at lw_m2 112 rfl) rfl
theorem q481 : (Jvm.Cond.soleField "LatestCoat" "drawX") ∈ lw_all := lw_g (lw_at lw_m2 113 rfl) rfl
theorem q482 : (Jvm.Cond.laysFinal "LatestCoat" "LatestCoat" "images" "[LLatestCoat$Image;") ∈ lw_all := lw_g (lw_at lw_m2 114 rfl) rfl
theorem q483 : (Jvm.Cond.soleField "LatestCoat" "images") ∈ lw_all := lw_g (lw_at lw_m2 115 rfl) rfl
theorem q484 : (Jvm.Cond.superclass "LatestCoat" "java/lang/Object") ∈ lw_all := lw_g (lw_at lw_m2 116 rfl) rfl
theorem q487 : (Jvm.Cond.instanceMethod ({ cls := "LatestCoat", name := "feed", desc := "(IIIII)I" } : Jvm.MethodName)) ∈ lw_all := lw_g (lw_at lw_m2 119 rfl) rfl
theorem q488 : (Jvm.Cond.selects "LatestCoat" ({ cls := "LatestCoat", name := "feed", desc := "(IIIII)I" } : Jvm.MethodName) ({ cls := "LatestCoat", name := "feed", desc := "(IIIII)I" } : Jvm.MethodName)) ∈ lw_all := lw_g (lw_at lw_m2 120 rfl) rfl
theorem q489 : (Jvm.Cond.code ({ cls := "LatestCoat", name := "feed", desc := "(IIIII)I" } : Jvm.MethodName) prog_1_method_4_code (6 : Nat) (Option.some Jvm.ClassFile.FieldType.int)) ∈ lw_all := lw_g (lw_at lw_m2 121 rfl) rfl
theorem q490 : (Jvm.Cond.methodLink "LatestCoat" (126 : Nat) ({ cls := "LatestCoat", name := "four", desc := "(I)V" } : Jvm.MethodName)) ∈ lw_all := lw_g (lw_at lw_m2 122 rfl) rfl
theorem q491 : (Jvm.Cond.privateMethod ({ cls := "LatestCoat", name := "four", desc := "(I)V" } : Jvm.MethodName)) ∈ lw_tbl := lw_at lw_m2 123 rfl
theorem q492 : (Jvm.Cond.instanceMethod ({ cls := "LatestCoat", name := "four", desc := "(I)V" } : Jvm.MethodName)) ∈ lw_all := lw_g (lw_at lw_m2 124 rfl) rfl
theorem q493 : (Jvm.Cond.code ({ cls := "LatestCoat", name := "four", desc := "(I)V" } : Jvm.MethodName) prog_1_method_5_code (3 : Nat) (Option.none : Option Jvm.ClassFile.FieldType)) ∈ lw_all := lw_g (lw_at lw_m2 125 rfl) rfl
theorem q495 : (Jvm.Cond.instanceMethod ({ cls := "LatestCoat", name := "end", desc := "(I)I" } : Jvm.MethodName)) ∈ lw_all := lw_g (lw_at lw_m2 127 rfl) rfl
theorem q496 : (Jvm.Cond.selects "LatestCoat" ({ cls := "LatestCoat", name := "end", desc := "(I)I" } : Jvm.MethodName) ({ cls := "LatestCoat", name := "end", desc := "(I)I" } : Jvm.MethodName)) ∈ lw_all := lw_g (lw_at lw_m2 128 rfl) rfl
theorem q497 : (Jvm.Cond.code ({ cls := "LatestCoat", name := "end", desc := "(I)I" } : Jvm.MethodName) prog_1_method_6_code (2 : Nat) (Option.some Jvm.ClassFile.FieldType.int)) ∈ lw_all := lw_g (lw_at lw_m2 129 rfl) rfl
theorem q499 : (Jvm.Cond.instanceMethod ({ cls := "LatestCoat", name := "street", desc := "()I" } : Jvm.MethodName)) ∈ lw_all := lw_g (lw_at lw_m2 131 rfl) rfl
theorem q500 : (Jvm.Cond.selects "LatestCoat" ({ cls := "LatestCoat", name := "street", desc := "()I" } : Jvm.MethodName) ({ cls := "LatestCoat", name := "street", desc := "()I" } : Jvm.MethodName)) ∈ lw_all := lw_g (lw_at lw_m2 132 rfl) rfl
theorem q501 : (Jvm.Cond.codeWith ({ cls := "LatestCoat", name := "street", desc := "()I" } : Jvm.MethodName) prog_1_method_8_code (3 : Nat) (Option.some Jvm.ClassFile.FieldType.int) [((0 : Nat), (30 : Nat), (33 : Nat), (39 : Nat))]) ∈ lw_all := lw_g (lw_at lw_m2 133 rfl) rfl
theorem q502 : (Jvm.Cond.classLink "LatestCoat" (136 : Nat) "LatestCoat$Text") ∈ lw_all := lw_g (lw_at lw_m2 134 rfl) rfl
theorem q504 : (Jvm.Cond.methodLinkNest "LatestCoat" (138 : Nat) ({ cls := "LatestCoat$Text", name := "<init>", desc := "(LLatestCoat;)V" } : Jvm.MethodName) "LatestCoat") ∈ lw_tbl := lw_at lw_m2 136 rfl
theorem q530 : (Jvm.Cond.methodLink "LatestCoat" (141 : Nat) ({ cls := "LatestCoat$Text", name := "streetTold", desc := "()LLatestCoat$Town;" } : Jvm.MethodName)) ∈ lw_all := lw_g (lw_at lw_m2 162 rfl) rfl
theorem q634 : (Jvm.Cond.static ({ cls := "LatestCoat", name := "in", desc := "(JJJ)Z" } : Jvm.MethodName)) ∈ lw_all := lw_g (lw_at lw_m3 26 rfl) rfl
theorem q635 : (Jvm.Cond.code ({ cls := "LatestCoat", name := "in", desc := "(JJJ)Z" } : Jvm.MethodName) prog_1_method_1_code (6 : Nat) (Option.some Jvm.ClassFile.FieldType.boolean)) ∈ lw_all := lw_g (lw_at lw_m3 27 rfl) rfl
theorem q661 : (Jvm.Cond.static ({ cls := "LatestCoat", name := "has", desc := "(II)Z" } : Jvm.MethodName)) ∈ lw_all := lw_g (lw_at lw_m3 53 rfl) rfl
theorem q662 : (Jvm.Cond.code ({ cls := "LatestCoat", name := "has", desc := "(II)Z" } : Jvm.MethodName) prog_1_method_2_code (2 : Nat) (Option.some Jvm.ClassFile.FieldType.boolean)) ∈ lw_all := lw_g (lw_at lw_m3 54 rfl) rfl
theorem q663 : (Jvm.Cond.methodLink "LatestCoat" (145 : Nat) ({ cls := "LatestCoat$Town", name := "copies", desc := "(LLatestCoat$Town;)LLatestCoat$Town;" } : Jvm.MethodName)) ∈ lw_all := lw_g (lw_at lw_m3 55 rfl) rfl
theorem q664 : (Jvm.Cond.methodLink "LatestCoat" (155 : Nat) ({ cls := "LatestCoat", name := "faulted", desc := "()I" } : Jvm.MethodName)) ∈ lw_all := lw_g (lw_at lw_m3 56 rfl) rfl
theorem q665 : (Jvm.Cond.privateMethod ({ cls := "LatestCoat", name := "faulted", desc := "()I" } : Jvm.MethodName)) ∈ lw_tbl := lw_at lw_m3 57 rfl
theorem q666 : (Jvm.Cond.instanceMethod ({ cls := "LatestCoat", name := "faulted", desc := "()I" } : Jvm.MethodName)) ∈ lw_all := lw_g (lw_at lw_m3 58 rfl) rfl
theorem q667 : (Jvm.Cond.code ({ cls := "LatestCoat", name := "faulted", desc := "()I" } : Jvm.MethodName) prog_1_method_7_code (1 : Nat) (Option.some Jvm.ClassFile.FieldType.int)) ∈ lw_all := lw_g (lw_at lw_m3 59 rfl) rfl
theorem q669 : (Jvm.Cond.instanceMethod ({ cls := "LatestCoat", name := "rule", desc := "()I" } : Jvm.MethodName)) ∈ lw_all := lw_g (lw_at lw_m3 61 rfl) rfl
theorem q670 : (Jvm.Cond.selects "LatestCoat" ({ cls := "LatestCoat", name := "rule", desc := "()I" } : Jvm.MethodName) ({ cls := "LatestCoat", name := "rule", desc := "()I" } : Jvm.MethodName)) ∈ lw_all := lw_g (lw_at lw_m3 62 rfl) rfl
theorem q671 : (Jvm.Cond.codeWith ({ cls := "LatestCoat", name := "rule", desc := "()I" } : Jvm.MethodName) prog_1_method_9_code (3 : Nat) (Option.some Jvm.ClassFile.FieldType.int) [((16 : Nat), (46 : Nat), (49 : Nat), (39 : Nat))]) ∈ lw_all := lw_g (lw_at lw_m3 63 rfl) rfl
theorem q672 : (Jvm.Cond.methodLink "LatestCoat" (162 : Nat) ({ cls := "LatestCoat$Text", name := "ruleTold", desc := "()LLatestCoat$Rule;" } : Jvm.MethodName)) ∈ lw_all := lw_g (lw_at lw_m3 64 rfl) rfl
theorem q842 : (Jvm.Cond.instanceMethod ({ cls := "LatestCoat", name := "force", desc := "(I)I" } : Jvm.MethodName)) ∈ lw_all := lw_g (lw_at lw_m3 234 rfl) rfl
theorem q843 : (Jvm.Cond.selects "LatestCoat" ({ cls := "LatestCoat", name := "force", desc := "(I)I" } : Jvm.MethodName) ({ cls := "LatestCoat", name := "force", desc := "(I)I" } : Jvm.MethodName)) ∈ lw_all := lw_g (lw_at lw_m3 235 rfl) rfl
theorem q844 : (Jvm.Cond.code ({ cls := "LatestCoat", name := "force", desc := "(I)I" } : Jvm.MethodName) prog_1_method_10_code (3 : Nat) (Option.some Jvm.ClassFile.FieldType.int)) ∈ lw_all := lw_g (lw_at lw_m3 236 rfl) rfl
theorem q846 : (Jvm.Cond.instanceMethod ({ cls := "LatestCoat", name := "cell", desc := "(II)I" } : Jvm.MethodName)) ∈ lw_all := lw_g (lw_at lw_m3 238 rfl) rfl
theorem q847 : (Jvm.Cond.selects "LatestCoat" ({ cls := "LatestCoat", name := "cell", desc := "(II)I" } : Jvm.MethodName) ({ cls := "LatestCoat", name := "cell", desc := "(II)I" } : Jvm.MethodName)) ∈ lw_all := lw_g (lw_at lw_m3 239 rfl) rfl
theorem q848 : (Jvm.Cond.code ({ cls := "LatestCoat", name := "cell", desc := "(II)I" } : Jvm.MethodName) prog_1_method_15_code (3 : Nat) (Option.some Jvm.ClassFile.FieldType.int)) ∈ lw_all := lw_g (lw_at lw_m4 0 rfl) rfl
theorem q849 : (Jvm.Cond.methodLink "LatestCoat" (172 : Nat) ({ cls := "LatestCoat", name := "isCell", desc := "(I)Z" } : Jvm.MethodName)) ∈ lw_all := lw_g (lw_at lw_m4 1 rfl) rfl
theorem q850 : (Jvm.Cond.privateMethod ({ cls := "LatestCoat", name := "isCell", desc := "(I)Z" } : Jvm.MethodName)) ∈ lw_tbl := lw_at lw_m4 2 rfl
theorem q851 : (Jvm.Cond.instanceMethod ({ cls := "LatestCoat", name := "isCell", desc := "(I)Z" } : Jvm.MethodName)) ∈ lw_all := lw_g (lw_at lw_m4 3 rfl) rfl
theorem q852 : (Jvm.Cond.code ({ cls := "LatestCoat", name := "isCell", desc := "(I)Z" } : Jvm.MethodName) prog_1_method_12_code (2 : Nat) (Option.some Jvm.ClassFile.FieldType.boolean)) ∈ lw_all := lw_g (lw_at lw_m4 4 rfl) rfl
theorem q853 : (Jvm.Cond.methodLink "LatestCoat" (182 : Nat) ({ cls := "LatestCoat$Town", name := "ownerOf", desc := "(I)I" } : Jvm.MethodName)) ∈ lw_all := lw_g (lw_at lw_m4 5 rfl) rfl
theorem q862 : (Jvm.Cond.methodLink "LatestCoat" (186 : Nat) ({ cls := "LatestCoat$Town", name := "top", desc := "(I)I" } : Jvm.MethodName)) ∈ lw_all := lw_g (lw_at lw_m4 14 rfl) rfl
theorem q866 : (Jvm.Cond.methodLink "LatestCoat" (188 : Nat) ({ cls := "LatestCoat$Town", name := "isWet", desc := "(I)Z" } : Jvm.MethodName)) ∈ lw_all := lw_g (lw_at lw_m4 18 rfl) rfl
theorem q871 : (Jvm.Cond.instanceMethod ({ cls := "LatestCoat", name := "coat", desc := "(III)I" } : Jvm.MethodName)) ∈ lw_all := lw_g (lw_at lw_m4 23 rfl) rfl
theorem q872 : (Jvm.Cond.selects "LatestCoat" ({ cls := "LatestCoat", name := "coat", desc := "(III)I" } : Jvm.MethodName) ({ cls := "LatestCoat", name := "coat", desc := "(III)I" } : Jvm.MethodName)) ∈ lw_all := lw_g (lw_at lw_m4 24 rfl) rfl
theorem q873 : (Jvm.Cond.code ({ cls := "LatestCoat", name := "coat", desc := "(III)I" } : Jvm.MethodName) prog_1_method_16_code (5 : Nat) (Option.some Jvm.ClassFile.FieldType.int)) ∈ lw_all := lw_g (lw_at lw_m4 25 rfl) rfl
theorem q874 : (Jvm.Cond.constantLong "LatestCoat" (191 : Nat) (2 : Int64)) ∈ lw_all := lw_g (lw_at lw_m4 26 rfl) rfl
theorem q875 : (Jvm.Cond.methodLink "LatestCoat" (193 : Nat) ({ cls := "LatestCoat", name := "in", desc := "(JJJ)Z" } : Jvm.MethodName)) ∈ lw_all := lw_g (lw_at lw_m4 27 rfl) rfl
theorem q876 : (Jvm.Cond.methodLink "LatestCoat" (206 : Nat) ({ cls := "java/lang/Math", name := "max", desc := "(II)I" } : Jvm.MethodName)) ∈ lw_all := lw_g (lw_at lw_m4 28 rfl) rfl
theorem q880 : (Jvm.Cond.instanceMethod ({ cls := "LatestCoat", name := "thing", desc := "(II)I" } : Jvm.MethodName)) ∈ lw_all := lw_g (lw_at lw_m4 32 rfl) rfl
theorem q881 : (Jvm.Cond.selects "LatestCoat" ({ cls := "LatestCoat", name := "thing", desc := "(II)I" } : Jvm.MethodName) ({ cls := "LatestCoat", name := "thing", desc := "(II)I" } : Jvm.MethodName)) ∈ lw_all := lw_g (lw_at lw_m4 33 rfl) rfl
theorem q882 : (Jvm.Cond.code ({ cls := "LatestCoat", name := "thing", desc := "(II)I" } : Jvm.MethodName) prog_1_method_17_code (3 : Nat) (Option.some Jvm.ClassFile.FieldType.int)) ∈ lw_all := lw_g (lw_at lw_m4 34 rfl) rfl
theorem q883 : (Jvm.Cond.methodLink "LatestCoat" (212 : Nat) ({ cls := "LatestCoat", name := "isThing", desc := "(I)Z" } : Jvm.MethodName)) ∈ lw_all := lw_g (lw_at lw_m4 35 rfl) rfl
theorem q884 : (Jvm.Cond.privateMethod ({ cls := "LatestCoat", name := "isThing", desc := "(I)Z" } : Jvm.MethodName)) ∈ lw_tbl := lw_at lw_m4 36 rfl
theorem q885 : (Jvm.Cond.instanceMethod ({ cls := "LatestCoat", name := "isThing", desc := "(I)Z" } : Jvm.MethodName)) ∈ lw_all := lw_g (lw_at lw_m4 37 rfl) rfl
theorem q886 : (Jvm.Cond.code ({ cls := "LatestCoat", name := "isThing", desc := "(I)Z" } : Jvm.MethodName) prog_1_method_13_code (2 : Nat) (Option.some Jvm.ClassFile.FieldType.boolean)) ∈ lw_all := lw_g (lw_at lw_m4 38 rfl) rfl
theorem q887 : (Jvm.Cond.methodLink "LatestCoat" (223 : Nat) ({ cls := "LatestCoat$Town", name := "whose", desc := "(I)I" } : Jvm.MethodName)) ∈ lw_all := lw_g (lw_at lw_m4 39 rfl) rfl
theorem q899 : (Jvm.Cond.methodLink "LatestCoat" (227 : Nat) ({ cls := "LatestCoat", name := "has", desc := "(II)Z" } : Jvm.MethodName)) ∈ lw_all := lw_g (lw_at lw_m4 51 rfl) rfl
theorem q901 : (Jvm.Cond.instanceMethod ({ cls := "LatestCoat", name := "painter", desc := "(II)I" } : Jvm.MethodName)) ∈ lw_all := lw_g (lw_at lw_m4 53 rfl) rfl
theorem q902 : (Jvm.Cond.selects "LatestCoat" ({ cls := "LatestCoat", name := "painter", desc := "(II)I" } : Jvm.MethodName) ({ cls := "LatestCoat", name := "painter", desc := "(II)I" } : Jvm.MethodName)) ∈ lw_all := lw_g (lw_at lw_m4 54 rfl) rfl
theorem q903 : (Jvm.Cond.code ({ cls := "LatestCoat", name := "painter", desc := "(II)I" } : Jvm.MethodName) prog_1_method_18_code (5 : Nat) (Option.some Jvm.ClassFile.FieldType.int)) ∈ lw_all := lw_g (lw_at lw_m4 55 rfl) rfl
theorem q904 : (Jvm.Cond.methodLink "LatestCoat" (231 : Nat) ({ cls := "LatestCoat", name := "isPainter", desc := "(I)Z" } : Jvm.MethodName)) ∈ lw_all := lw_g (lw_at lw_m4 56 rfl) rfl
theorem q905 : (Jvm.Cond.privateMethod ({ cls := "LatestCoat", name := "isPainter", desc := "(I)Z" } : Jvm.MethodName)) ∈ lw_tbl := lw_at lw_m4 57 rfl
theorem q906 : (Jvm.Cond.instanceMethod ({ cls := "LatestCoat", name := "isPainter", desc := "(I)Z" } : Jvm.MethodName)) ∈ lw_all := lw_g (lw_at lw_m4 58 rfl) rfl
theorem q907 : (Jvm.Cond.code ({ cls := "LatestCoat", name := "isPainter", desc := "(I)Z" } : Jvm.MethodName) prog_1_method_14_code (2 : Nat) (Option.some Jvm.ClassFile.FieldType.boolean)) ∈ lw_all := lw_g (lw_at lw_m4 59 rfl) rfl
theorem q909 : (Jvm.Cond.instanceMethod ({ cls := "LatestCoat", name := "rain", desc := "(I)I" } : Jvm.MethodName)) ∈ lw_all := lw_g (lw_at lw_m4 61 rfl) rfl
theorem q910 : (Jvm.Cond.selects "LatestCoat" ({ cls := "LatestCoat", name := "rain", desc := "(I)I" } : Jvm.MethodName) ({ cls := "LatestCoat", name := "rain", desc := "(I)I" } : Jvm.MethodName)) ∈ lw_all := lw_g (lw_at lw_m4 62 rfl) rfl
theorem q911 : (Jvm.Cond.code ({ cls := "LatestCoat", name := "rain", desc := "(I)I" } : Jvm.MethodName) prog_1_method_19_code (2 : Nat) (Option.some Jvm.ClassFile.FieldType.int)) ∈ lw_all := lw_g (lw_at lw_m4 63 rfl) rfl
theorem q912 : (Jvm.Cond.methodLink "LatestCoat" (236 : Nat) ({ cls := "LatestCoat$Town", name := "isRain", desc := "(I)Z" } : Jvm.MethodName)) ∈ lw_all := lw_g (lw_at lw_m4 64 rfl) rfl
theorem q917 : (Jvm.Cond.instanceMethod ({ cls := "LatestCoat", name := "undo", desc := "()I" } : Jvm.MethodName)) ∈ lw_all := lw_g (lw_at lw_m4 69 rfl) rfl
theorem q918 : (Jvm.Cond.selects "LatestCoat" ({ cls := "LatestCoat", name := "undo", desc := "()I" } : Jvm.MethodName) ({ cls := "LatestCoat", name := "undo", desc := "()I" } : Jvm.MethodName)) ∈ lw_all := lw_g (lw_at lw_m4 70 rfl) rfl
theorem q919 : (Jvm.Cond.code ({ cls := "LatestCoat", name := "undo", desc := "()I" } : Jvm.MethodName) prog_1_method_21_code (1 : Nat) (Option.some Jvm.ClassFile.FieldType.int)) ∈ lw_all := lw_g (lw_at lw_m4 71 rfl) rfl
theorem q920 : (Jvm.Cond.methodLink "LatestCoat" (254 : Nat) ({ cls := "LatestCoat$Town", name := "takes", desc := "(I)V" } : Jvm.MethodName)) ∈ lw_all := lw_g (lw_at lw_m4 72 rfl) rfl
theorem q925 : (Jvm.Cond.instanceMethod ({ cls := "LatestCoat", name := "hour", desc := "()I" } : Jvm.MethodName)) ∈ lw_all := lw_g (lw_at lw_m4 77 rfl) rfl
theorem q926 : (Jvm.Cond.selects "LatestCoat" ({ cls := "LatestCoat", name := "hour", desc := "()I" } : Jvm.MethodName) ({ cls := "LatestCoat", name := "hour", desc := "()I" } : Jvm.MethodName)) ∈ lw_all := lw_g (lw_at lw_m4 78 rfl) rfl
theorem q927 : (Jvm.Cond.code ({ cls := "LatestCoat", name := "hour", desc := "()I" } : Jvm.MethodName) prog_1_method_22_code (1 : Nat) (Option.some Jvm.ClassFile.FieldType.int)) ∈ lw_all := lw_g (lw_at lw_m4 79 rfl) rfl
theorem q928 : (Jvm.Cond.methodLink "LatestCoat" (260 : Nat) ({ cls := "LatestCoat", name := "keepsAct", desc := "()V" } : Jvm.MethodName)) ∈ lw_all := lw_g (lw_at lw_m4 80 rfl) rfl
theorem q929 : (Jvm.Cond.privateMethod ({ cls := "LatestCoat", name := "keepsAct", desc := "()V" } : Jvm.MethodName)) ∈ lw_tbl := lw_at lw_m4 81 rfl
theorem q930 : (Jvm.Cond.instanceMethod ({ cls := "LatestCoat", name := "keepsAct", desc := "()V" } : Jvm.MethodName)) ∈ lw_all := lw_g (lw_at lw_m4 82 rfl) rfl
theorem q931 : (Jvm.Cond.code ({ cls := "LatestCoat", name := "keepsAct", desc := "()V" } : Jvm.MethodName) prog_1_method_20_code (1 : Nat) (Option.none : Option Jvm.ClassFile.FieldType)) ∈ lw_all := lw_g (lw_at lw_m4 83 rfl) rfl
theorem q932 : (Jvm.Cond.methodLink "LatestCoat" (245 : Nat) ({ cls := "java/lang/System", name := "arraycopy", desc := "(Ljava/lang/Object;ILjava/lang/Object;II)V" } : Jvm.MethodName)) ∈ lw_all := lw_g (lw_at lw_m4 84 rfl) rfl
theorem q933 : (Jvm.Cond.methodLink "LatestCoat" (251 : Nat) ({ cls := "LatestCoat$Town", name := "lays", desc := "(I)V" } : Jvm.MethodName)) ∈ lw_all := lw_g (lw_at lw_m4 85 rfl) rfl
theorem q937 : (Jvm.Cond.methodLink "LatestCoat" (263 : Nat) ({ cls := "LatestCoat", name := "law", desc := "()LLatestCoat$Rule;" } : Jvm.MethodName)) ∈ lw_all := lw_g (lw_at lw_m4 89 rfl) rfl
theorem q938 : (Jvm.Cond.privateMethod ({ cls := "LatestCoat", name := "law", desc := "()LLatestCoat$Rule;" } : Jvm.MethodName)) ∈ lw_tbl := lw_at lw_m4 90 rfl
theorem q939 : (Jvm.Cond.instanceMethod ({ cls := "LatestCoat", name := "law", desc := "()LLatestCoat$Rule;" } : Jvm.MethodName)) ∈ lw_all := lw_g (lw_at lw_m4 91 rfl) rfl
theorem q940 : (Jvm.Cond.code ({ cls := "LatestCoat", name := "law", desc := "()LLatestCoat$Rule;" } : Jvm.MethodName) prog_1_method_11_code (1 : Nat) (Option.some (Jvm.ClassFile.FieldType.object "LatestCoat$Rule"))) ∈ lw_all := lw_g (lw_at lw_m4 92 rfl) rfl
theorem q941 : (Jvm.Cond.methodLink "LatestCoat" (266 : Nat) ({ cls := "LatestCoat$Town", name := "passes", desc := "(LLatestCoat$Rule;[I)I" } : Jvm.MethodName)) ∈ lw_all := lw_g (lw_at lw_m4 93 rfl) rfl
theorem q1028 : (Jvm.Cond.instanceMethod ({ cls := "LatestCoat", name := "paint", desc := "(II)I" } : Jvm.MethodName)) ∈ lw_all := lw_g (lw_at lw_m4 180 rfl) rfl
theorem q1029 : (Jvm.Cond.selects "LatestCoat" ({ cls := "LatestCoat", name := "paint", desc := "(II)I" } : Jvm.MethodName) ({ cls := "LatestCoat", name := "paint", desc := "(II)I" } : Jvm.MethodName)) ∈ lw_all := lw_g (lw_at lw_m4 181 rfl) rfl
theorem q1030 : (Jvm.Cond.code ({ cls := "LatestCoat", name := "paint", desc := "(II)I" } : Jvm.MethodName) prog_1_method_23_code (3 : Nat) (Option.some Jvm.ClassFile.FieldType.int)) ∈ lw_all := lw_g (lw_at lw_m4 182 rfl) rfl
theorem q1031 : (Jvm.Cond.methodLink "LatestCoat" (270 : Nat) ({ cls := "LatestCoat$Town", name := "canPaint", desc := "(II)Z" } : Jvm.MethodName)) ∈ lw_all := lw_g (lw_at lw_m4 183 rfl) rfl
theorem q1032 : (Jvm.Cond.methodLink "LatestCoat" (273 : Nat) ({ cls := "LatestCoat$Town", name := "paints", desc := "(II)V" } : Jvm.MethodName)) ∈ lw_all := lw_g (lw_at lw_m4 184 rfl) rfl
theorem q1034 : (Jvm.Cond.instanceMethod ({ cls := "LatestCoat", name := "scrape", desc := "(I)I" } : Jvm.MethodName)) ∈ lw_all := lw_g (lw_at lw_m4 186 rfl) rfl
theorem q1035 : (Jvm.Cond.selects "LatestCoat" ({ cls := "LatestCoat", name := "scrape", desc := "(I)I" } : Jvm.MethodName) ({ cls := "LatestCoat", name := "scrape", desc := "(I)I" } : Jvm.MethodName)) ∈ lw_all := lw_g (lw_at lw_m4 187 rfl) rfl
theorem q1036 : (Jvm.Cond.code ({ cls := "LatestCoat", name := "scrape", desc := "(I)I" } : Jvm.MethodName) prog_1_method_24_code (3 : Nat) (Option.some Jvm.ClassFile.FieldType.int)) ∈ lw_all := lw_g (lw_at lw_m4 188 rfl) rfl
theorem q1038 : (Jvm.Cond.instanceMethod ({ cls := "LatestCoat", name := "vote", desc := "(I)I" } : Jvm.MethodName)) ∈ lw_all := lw_g (lw_at lw_m4 190 rfl) rfl
theorem q1039 : (Jvm.Cond.selects "LatestCoat" ({ cls := "LatestCoat", name := "vote", desc := "(I)I" } : Jvm.MethodName) ({ cls := "LatestCoat", name := "vote", desc := "(I)I" } : Jvm.MethodName)) ∈ lw_all := lw_g (lw_at lw_m4 191 rfl) rfl
theorem q1040 : (Jvm.Cond.code ({ cls := "LatestCoat", name := "vote", desc := "(I)I" } : Jvm.MethodName) prog_1_method_25_code (2 : Nat) (Option.some Jvm.ClassFile.FieldType.int)) ∈ lw_all := lw_g (lw_at lw_m4 192 rfl) rfl
theorem q1041 : (Jvm.Cond.methodLink "LatestCoat" (277 : Nat) ({ cls := "LatestCoat$Town", name := "bares", desc := "(I)I" } : Jvm.MethodName)) ∈ lw_all := lw_g (lw_at lw_m4 193 rfl) rfl
theorem q1046 : (Jvm.Cond.instanceMethod ({ cls := "LatestCoat", name := "ahead", desc := "(III)I" } : Jvm.MethodName)) ∈ lw_all := lw_g (lw_at lw_m4 198 rfl) rfl
theorem q1047 : (Jvm.Cond.selects "LatestCoat" ({ cls := "LatestCoat", name := "ahead", desc := "(III)I" } : Jvm.MethodName) ({ cls := "LatestCoat", name := "ahead", desc := "(III)I" } : Jvm.MethodName)) ∈ lw_all := lw_g (lw_at lw_m4 199 rfl) rfl
theorem q1048 : (Jvm.Cond.code ({ cls := "LatestCoat", name := "ahead", desc := "(III)I" } : Jvm.MethodName) prog_1_method_26_code (6 : Nat) (Option.some Jvm.ClassFile.FieldType.int)) ∈ lw_all := lw_g (lw_at lw_m4 200 rfl) rfl
theorem q1049 : (Jvm.Cond.constantLong "LatestCoat" (280 : Nat) (100 : Int64)) ∈ lw_all := lw_g (lw_at lw_m4 201 rfl) rfl
theorem q1051 : (Jvm.Cond.instanceMethod ({ cls := "LatestCoat", name := "rents", desc := "(II)I" } : Jvm.MethodName)) ∈ lw_all := lw_g (lw_at lw_m4 203 rfl) rfl
theorem q1052 : (Jvm.Cond.selects "LatestCoat" ({ cls := "LatestCoat", name := "rents", desc := "(II)I" } : Jvm.MethodName) ({ cls := "LatestCoat", name := "rents", desc := "(II)I" } : Jvm.MethodName)) ∈ lw_all := lw_g (lw_at lw_m4 204 rfl) rfl
theorem q1053 : (Jvm.Cond.code ({ cls := "LatestCoat", name := "rents", desc := "(II)I" } : Jvm.MethodName) prog_1_method_28_code (3 : Nat) (Option.some Jvm.ClassFile.FieldType.int)) ∈ lw_all := lw_g (lw_at lw_m4 205 rfl) rfl
theorem q1054 : (Jvm.Cond.methodLink "LatestCoat" (282 : Nat) ({ cls := "LatestCoat", name := "gotIn", desc := "(LLatestCoat$Town;IILLatestCoat$Rule;)I" } : Jvm.MethodName)) ∈ lw_all := lw_g (lw_at lw_m4 206 rfl) rfl
theorem q1055 : (Jvm.Cond.privateMethod ({ cls := "LatestCoat", name := "gotIn", desc := "(LLatestCoat$Town;IILLatestCoat$Rule;)I" } : Jvm.MethodName)) ∈ lw_tbl := lw_at lw_m4 207 rfl
theorem q1056 : (Jvm.Cond.instanceMethod ({ cls := "LatestCoat", name := "gotIn", desc := "(LLatestCoat$Town;IILLatestCoat$Rule;)I" } : Jvm.MethodName)) ∈ lw_all := lw_g (lw_at lw_m4 208 rfl) rfl
theorem q1057 : (Jvm.Cond.code ({ cls := "LatestCoat", name := "gotIn", desc := "(LLatestCoat$Town;IILLatestCoat$Rule;)I" } : Jvm.MethodName) prog_1_method_27_code (6 : Nat) (Option.some Jvm.ClassFile.FieldType.int)) ∈ lw_all := lw_g (lw_at lw_m4 209 rfl) rfl
theorem q1059 : (Jvm.Cond.instanceMethod ({ cls := "LatestCoat", name := "worth", desc := "(III)I" } : Jvm.MethodName)) ∈ lw_all := lw_g (lw_at lw_m4 211 rfl) rfl
theorem q1060 : (Jvm.Cond.selects "LatestCoat" ({ cls := "LatestCoat", name := "worth", desc := "(III)I" } : Jvm.MethodName) ({ cls := "LatestCoat", name := "worth", desc := "(III)I" } : Jvm.MethodName)) ∈ lw_all := lw_g (lw_at lw_m4 212 rfl) rfl
theorem q1061 : (Jvm.Cond.code ({ cls := "LatestCoat", name := "worth", desc := "(III)I" } : Jvm.MethodName) prog_1_method_29_code (6 : Nat) (Option.some Jvm.ClassFile.FieldType.int)) ∈ lw_all := lw_g (lw_at lw_m4 213 rfl) rfl
theorem q1062 : (Jvm.Cond.methodLink "LatestCoat" (286 : Nat) ({ cls := "LatestCoat$Town", name := "isBareCell", desc := "(I)Z" } : Jvm.MethodName)) ∈ lw_all := lw_g (lw_at lw_m4 214 rfl) rfl
theorem q1063 : (Jvm.Cond.constant "LatestCoat" (289 : Nat) (-100000 : Int32)) ∈ lw_all := lw_g (lw_at lw_m4 215 rfl) rfl
theorem q1064 : (Jvm.Cond.methodLink "LatestCoat" (290 : Nat) ({ cls := "LatestCoat$Town", name := "putsCoat", desc := "(III)V" } : Jvm.MethodName)) ∈ lw_all := lw_g (lw_at lw_m4 216 rfl) rfl
theorem q1066 : (Jvm.Cond.instanceMethod ({ cls := "LatestCoat", name := "least", desc := "(IIII)I" } : Jvm.MethodName)) ∈ lw_all := lw_g (lw_at lw_m4 218 rfl) rfl
theorem q1067 : (Jvm.Cond.selects "LatestCoat" ({ cls := "LatestCoat", name := "least", desc := "(IIII)I" } : Jvm.MethodName) ({ cls := "LatestCoat", name := "least", desc := "(IIII)I" } : Jvm.MethodName)) ∈ lw_all := lw_g (lw_at lw_m4 219 rfl) rfl
theorem q1068 : (Jvm.Cond.code ({ cls := "LatestCoat", name := "least", desc := "(IIII)I" } : Jvm.MethodName) prog_1_method_31_code (7 : Nat) (Option.some Jvm.ClassFile.FieldType.int)) ∈ lw_all := lw_g (lw_at lw_m4 220 rfl) rfl
theorem q1069 : (Jvm.Cond.constantLong "LatestCoat" (301 : Nat) (60 : Int64)) ∈ lw_all := lw_g (lw_at lw_m4 221 rfl) rfl
theorem q1070 : (Jvm.Cond.methodLink "LatestCoat" (303 : Nat) ({ cls := "java/lang/Integer", name := "bitCount", desc := "(I)I" } : Jvm.MethodName)) ∈ lw_all := lw_g (lw_at lw_m4 222 rfl) rfl
theorem q1076 : (Jvm.Cond.methodLink "LatestCoat" (306 : Nat) ({ cls := "LatestCoat", name := "isTheirsBy", desc := "(IIII)Z" } : Jvm.MethodName)) ∈ lw_all := lw_g (lw_at lw_m4 228 rfl) rfl
theorem q1077 : (Jvm.Cond.privateMethod ({ cls := "LatestCoat", name := "isTheirsBy", desc := "(IIII)Z" } : Jvm.MethodName)) ∈ lw_tbl := lw_at lw_m4 229 rfl
theorem q1078 : (Jvm.Cond.instanceMethod ({ cls := "LatestCoat", name := "isTheirsBy", desc := "(IIII)Z" } : Jvm.MethodName)) ∈ lw_all := lw_g (lw_at lw_m4 230 rfl) rfl
theorem q1079 : (Jvm.Cond.code ({ cls := "LatestCoat", name := "isTheirsBy", desc := "(IIII)Z" } : Jvm.MethodName) prog_1_method_30_code (7 : Nat) (Option.some Jvm.ClassFile.FieldType.boolean)) ∈ lw_all := lw_g (lw_at lw_m4 231 rfl) rfl
theorem q1080 : (Jvm.Cond.methodLink "LatestCoat" (294 : Nat) ({ cls := "LatestCoat$Town", name := "standsAs", desc := "(LLatestCoat$Town;)LLatestCoat$Town;" } : Jvm.MethodName)) ∈ lw_all := lw_g (lw_at lw_m4 232 rfl) rfl
theorem q1081 : (Jvm.Cond.methodLink "LatestCoat" (297 : Nat) ({ cls := "LatestCoat$Town", name := "closes", desc := "([I)V" } : Jvm.MethodName)) ∈ lw_all := lw_g (lw_at lw_m4 233 rfl) rfl
theorem q1083 : (Jvm.Cond.instanceMethod ({ cls := "LatestCoat", name := "fewest", desc := "(III)I" } : Jvm.MethodName)) ∈ lw_all := lw_g (lw_at lw_m4 235 rfl) rfl
theorem q1084 : (Jvm.Cond.selects "LatestCoat" ({ cls := "LatestCoat", name := "fewest", desc := "(III)I" } : Jvm.MethodName) ({ cls := "LatestCoat", name := "fewest", desc := "(III)I" } : Jvm.MethodName)) ∈ lw_all := lw_g (lw_at lw_m4 236 rfl) rfl
theorem q1085 : (Jvm.Cond.code ({ cls := "LatestCoat", name := "fewest", desc := "(III)I" } : Jvm.MethodName) prog_1_method_33_code (4 : Nat) (Option.some Jvm.ClassFile.FieldType.int)) ∈ lw_all := lw_g (lw_at lw_m4 237 rfl) rfl
theorem q1086 : (Jvm.Cond.constantLong "LatestCoat" (317 : Nat) (6 : Int64)) ∈ lw_all := lw_g (lw_at lw_m4 238 rfl) rfl
theorem q1087 : (Jvm.Cond.methodLink "LatestCoat" (313 : Nat) ({ cls := "LatestCoat", name := "triesScrapes", desc := "(IIII)V" } : Jvm.MethodName)) ∈ lw_all := lw_g (lw_at lw_m4 239 rfl) rfl
theorem q1088 : (Jvm.Cond.privateMethod ({ cls := "LatestCoat", name := "triesScrapes", desc := "(IIII)V" } : Jvm.MethodName)) ∈ lw_tbl := lw_at lw_m5 0 rfl
theorem q1089 : (Jvm.Cond.instanceMethod ({ cls := "LatestCoat", name := "triesScrapes", desc := "(IIII)V" } : Jvm.MethodName)) ∈ lw_all := lw_g (lw_at lw_m5 1 rfl) rfl
theorem q1090 : (Jvm.Cond.code ({ cls := "LatestCoat", name := "triesScrapes", desc := "(IIII)V" } : Jvm.MethodName) prog_1_method_32_code (7 : Nat) (Option.none : Option Jvm.ClassFile.FieldType)) ∈ lw_all := lw_g (lw_at lw_m5 2 rfl) rfl
theorem q1092 : (Jvm.Cond.instanceMethod ({ cls := "LatestCoat", name := "when", desc := "()I" } : Jvm.MethodName)) ∈ lw_all := lw_g (lw_at lw_m5 4 rfl) rfl
theorem q1093 : (Jvm.Cond.selects "LatestCoat" ({ cls := "LatestCoat", name := "when", desc := "()I" } : Jvm.MethodName) ({ cls := "LatestCoat", name := "when", desc := "()I" } : Jvm.MethodName)) ∈ lw_all := lw_g (lw_at lw_m5 5 rfl) rfl
theorem q1094 : (Jvm.Cond.code ({ cls := "LatestCoat", name := "when", desc := "()I" } : Jvm.MethodName) prog_1_method_35_code (2 : Nat) (Option.some Jvm.ClassFile.FieldType.int)) ∈ lw_all := lw_g (lw_at lw_m5 6 rfl) rfl
theorem q1095 : (Jvm.Cond.methodLink "LatestCoat" (322 : Nat) ({ cls := "LatestCoat", name := "staysDry", desc := "(I)Z" } : Jvm.MethodName)) ∈ lw_all := lw_g (lw_at lw_m5 7 rfl) rfl
theorem q1096 : (Jvm.Cond.privateMethod ({ cls := "LatestCoat", name := "staysDry", desc := "(I)Z" } : Jvm.MethodName)) ∈ lw_tbl := lw_at lw_m5 8 rfl
theorem q1097 : (Jvm.Cond.instanceMethod ({ cls := "LatestCoat", name := "staysDry", desc := "(I)Z" } : Jvm.MethodName)) ∈ lw_all := lw_g (lw_at lw_m5 9 rfl) rfl
theorem q1098 : (Jvm.Cond.code ({ cls := "LatestCoat", name := "staysDry", desc := "(I)Z" } : Jvm.MethodName) prog_1_method_34_code (3 : Nat) (Option.some Jvm.ClassFile.FieldType.boolean)) ∈ lw_all := lw_g (lw_at lw_m5 10 rfl) rfl
theorem q1100 : (Jvm.Cond.instanceMethod ({ cls := "LatestCoat", name := "game", desc := "(IIIII)I" } : Jvm.MethodName)) ∈ lw_all := lw_g (lw_at lw_m5 12 rfl) rfl
theorem q1101 : (Jvm.Cond.selects "LatestCoat" ({ cls := "LatestCoat", name := "game", desc := "(IIIII)I" } : Jvm.MethodName) ({ cls := "LatestCoat", name := "game", desc := "(IIIII)I" } : Jvm.MethodName)) ∈ lw_all := lw_g (lw_at lw_m5 13 rfl) rfl
theorem q1102 : (Jvm.Cond.code ({ cls := "LatestCoat", name := "game", desc := "(IIIII)I" } : Jvm.MethodName) prog_1_method_37_code (7 : Nat) (Option.some Jvm.ClassFile.FieldType.int)) ∈ lw_all := lw_g (lw_at lw_m5 14 rfl) rfl
theorem q1103 : (Jvm.Cond.constantLong "LatestCoat" (335 : Nat) (4 : Int64)) ∈ lw_all := lw_g (lw_at lw_m5 15 rfl) rfl
theorem q1104 : (Jvm.Cond.methodLink "LatestCoat" (328 : Nat) ({ cls := "LatestCoat", name := "worthFrom", desc := "(IIIII)I" } : Jvm.MethodName)) ∈ lw_all := lw_g (lw_at lw_m5 16 rfl) rfl
theorem q1105 : (Jvm.Cond.privateMethod ({ cls := "LatestCoat", name := "worthFrom", desc := "(IIIII)I" } : Jvm.MethodName)) ∈ lw_tbl := lw_at lw_m5 17 rfl
theorem q1106 : (Jvm.Cond.instanceMethod ({ cls := "LatestCoat", name := "worthFrom", desc := "(IIIII)I" } : Jvm.MethodName)) ∈ lw_all := lw_g (lw_at lw_m5 18 rfl) rfl
theorem q1107 : (Jvm.Cond.code ({ cls := "LatestCoat", name := "worthFrom", desc := "(IIIII)I" } : Jvm.MethodName) prog_1_method_36_code (12 : Nat) (Option.some Jvm.ClassFile.FieldType.int)) ∈ lw_all := lw_g (lw_at lw_m5 19 rfl) rfl
theorem q1108 : (Jvm.Cond.methodLink "LatestCoat" (325 : Nat) ({ cls := "LatestCoat$Town", name := "cellsOf", desc := "(II)I" } : Jvm.MethodName)) ∈ lw_all := lw_g (lw_at lw_m5 20 rfl) rfl
theorem q1110 : (Jvm.Cond.instanceMethod ({ cls := "LatestCoat", name := "share", desc := "(III)I" } : Jvm.MethodName)) ∈ lw_all := lw_g (lw_at lw_m5 22 rfl) rfl
theorem q1111 : (Jvm.Cond.selects "LatestCoat" ({ cls := "LatestCoat", name := "share", desc := "(III)I" } : Jvm.MethodName) ({ cls := "LatestCoat", name := "share", desc := "(III)I" } : Jvm.MethodName)) ∈ lw_all := lw_g (lw_at lw_m5 23 rfl) rfl
theorem q1112 : (Jvm.Cond.code ({ cls := "LatestCoat", name := "share", desc := "(III)I" } : Jvm.MethodName) prog_1_method_39_code (5 : Nat) (Option.some Jvm.ClassFile.FieldType.int)) ∈ lw_all := lw_g (lw_at lw_m5 24 rfl) rfl
theorem q1113 : (Jvm.Cond.methodLink "LatestCoat" (337 : Nat) ({ cls := "LatestCoat", name := "divisor", desc := "(II)I" } : Jvm.MethodName)) ∈ lw_all := lw_g (lw_at lw_m5 25 rfl) rfl
theorem q1114 : (Jvm.Cond.static ({ cls := "LatestCoat", name := "divisor", desc := "(II)I" } : Jvm.MethodName)) ∈ lw_all := lw_g (lw_at lw_m5 26 rfl) rfl
theorem q1115 : (Jvm.Cond.code ({ cls := "LatestCoat", name := "divisor", desc := "(II)I" } : Jvm.MethodName) prog_1_method_38_code (2 : Nat) (Option.some Jvm.ClassFile.FieldType.int)) ∈ lw_all := lw_g (lw_at lw_m5 27 rfl) rfl
theorem q1117 : (Jvm.Cond.instanceMethod ({ cls := "LatestCoat", name := "then", desc := "(II)I" } : Jvm.MethodName)) ∈ lw_all := lw_g (lw_at lw_m5 29 rfl) rfl
theorem q1118 : (Jvm.Cond.selects "LatestCoat" ({ cls := "LatestCoat", name := "then", desc := "(II)I" } : Jvm.MethodName) ({ cls := "LatestCoat", name := "then", desc := "(II)I" } : Jvm.MethodName)) ∈ lw_all := lw_g (lw_at lw_m5 30 rfl) rfl
theorem q1119 : (Jvm.Cond.code ({ cls := "LatestCoat", name := "then", desc := "(II)I" } : Jvm.MethodName) prog_1_method_40_code (3 : Nat) (Option.some Jvm.ClassFile.FieldType.int)) ∈ lw_all := lw_g (lw_at lw_m5 31 rfl) rfl
theorem q1120 : (Jvm.Cond.methodLink "LatestCoat" (343 : Nat) ({ cls := "LatestCoat$Town", name := "thingAt", desc := "(IIII)I" } : Jvm.MethodName)) ∈ lw_all := lw_g (lw_at lw_m5 32 rfl) rfl
theorem q1122 : (Jvm.Cond.instanceMethod ({ cls := "LatestCoat", name := "byPart", desc := "(II)I" } : Jvm.MethodName)) ∈ lw_all := lw_g (lw_at lw_m5 34 rfl) rfl
theorem q1123 : (Jvm.Cond.selects "LatestCoat" ({ cls := "LatestCoat", name := "byPart", desc := "(II)I" } : Jvm.MethodName) ({ cls := "LatestCoat", name := "byPart", desc := "(II)I" } : Jvm.MethodName)) ∈ lw_all := lw_g (lw_at lw_m5 35 rfl) rfl
theorem q1124 : (Jvm.Cond.code ({ cls := "LatestCoat", name := "byPart", desc := "(II)I" } : Jvm.MethodName) prog_1_method_41_code (3 : Nat) (Option.some Jvm.ClassFile.FieldType.int)) ∈ lw_all := lw_g (lw_at lw_m5 36 rfl) rfl
theorem q1125 : (Jvm.Cond.constant "LatestCoat" (347 : Nat) (2147483647 : Int32)) ∈ lw_all := lw_g (lw_at lw_m5 37 rfl) rfl
theorem q1127 : (Jvm.Cond.instanceMethod ({ cls := "LatestCoat", name := "one", desc := "()I" } : Jvm.MethodName)) ∈ lw_all := lw_g (lw_at lw_m5 39 rfl) rfl
theorem q1128 : (Jvm.Cond.selects "LatestCoat" ({ cls := "LatestCoat", name := "one", desc := "()I" } : Jvm.MethodName) ({ cls := "LatestCoat", name := "one", desc := "()I" } : Jvm.MethodName)) ∈ lw_all := lw_g (lw_at lw_m5 40 rfl) rfl
theorem q1129 : (Jvm.Cond.code ({ cls := "LatestCoat", name := "one", desc := "()I" } : Jvm.MethodName) prog_1_method_42_code (3 : Nat) (Option.some Jvm.ClassFile.FieldType.int)) ∈ lw_all := lw_g (lw_at lw_m5 41 rfl) rfl
theorem q1130 : (Jvm.Cond.methodLink "LatestCoat" (348 : Nat) ({ cls := "LatestCoat$Town", name := "isOneColour", desc := "()Z" } : Jvm.MethodName)) ∈ lw_all := lw_g (lw_at lw_m5 42 rfl) rfl
theorem q1135 : (Jvm.Cond.instanceMethod ({ cls := "LatestCoat", name := "log", desc := "(III)I" } : Jvm.MethodName)) ∈ lw_all := lw_g (lw_at lw_m5 47 rfl) rfl
theorem q1136 : (Jvm.Cond.selects "LatestCoat" ({ cls := "LatestCoat", name := "log", desc := "(III)I" } : Jvm.MethodName) ({ cls := "LatestCoat", name := "log", desc := "(III)I" } : Jvm.MethodName)) ∈ lw_all := lw_g (lw_at lw_m5 48 rfl) rfl
theorem q1137 : (Jvm.Cond.code ({ cls := "LatestCoat", name := "log", desc := "(III)I" } : Jvm.MethodName) prog_1_method_43_code (5 : Nat) (Option.some Jvm.ClassFile.FieldType.int)) ∈ lw_all := lw_g (lw_at lw_m5 49 rfl) rfl
theorem q1138 : (Jvm.Cond.constantLong "LatestCoat" (355 : Nat) (99 : Int64)) ∈ lw_all := lw_g (lw_at lw_m5 50 rfl) rfl
theorem q1140 : (Jvm.Cond.instanceMethod ({ cls := "LatestCoat", name := "ruled", desc := "(I)I" } : Jvm.MethodName)) ∈ lw_all := lw_g (lw_at lw_m5 52 rfl) rfl
theorem q1141 : (Jvm.Cond.selects "LatestCoat" ({ cls := "LatestCoat", name := "ruled", desc := "(I)I" } : Jvm.MethodName) ({ cls := "LatestCoat", name := "ruled", desc := "(I)I" } : Jvm.MethodName)) ∈ lw_all := lw_g (lw_at lw_m5 53 rfl) rfl
theorem q1142 : (Jvm.Cond.code ({ cls := "LatestCoat", name := "ruled", desc := "(I)I" } : Jvm.MethodName) prog_1_method_46_code (5 : Nat) (Option.some Jvm.ClassFile.FieldType.int)) ∈ lw_all := lw_g (lw_at lw_m5 54 rfl) rfl
theorem q1143 : (Jvm.Cond.methodLink "LatestCoat" (367 : Nat) ({ cls := "LatestCoat", name := "gathersRules", desc := "(I)V" } : Jvm.MethodName)) ∈ lw_all := lw_g (lw_at lw_m5 55 rfl) rfl
theorem q1144 : (Jvm.Cond.privateMethod ({ cls := "LatestCoat", name := "gathersRules", desc := "(I)V" } : Jvm.MethodName)) ∈ lw_tbl := lw_at lw_m5 56 rfl
theorem q1145 : (Jvm.Cond.instanceMethod ({ cls := "LatestCoat", name := "gathersRules", desc := "(I)V" } : Jvm.MethodName)) ∈ lw_all := lw_g (lw_at lw_m5 57 rfl) rfl
theorem q1146 : (Jvm.Cond.code ({ cls := "LatestCoat", name := "gathersRules", desc := "(I)V" } : Jvm.MethodName) prog_1_method_45_code (6 : Nat) (Option.none : Option Jvm.ClassFile.FieldType)) ∈ lw_all := lw_g (lw_at lw_m5 58 rfl) rfl
theorem q1147 : (Jvm.Cond.methodLink "LatestCoat" (360 : Nat) ({ cls := "LatestCoat$Town", name := "begins", desc := "()V" } : Jvm.MethodName)) ∈ lw_all := lw_g (lw_at lw_m5 59 rfl) rfl
theorem q1148 : (Jvm.Cond.methodLink "LatestCoat" (363 : Nat) ({ cls := "LatestCoat", name := "areLogsSo", desc := "(LLatestCoat$Town;)Z" } : Jvm.MethodName)) ∈ lw_all := lw_g (lw_at lw_m5 60 rfl) rfl
theorem q1149 : (Jvm.Cond.privateMethod ({ cls := "LatestCoat", name := "areLogsSo", desc := "(LLatestCoat$Town;)Z" } : Jvm.MethodName)) ∈ lw_tbl := lw_at lw_m5 61 rfl
theorem q1150 : (Jvm.Cond.instanceMethod ({ cls := "LatestCoat", name := "areLogsSo", desc := "(LLatestCoat$Town;)Z" } : Jvm.MethodName)) ∈ lw_all := lw_g (lw_at lw_m5 62 rfl) rfl
theorem q1151 : (Jvm.Cond.code ({ cls := "LatestCoat", name := "areLogsSo", desc := "(LLatestCoat$Town;)Z" } : Jvm.MethodName) prog_1_method_44_code (3 : Nat) (Option.some Jvm.ClassFile.FieldType.boolean)) ∈ lw_all := lw_g (lw_at lw_m5 63 rfl) rfl
theorem q1153 : (Jvm.Cond.instanceMethod ({ cls := "LatestCoat", name := "look", desc := "(II)I" } : Jvm.MethodName)) ∈ lw_all := lw_g (lw_at lw_m5 65 rfl) rfl
theorem q1154 : (Jvm.Cond.selects "LatestCoat" ({ cls := "LatestCoat", name := "look", desc := "(II)I" } : Jvm.MethodName) ({ cls := "LatestCoat", name := "look", desc := "(II)I" } : Jvm.MethodName)) ∈ lw_all := lw_g (lw_at lw_m5 66 rfl) rfl
theorem q1155 : (Jvm.Cond.code ({ cls := "LatestCoat", name := "look", desc := "(II)I" } : Jvm.MethodName) prog_1_method_48_code (7 : Nat) (Option.some Jvm.ClassFile.FieldType.int)) ∈ lw_all := lw_g (lw_at lw_m5 67 rfl) rfl
theorem q1156 : (Jvm.Cond.methodLink "LatestCoat" (370 : Nat) ({ cls := "LatestCoat", name := "alikeAt", desc := "(I)I" } : Jvm.MethodName)) ∈ lw_all := lw_g (lw_at lw_m5 68 rfl) rfl
theorem q1157 : (Jvm.Cond.privateMethod ({ cls := "LatestCoat", name := "alikeAt", desc := "(I)I" } : Jvm.MethodName)) ∈ lw_tbl := lw_at lw_m5 69 rfl
theorem q1158 : (Jvm.Cond.instanceMethod ({ cls := "LatestCoat", name := "alikeAt", desc := "(I)I" } : Jvm.MethodName)) ∈ lw_all := lw_g (lw_at lw_m5 70 rfl) rfl
theorem q1159 : (Jvm.Cond.code ({ cls := "LatestCoat", name := "alikeAt", desc := "(I)I" } : Jvm.MethodName) prog_1_method_47_code (6 : Nat) (Option.some Jvm.ClassFile.FieldType.int)) ∈ lw_all := lw_g (lw_at lw_m5 71 rfl) rfl
theorem q1161 : (Jvm.Cond.instanceMethod ({ cls := "LatestCoat", name := "seed", desc := "(I)I" } : Jvm.MethodName)) ∈ lw_all := lw_g (lw_at lw_m5 73 rfl) rfl
theorem q1162 : (Jvm.Cond.selects "LatestCoat" ({ cls := "LatestCoat", name := "seed", desc := "(I)I" } : Jvm.MethodName) ({ cls := "LatestCoat", name := "seed", desc := "(I)I" } : Jvm.MethodName)) ∈ lw_all := lw_g (lw_at lw_m5 74 rfl) rfl
theorem q1163 : (Jvm.Cond.code ({ cls := "LatestCoat", name := "seed", desc := "(I)I" } : Jvm.MethodName) prog_1_method_49_code (3 : Nat) (Option.some Jvm.ClassFile.FieldType.int)) ∈ lw_all := lw_g (lw_at lw_m5 75 rfl) rfl
theorem q1165 : (Jvm.Cond.instanceMethod ({ cls := "LatestCoat", name := "years", desc := "(III)I" } : Jvm.MethodName)) ∈ lw_all := lw_g (lw_at lw_m5 77 rfl) rfl
theorem q1166 : (Jvm.Cond.selects "LatestCoat" ({ cls := "LatestCoat", name := "years", desc := "(III)I" } : Jvm.MethodName) ({ cls := "LatestCoat", name := "years", desc := "(III)I" } : Jvm.MethodName)) ∈ lw_all := lw_g (lw_at lw_m5 78 rfl) rfl
theorem q1167 : (Jvm.Cond.code ({ cls := "LatestCoat", name := "years", desc := "(III)I" } : Jvm.MethodName) prog_1_method_52_code (9 : Nat) (Option.some Jvm.ClassFile.FieldType.int)) ∈ lw_all := lw_g (lw_at lw_m5 79 rfl) rfl
theorem q1168 : (Jvm.Cond.constantLong "LatestCoat" (389 : Nat) (10 : Int64)) ∈ lw_all := lw_g (lw_at lw_m5 80 rfl) rfl
theorem q1169 : (Jvm.Cond.methodLink "LatestCoat" (391 : Nat) ({ cls := "LatestCoat", name := "paintsDrawn", desc := "(LLatestCoat$Town;)Z" } : Jvm.MethodName)) ∈ lw_all := lw_g (lw_at lw_m5 81 rfl) rfl
theorem q1170 : (Jvm.Cond.privateMethod ({ cls := "LatestCoat", name := "paintsDrawn", desc := "(LLatestCoat$Town;)Z" } : Jvm.MethodName)) ∈ lw_tbl := lw_at lw_m5 82 rfl
theorem q1171 : (Jvm.Cond.instanceMethod ({ cls := "LatestCoat", name := "paintsDrawn", desc := "(LLatestCoat$Town;)Z" } : Jvm.MethodName)) ∈ lw_all := lw_g (lw_at lw_m5 83 rfl) rfl
theorem q1172 : (Jvm.Cond.code ({ cls := "LatestCoat", name := "paintsDrawn", desc := "(LLatestCoat$Town;)Z" } : Jvm.MethodName) prog_1_method_51_code (4 : Nat) (Option.some Jvm.ClassFile.FieldType.boolean)) ∈ lw_all := lw_g (lw_at lw_m5 84 rfl) rfl
theorem q1173 : (Jvm.Cond.methodLink "LatestCoat" (386 : Nat) ({ cls := "LatestCoat", name := "draw", desc := "(I)I" } : Jvm.MethodName)) ∈ lw_all := lw_g (lw_at lw_m5 85 rfl) rfl
theorem q1174 : (Jvm.Cond.privateMethod ({ cls := "LatestCoat", name := "draw", desc := "(I)I" } : Jvm.MethodName)) ∈ lw_tbl := lw_at lw_m5 86 rfl
theorem q1175 : (Jvm.Cond.instanceMethod ({ cls := "LatestCoat", name := "draw", desc := "(I)I" } : Jvm.MethodName)) ∈ lw_all := lw_g (lw_at lw_m5 87 rfl) rfl
theorem q1176 : (Jvm.Cond.code ({ cls := "LatestCoat", name := "draw", desc := "(I)I" } : Jvm.MethodName) prog_1_method_50_code (2 : Nat) (Option.some Jvm.ClassFile.FieldType.int)) ∈ lw_all := lw_g (lw_at lw_m5 88 rfl) rfl
theorem q1177 : (Jvm.Cond.constantLong "LatestCoat" (379 : Nat) (1103515245 : Int64)) ∈ lw_all := lw_g (lw_at lw_m5 89 rfl) rfl
theorem q1178 : (Jvm.Cond.constantLong "LatestCoat" (381 : Nat) (12345 : Int64)) ∈ lw_all := lw_g (lw_at lw_m5 90 rfl) rfl
theorem q1179 : (Jvm.Cond.constantLong "LatestCoat" (383 : Nat) (2147483648 : Int64)) ∈ lw_all := lw_g (lw_at lw_m5 91 rfl) rfl
theorem q1180 : (Jvm.Cond.constant "LatestCoat" (385 : Nat) (65536 : Int32)) ∈ lw_all := lw_g (lw_at lw_m5 92 rfl) rfl
theorem q1182 : (Jvm.Cond.instanceMethod ({ cls := "LatestCoat", name := "count", desc := "(I)I" } : Jvm.MethodName)) ∈ lw_all := lw_g (lw_at lw_m5 94 rfl) rfl
theorem q1183 : (Jvm.Cond.selects "LatestCoat" ({ cls := "LatestCoat", name := "count", desc := "(I)I" } : Jvm.MethodName) ({ cls := "LatestCoat", name := "count", desc := "(I)I" } : Jvm.MethodName)) ∈ lw_all := lw_g (lw_at lw_m5 95 rfl) rfl
theorem q1184 : (Jvm.Cond.code ({ cls := "LatestCoat", name := "count", desc := "(I)I" } : Jvm.MethodName) prog_1_method_53_code (4 : Nat) (Option.some Jvm.ClassFile.FieldType.int)) ∈ lw_all := lw_g (lw_at lw_m5 96 rfl) rfl
theorem q1185 : (Jvm.Cond.constantLong "LatestCoat" (394 : Nat) (15 : Int64)) ∈ lw_all := lw_g (lw_at lw_m5 97 rfl) rfl
theorem q1187 : (Jvm.Cond.instanceMethod ({ cls := "LatestCoat", name := "image", desc := "(I)I" } : Jvm.MethodName)) ∈ lw_all := lw_g (lw_at lw_m5 99 rfl) rfl
theorem q1188 : (Jvm.Cond.selects "LatestCoat" ({ cls := "LatestCoat", name := "image", desc := "(I)I" } : Jvm.MethodName) ({ cls := "LatestCoat", name := "image", desc := "(I)I" } : Jvm.MethodName)) ∈ lw_all := lw_g (lw_at lw_m5 100 rfl) rfl
theorem q1189 : (Jvm.Cond.code ({ cls := "LatestCoat", name := "image", desc := "(I)I" } : Jvm.MethodName) prog_1_method_54_code (3 : Nat) (Option.some Jvm.ClassFile.FieldType.int)) ∈ lw_all := lw_g (lw_at lw_m5 101 rfl) rfl
theorem q1190 : (Jvm.Cond.constantLong "LatestCoat" (401 : Nat) (3 : Int64)) ∈ lw_all := lw_g (lw_at lw_m5 102 rfl) rfl
theorem q1192 : (Jvm.Cond.methodLinkNest "LatestCoat" (403 : Nat) ({ cls := "LatestCoat$Image", name := "<init>", desc := "()V" } : Jvm.MethodName) "LatestCoat") ∈ lw_tbl := lw_at lw_m5 104 rfl
theorem q1199 : (Jvm.Cond.fieldLinkNest "LatestCoat" (410 : Nat) "LatestCoat$Image" "town" "LLatestCoat$Town;" "LatestCoat") ∈ lw_tbl := lw_at lw_m5 111 rfl
theorem q1200 : (Jvm.Cond.fieldLinkNest "LatestCoat" (404 : Nat) "LatestCoat$Image" "isTold" "Z" "LatestCoat") ∈ lw_tbl := lw_at lw_m5 112 rfl
theorem q1201 : (Jvm.Cond.fieldLinkNest "LatestCoat" (408 : Nat) "LatestCoat$Image" "x" "I" "LatestCoat") ∈ lw_tbl := lw_at lw_m5 113 rfl
theorem q1202 : (Jvm.Cond.fieldLinkNest "LatestCoat" (409 : Nat) "LatestCoat$Image" "inForce" "I" "LatestCoat") ∈ lw_tbl := lw_at lw_m5 114 rfl
theorem q1213 : (Jvm.Cond.instanceMethod ({ cls := "LatestCoat", name := "back", desc := "(I)I" } : Jvm.MethodName)) ∈ lw_all := lw_g (lw_at lw_m5 125 rfl) rfl
theorem q1214 : (Jvm.Cond.selects "LatestCoat" ({ cls := "LatestCoat", name := "back", desc := "(I)I" } : Jvm.MethodName) ({ cls := "LatestCoat", name := "back", desc := "(I)I" } : Jvm.MethodName)) ∈ lw_all := lw_g (lw_at lw_m5 126 rfl) rfl
theorem q1215 : (Jvm.Cond.code ({ cls := "LatestCoat", name := "back", desc := "(I)I" } : Jvm.MethodName) prog_1_method_55_code (2 : Nat) (Option.some Jvm.ClassFile.FieldType.int)) ∈ lw_all := lw_g (lw_at lw_m5 127 rfl) rfl
theorem in_X0 : ∀ w ∈ wsX00, w ∈ lw_all := lw_in wsX00 [434, 436, 438, 440, 442, 444, 446, 448, 450, 452, 454, 456, 458, 460, 462, 464, 466, 468, 470, 472, 474, 476, 478, 480, 482] (by decide +kernel) (by decide +kernel)
