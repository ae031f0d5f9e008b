/-! LatestCoatModel -/
set_option maxRecDepth 100000
def RX3 : String := "LatestCoatModel"
def TX3 : u_T := fun k => match k with
  | 0 => ("LatestCoatModel", "thrown", "I", false)
  | 1 => ("LatestCoatModel", "scalar", "[I", true)
  | 2 => ("LatestCoatModel", "first", "[I", true)
  | 3 => ("LatestCoatModel", "rent", "[I", true)
  | 4 => ("LatestCoatModel", "colour", "[I", true)
  | 5 => ("LatestCoatModel", "purse", "[I", true)
  | 6 => ("LatestCoatModel", "rainFrom", "[I", true)
  | 7 => ("LatestCoatModel", "rainTo", "[I", true)
  | 8 => ("LatestCoatModel", "many", "[I", true)
  | 9 => ("LatestCoatModel", "by", "[I", true)
  | 10 => ("LatestCoatModel", "when", "[I", true)
  | 11 => ("LatestCoatModel", "logHour", "[I", true)
  | 12 => ("LatestCoatModel", "logThing", "[I", true)
  | 13 => ("LatestCoatModel", "logWho", "[I", true)
  | 14 => ("LatestCoatModel", "toldMany", "[I", true)
  | 15 => ("LatestCoatModel", "toldBy", "[I", true)
  | 16 => ("LatestCoatModel", "toldPurse", "[I", true)
  | 17 => ("LatestCoatModel", "toldBare", "[I", true)
  | 18 => ("LatestCoatModel", "newScalar", "[I", true)
  | 19 => ("LatestCoatModel", "newFirst", "[I", true)
  | 20 => ("LatestCoatModel", "newRent", "[I", true)
  | 21 => ("LatestCoatModel", "newColour", "[I", true)
  | 22 => ("LatestCoatModel", "newPurse", "[I", true)
  | 23 => ("LatestCoatModel", "newFrom", "[I", true)
  | 24 => ("LatestCoatModel", "newTo", "[I", true)
  | 25 => ("LatestCoatModel", "newMany", "[I", true)
  | 26 => ("LatestCoatModel", "newBy", "[I", true)
  | 27 => ("LatestCoatModel", "taped", "I", false)
  | 28 => ("LatestCoatModel", "p", "I", false)
  | 29 => ("LatestCoatModel", "fault", "I", false)
  | 30 => ("LatestCoatModel", "slot", "I", false)
  | 31 => ("LatestCoatModel", "rules", "I", false)
  | 32 => ("LatestCoatModel", "entries", "I", false)
  | 33 => ("LatestCoatModel", "deep", "I", false)
  | 34 => ("LatestCoatModel", "counted", "I", false)
  | 35 => ("LatestCoatModel", "opened", "I", false)
  | 36 => ("LatestCoatModel", "words", "I", false)
  | 37 => ("LatestCoatModel", "tape", "[B", true)
  | 38 => ("LatestCoatModel", "sort", "[I", true)
  | 39 => ("LatestCoatModel", "number", "[I", true)
  | 40 => ("LatestCoatModel", "clauses", "[I", true)
  | 41 => ("LatestCoatModel", "sumAt", "[I", true)
  | 42 => ("LatestCoatModel", "testAt", "[I", true)
  | 43 => ("LatestCoatModel", "endAt", "[I", true)
  | 44 => ("LatestCoatModel", "open", "[I", true)
  | 45 => ("LatestCoatModel", "asked", "[J", true)
  | 46 => ("LatestCoatModel", "stack", "[J", true)
  | 47 => ("LatestCoatModel", "cellsOf", "[I", true)
  | 48 => ("LatestCoatModel", "got", "[I", true)
  | 49 => ("LatestCoatModel", "past", "[I", true)
  | 50 => ("LatestCoatModel", "ring", "[I", true)
  | 51 => ("LatestCoatModel", "pastMany", "I", false)
  | 52 => ("LatestCoatModel", "pastAt", "I", false)
  | 53 => ("LatestCoatModel", "takesBack", "Z", false)
  | 54 => ("LatestCoatModel", "scraped", "[I", true)
  | 55 => ("LatestCoatModel", "bestScraped", "[I", true)
  | 56 => ("LatestCoatModel", "choice", "[I", true)
  | 57 => ("LatestCoatModel", "value", "[I", true)
  | 58 => ("LatestCoatModel", "firstCell", "I", false)
  | 59 => ("LatestCoatModel", "shown", "[I", true)
  | 60 => ("LatestCoatModel", "alike", "[I", true)
  | 61 => ("LatestCoatModel", "images", "[I", true)
  | 62 => ("LatestCoatModel", "isMade", "[Z", true)
  | 63 => ("LatestCoatModel", "imageAt", "I", false)
  | _ => ("LatestCoatModel", "goesBack", "Z", false)
def tyX3 : Nat → FieldType := fun k => match k with
  | 0 => .int
  | 1 => .array .int
  | 2 => .array .int
  | 3 => .array .int
  | 4 => .array .int
  | 5 => .array .int
  | 6 => .array .int
  | 7 => .array .int
  | 8 => .array .int
  | 9 => .array .int
  | 10 => .array .int
  | 11 => .array .int
  | 12 => .array .int
  | 13 => .array .int
  | 14 => .array .int
  | 15 => .array .int
  | 16 => .array .int
  | 17 => .array .int
  | 18 => .array .int
  | 19 => .array .int
  | 20 => .array .int
  | 21 => .array .int
  | 22 => .array .int
  | 23 => .array .int
  | 24 => .array .int
  | 25 => .array .int
  | 26 => .array .int
  | 27 => .int
  | 28 => .int
  | 29 => .int
  | 30 => .int
  | 31 => .int
  | 32 => .int
  | 33 => .int
  | 34 => .int
  | 35 => .int
  | 36 => .int
  | 37 => .array .byte
  | 38 => .array .int
  | 39 => .array .int
  | 40 => .array .int
  | 41 => .array .int
  | 42 => .array .int
  | 43 => .array .int
  | 44 => .array .int
  | 45 => .array .long
  | 46 => .array .long
  | 47 => .array .int
  | 48 => .array .int
  | 49 => .array .int
  | 50 => .array .int
  | 51 => .int
  | 52 => .int
  | 53 => .boolean
  | 54 => .array .int
  | 55 => .array .int
  | 56 => .array .int
  | 57 => .array .int
  | 58 => .int
  | 59 => .array .int
  | 60 => .array .int
  | 61 => .array .int
  | 62 => .array .boolean
  | 63 => .int
  | _ => .boolean
abbrev wsX30 : List Cond := u_ws RX3 TX3 65
set_option maxRecDepth 100000 in
theorem nmX3 : ∀ a, a < 65 → ∀ b, b < 65 → a ≠ b → (TX3 a).2.1 ≠ (TX3 b).2.1 := by decide +kernel
set_option maxRecDepth 100000 in
theorem tyX3_ok : ∀ k, k < 65 → parseFieldDescriptor (TX3 k).2.2.1 = some (tyX3 k) := by decide +kernel
abbrev cX3_init : ByteArray := prog_17_method_1_code
def yX3_init : MethodName := ⟨RX3, "<init>", "()V"⟩
def dkwX3_init_18 : List UInt8 := [181, 0, 151, 42, 17, 80, 20, 188, 10, 181, 0, 154, 42, 7, 188, 4, 181, 0, 157, 177]
abbrev dktX3_init_18 : List UInt8 := dkwX3_init_18 ++ []
def dkwX3_init_17 : List UInt8 := [181, 0, 142, 42, 8, 188, 10, 181, 0, 145, 42, 7, 188, 10, 181, 0, 148, 42, 16, 20, 188, 10]
abbrev dktX3_init_17 : List UInt8 := dkwX3_init_17 ++ dktX3_init_18
def dkwX3_init_16 : List UInt8 := [181, 0, 133, 42, 16, 6, 188, 10, 181, 0, 136, 42, 16, 6, 188, 10, 181, 0, 139, 42, 8, 188, 10]
abbrev dktX3_init_16 : List UInt8 := dkwX3_init_16 ++ dktX3_init_17
def dkwX3_init_15 : List UInt8 := [181, 0, 124, 42, 7, 188, 10, 181, 0, 127, 42, 17, 14, 56, 188, 10, 181, 0, 130, 42, 4, 188, 10]
abbrev dktX3_init_15 : List UInt8 := dkwX3_init_15 ++ dktX3_init_16
def dkwX3_init_14 : List UInt8 := [181, 0, 114, 42, 16, 13, 188, 11, 181, 0, 117, 42, 17, 1, 44, 188, 11, 181, 0, 121, 42, 7, 188, 10]
abbrev dktX3_init_14 : List UInt8 := dkwX3_init_14 ++ dktX3_init_15
def dkwX3_init_13 : List UInt8 := [42, 16, 72, 188, 10, 181, 0, 108, 42, 16, 72, 188, 10, 181, 0, 111, 42, 17, 1, 146, 188, 10]
abbrev dktX3_init_13 : List UInt8 := dkwX3_init_13 ++ dktX3_init_14
def dkwX3_init_12 : List UInt8 := [17, 7, 8, 188, 10, 181, 0, 99, 42, 16, 6, 188, 10, 181, 0, 102, 42, 16, 72, 188, 10, 181, 0, 105]
abbrev dktX3_init_12 : List UInt8 := dkwX3_init_12 ++ dktX3_init_13
def dkwX3_init_11 : List UInt8 := [16, 13, 181, 0, 88, 42, 17, 1, 144, 188, 8, 181, 0, 92, 42, 17, 7, 8, 188, 10, 181, 0, 96, 42]
abbrev dktX3_init_11 : List UInt8 := dkwX3_init_11 ++ dktX3_init_12
def dkwX3_init_10 : List UInt8 := [42, 8, 188, 10, 181, 0, 79, 42, 16, 16, 188, 10, 181, 0, 82, 42, 16, 80, 188, 10, 181, 0, 85, 42]
abbrev dktX3_init_10 : List UInt8 := dkwX3_init_10 ++ dktX3_init_11
def dkwX3_init_9 : List UInt8 := [181, 0, 67, 42, 7, 188, 10, 181, 0, 70, 42, 7, 188, 10, 181, 0, 73, 42, 8, 188, 10, 181, 0, 76]
abbrev dktX3_init_9 : List UInt8 := dkwX3_init_9 ++ dktX3_init_10
def dkwX3_init_8 : List UInt8 := [181, 0, 58, 42, 16, 9, 188, 10, 181, 0, 61, 42, 8, 188, 10, 181, 0, 64, 42, 7, 188, 10]
abbrev dktX3_init_8 : List UInt8 := dkwX3_init_8 ++ dktX3_init_9
def dkwX3_init_7 : List UInt8 := [181, 0, 49, 42, 16, 80, 188, 10, 181, 0, 52, 42, 7, 188, 10, 181, 0, 55, 42, 4, 188, 10]
abbrev dktX3_init_7 : List UInt8 := dkwX3_init_7 ++ dktX3_init_8
def dkwX3_init_6 : List UInt8 := [181, 0, 40, 42, 16, 10, 188, 10, 181, 0, 43, 42, 16, 10, 188, 10, 181, 0, 46, 42, 16, 16, 188, 10]
abbrev dktX3_init_6 : List UInt8 := dkwX3_init_6 ++ dktX3_init_7
def dkwX3_init_5 : List UInt8 := [181, 0, 31, 42, 16, 80, 188, 10, 181, 0, 34, 42, 16, 80, 188, 10, 181, 0, 37, 42, 16, 10, 188, 10]
abbrev dktX3_init_5 : List UInt8 := dkwX3_init_5 ++ dktX3_init_6
def dkwX3_init_4 : List UInt8 := [181, 0, 22, 42, 8, 188, 10, 181, 0, 25, 42, 8, 188, 10, 181, 0, 28, 42, 16, 16, 188, 10]
abbrev dktX3_init_4 : List UInt8 := dkwX3_init_4 ++ dktX3_init_5
def dkwX3_init_3 : List UInt8 := [8, 188, 10, 181, 0, 13, 42, 7, 188, 10, 181, 0, 16, 42, 7, 188, 10, 181, 0, 19, 42, 7, 188, 10]
abbrev dktX3_init_3 : List UInt8 := dkwX3_init_3 ++ dktX3_init_4
def dkwX3_init_2 : List UInt8 := [89, 16, 9, 3, 79, 89, 16, 10, 3, 79, 89, 16, 11, 3, 79, 89, 16, 12, 2, 79, 181, 0, 9, 42]
abbrev dktX3_init_2 : List UInt8 := dkwX3_init_2 ++ dktX3_init_3
def dkwX3_init_1 : List UInt8 := [79, 89, 7, 3, 79, 89, 8, 3, 79, 89, 16, 6, 3, 79, 89, 16, 7, 3, 79, 89, 16, 8, 3, 79]
abbrev dktX3_init_1 : List UInt8 := dkwX3_init_1 ++ dktX3_init_2
def dkwX3_init_0 : List UInt8 := [42, 183, 0, 3, 42, 16, 13, 188, 10, 89, 3, 3, 79, 89, 4, 3, 79, 89, 5, 3, 79, 89, 6, 3]
abbrev dktX3_init_0 : List UInt8 := dkwX3_init_0 ++ dktX3_init_1
theorem dksX3_init_0 : cX3_init.data.toList.drop 0 = dktX3_init_0 := by decide +kernel
theorem dksX3_init_1 : cX3_init.data.toList.drop 24 = dktX3_init_1 := dk_seg dksX3_init_0 24 rfl rfl
theorem dksX3_init_2 : cX3_init.data.toList.drop 48 = dktX3_init_2 := dk_seg dksX3_init_1 24 rfl rfl
theorem dksX3_init_3 : cX3_init.data.toList.drop 72 = dktX3_init_3 := dk_seg dksX3_init_2 24 rfl rfl
theorem dksX3_init_4 : cX3_init.data.toList.drop 96 = dktX3_init_4 := dk_seg dksX3_init_3 24 rfl rfl
theorem dksX3_init_5 : cX3_init.data.toList.drop 118 = dktX3_init_5 := dk_seg dksX3_init_4 22 rfl rfl
theorem dksX3_init_6 : cX3_init.data.toList.drop 142 = dktX3_init_6 := dk_seg dksX3_init_5 24 rfl rfl
theorem dksX3_init_7 : cX3_init.data.toList.drop 166 = dktX3_init_7 := dk_seg dksX3_init_6 24 rfl rfl
theorem dksX3_init_8 : cX3_init.data.toList.drop 188 = dktX3_init_8 := dk_seg dksX3_init_7 22 rfl rfl
theorem dksX3_init_9 : cX3_init.data.toList.drop 210 = dktX3_init_9 := dk_seg dksX3_init_8 22 rfl rfl
theorem dksX3_init_10 : cX3_init.data.toList.drop 234 = dktX3_init_10 := dk_seg dksX3_init_9 24 rfl rfl
theorem dksX3_init_11 : cX3_init.data.toList.drop 258 = dktX3_init_11 := dk_seg dksX3_init_10 24 rfl rfl
theorem dksX3_init_12 : cX3_init.data.toList.drop 282 = dktX3_init_12 := dk_seg dksX3_init_11 24 rfl rfl
theorem dksX3_init_13 : cX3_init.data.toList.drop 306 = dktX3_init_13 := dk_seg dksX3_init_12 24 rfl rfl
theorem dksX3_init_14 : cX3_init.data.toList.drop 328 = dktX3_init_14 := dk_seg dksX3_init_13 22 rfl rfl
theorem dksX3_init_15 : cX3_init.data.toList.drop 352 = dktX3_init_15 := dk_seg dksX3_init_14 24 rfl rfl
theorem dksX3_init_16 : cX3_init.data.toList.drop 375 = dktX3_init_16 := dk_seg dksX3_init_15 23 rfl rfl
theorem dksX3_init_17 : cX3_init.data.toList.drop 398 = dktX3_init_17 := dk_seg dksX3_init_16 23 rfl rfl
theorem dksX3_init_18 : cX3_init.data.toList.drop 420 = dktX3_init_18 := dk_seg dksX3_init_17 22 rfl rfl
theorem dX3_init_0 : decode cX3_init 0 = .ok (.aload_n 0, 1) := dk_42 (dk_at dksX3_init_0 0 rfl rfl)
theorem dX3_init_1 : decode cX3_init 1 = .ok (.invokespecial 3, 3) := dk_183 0 3 (dk_at dksX3_init_0 1 rfl rfl)
theorem dX3_init_4 : decode cX3_init 4 = .ok (.aload_n 0, 1) := dk_42 (dk_at dksX3_init_0 4 rfl rfl)
theorem dX3_init_5 : decode cX3_init 5 = .ok (.bipush 13, 2) := dk_16 13 (dk_at dksX3_init_0 5 rfl rfl)
theorem dX3_init_7 : decode cX3_init 7 = .ok (.newarray .int, 2) := dk_188_10 (dk_at dksX3_init_0 7 rfl rfl)
theorem dX3_init_9 : decode cX3_init 9 = .ok (.dup, 1) := dk_89 (dk_at dksX3_init_0 9 rfl rfl)
theorem dX3_init_10 : decode cX3_init 10 = .ok (.iconst 0, 1) := dk_3 (dk_at dksX3_init_0 10 rfl rfl)
theorem dX3_init_11 : decode cX3_init 11 = .ok (.iconst 0, 1) := dk_3 (dk_at dksX3_init_0 11 rfl rfl)
theorem dX3_init_12 : decode cX3_init 12 = .ok (.iastore, 1) := dk_79 (dk_at dksX3_init_0 12 rfl rfl)
theorem dX3_init_13 : decode cX3_init 13 = .ok (.dup, 1) := dk_89 (dk_at dksX3_init_0 13 rfl rfl)
theorem dX3_init_14 : decode cX3_init 14 = .ok (.iconst 1, 1) := dk_4 (dk_at dksX3_init_0 14 rfl rfl)
theorem dX3_init_15 : decode cX3_init 15 = .ok (.iconst 0, 1) := dk_3 (dk_at dksX3_init_0 15 rfl rfl)
theorem dX3_init_16 : decode cX3_init 16 = .ok (.iastore, 1) := dk_79 (dk_at dksX3_init_0 16 rfl rfl)
theorem dX3_init_17 : decode cX3_init 17 = .ok (.dup, 1) := dk_89 (dk_at dksX3_init_0 17 rfl rfl)
theorem dX3_init_18 : decode cX3_init 18 = .ok (.iconst 2, 1) := dk_5 (dk_at dksX3_init_0 18 rfl rfl)
theorem dX3_init_19 : decode cX3_init 19 = .ok (.iconst 0, 1) := dk_3 (dk_at dksX3_init_0 19 rfl rfl)
theorem dX3_init_20 : decode cX3_init 20 = .ok (.iastore, 1) := dk_79 (dk_at dksX3_init_0 20 rfl rfl)
theorem dX3_init_21 : decode cX3_init 21 = .ok (.dup, 1) := dk_89 (dk_at dksX3_init_0 21 rfl rfl)
theorem dX3_init_22 : decode cX3_init 22 = .ok (.iconst 3, 1) := dk_6 (dk_at dksX3_init_0 22 rfl rfl)
theorem dX3_init_23 : decode cX3_init 23 = .ok (.iconst 0, 1) := dk_3 (dk_at dksX3_init_0 23 rfl rfl)
theorem dX3_init_24 : decode cX3_init 24 = .ok (.iastore, 1) := dk_79 (dk_at dksX3_init_1 0 rfl rfl)
theorem dX3_init_25 : decode cX3_init 25 = .ok (.dup, 1) := dk_89 (dk_at dksX3_init_1 1 rfl rfl)
theorem dX3_init_26 : decode cX3_init 26 = .ok (.iconst 4, 1) := dk_7 (dk_at dksX3_init_1 2 rfl rfl)
theorem dX3_init_27 : decode cX3_init 27 = .ok (.iconst 0, 1) := dk_3 (dk_at dksX3_init_1 3 rfl rfl)
theorem dX3_init_28 : decode cX3_init 28 = .ok (.iastore, 1) := dk_79 (dk_at dksX3_init_1 4 rfl rfl)
theorem dX3_init_29 : decode cX3_init 29 = .ok (.dup, 1) := dk_89 (dk_at dksX3_init_1 5 rfl rfl)
theorem dX3_init_30 : decode cX3_init 30 = .ok (.iconst 5, 1) := dk_8 (dk_at dksX3_init_1 6 rfl rfl)
theorem dX3_init_31 : decode cX3_init 31 = .ok (.iconst 0, 1) := dk_3 (dk_at dksX3_init_1 7 rfl rfl)
theorem dX3_init_32 : decode cX3_init 32 = .ok (.iastore, 1) := dk_79 (dk_at dksX3_init_1 8 rfl rfl)
theorem dX3_init_33 : decode cX3_init 33 = .ok (.dup, 1) := dk_89 (dk_at dksX3_init_1 9 rfl rfl)
theorem dX3_init_34 : decode cX3_init 34 = .ok (.bipush 6, 2) := dk_16 6 (dk_at dksX3_init_1 10 rfl rfl)
theorem dX3_init_36 : decode cX3_init 36 = .ok (.iconst 0, 1) := dk_3 (dk_at dksX3_init_1 12 rfl rfl)
theorem dX3_init_37 : decode cX3_init 37 = .ok (.iastore, 1) := dk_79 (dk_at dksX3_init_1 13 rfl rfl)
theorem dX3_init_38 : decode cX3_init 38 = .ok (.dup, 1) := dk_89 (dk_at dksX3_init_1 14 rfl rfl)
theorem dX3_init_39 : decode cX3_init 39 = .ok (.bipush 7, 2) := dk_16 7 (dk_at dksX3_init_1 15 rfl rfl)
theorem dX3_init_41 : decode cX3_init 41 = .ok (.iconst 0, 1) := dk_3 (dk_at dksX3_init_1 17 rfl rfl)
theorem dX3_init_42 : decode cX3_init 42 = .ok (.iastore, 1) := dk_79 (dk_at dksX3_init_1 18 rfl rfl)
theorem dX3_init_43 : decode cX3_init 43 = .ok (.dup, 1) := dk_89 (dk_at dksX3_init_1 19 rfl rfl)
theorem dX3_init_44 : decode cX3_init 44 = .ok (.bipush 8, 2) := dk_16 8 (dk_at dksX3_init_1 20 rfl rfl)
theorem dX3_init_46 : decode cX3_init 46 = .ok (.iconst 0, 1) := dk_3 (dk_at dksX3_init_1 22 rfl rfl)
theorem dX3_init_47 : decode cX3_init 47 = .ok (.iastore, 1) := dk_79 (dk_at dksX3_init_1 23 rfl rfl)
theorem dX3_init_48 : decode cX3_init 48 = .ok (.dup, 1) := dk_89 (dk_at dksX3_init_2 0 rfl rfl)
theorem dX3_init_49 : decode cX3_init 49 = .ok (.bipush 9, 2) := dk_16 9 (dk_at dksX3_init_2 1 rfl rfl)
theorem dX3_init_51 : decode cX3_init 51 = .ok (.iconst 0, 1) := dk_3 (dk_at dksX3_init_2 3 rfl rfl)
theorem dX3_init_52 : decode cX3_init 52 = .ok (.iastore, 1) := dk_79 (dk_at dksX3_init_2 4 rfl rfl)
theorem dX3_init_53 : decode cX3_init 53 = .ok (.dup, 1) := dk_89 (dk_at dksX3_init_2 5 rfl rfl)
theorem dX3_init_54 : decode cX3_init 54 = .ok (.bipush 10, 2) := dk_16 10 (dk_at dksX3_init_2 6 rfl rfl)
theorem dX3_init_56 : decode cX3_init 56 = .ok (.iconst 0, 1) := dk_3 (dk_at dksX3_init_2 8 rfl rfl)
theorem dX3_init_57 : decode cX3_init 57 = .ok (.iastore, 1) := dk_79 (dk_at dksX3_init_2 9 rfl rfl)
theorem dX3_init_58 : decode cX3_init 58 = .ok (.dup, 1) := dk_89 (dk_at dksX3_init_2 10 rfl rfl)
theorem dX3_init_59 : decode cX3_init 59 = .ok (.bipush 11, 2) := dk_16 11 (dk_at dksX3_init_2 11 rfl rfl)
theorem dX3_init_61 : decode cX3_init 61 = .ok (.iconst 0, 1) := dk_3 (dk_at dksX3_init_2 13 rfl rfl)
theorem dX3_init_62 : decode cX3_init 62 = .ok (.iastore, 1) := dk_79 (dk_at dksX3_init_2 14 rfl rfl)
theorem dX3_init_63 : decode cX3_init 63 = .ok (.dup, 1) := dk_89 (dk_at dksX3_init_2 15 rfl rfl)
theorem dX3_init_64 : decode cX3_init 64 = .ok (.bipush 12, 2) := dk_16 12 (dk_at dksX3_init_2 16 rfl rfl)
theorem dX3_init_66 : decode cX3_init 66 = .ok (.iconst (-1), 1) := dk_2 (dk_at dksX3_init_2 18 rfl rfl)
theorem dX3_init_67 : decode cX3_init 67 = .ok (.iastore, 1) := dk_79 (dk_at dksX3_init_2 19 rfl rfl)
theorem dX3_init_68 : decode cX3_init 68 = .ok (.putfield 9, 3) := dk_181 0 9 (dk_at dksX3_init_2 20 rfl rfl)
theorem dX3_init_71 : decode cX3_init 71 = .ok (.aload_n 0, 1) := dk_42 (dk_at dksX3_init_2 23 rfl rfl)
theorem dX3_init_72 : decode cX3_init 72 = .ok (.iconst 5, 1) := dk_8 (dk_at dksX3_init_3 0 rfl rfl)
theorem dX3_init_73 : decode cX3_init 73 = .ok (.newarray .int, 2) := dk_188_10 (dk_at dksX3_init_3 1 rfl rfl)
theorem dX3_init_75 : decode cX3_init 75 = .ok (.putfield 13, 3) := dk_181 0 13 (dk_at dksX3_init_3 3 rfl rfl)
theorem dX3_init_78 : decode cX3_init 78 = .ok (.aload_n 0, 1) := dk_42 (dk_at dksX3_init_3 6 rfl rfl)
theorem dX3_init_79 : decode cX3_init 79 = .ok (.iconst 4, 1) := dk_7 (dk_at dksX3_init_3 7 rfl rfl)
theorem dX3_init_80 : decode cX3_init 80 = .ok (.newarray .int, 2) := dk_188_10 (dk_at dksX3_init_3 8 rfl rfl)
theorem dX3_init_82 : decode cX3_init 82 = .ok (.putfield 16, 3) := dk_181 0 16 (dk_at dksX3_init_3 10 rfl rfl)
theorem dX3_init_85 : decode cX3_init 85 = .ok (.aload_n 0, 1) := dk_42 (dk_at dksX3_init_3 13 rfl rfl)
theorem dX3_init_86 : decode cX3_init 86 = .ok (.iconst 4, 1) := dk_7 (dk_at dksX3_init_3 14 rfl rfl)
theorem dX3_init_87 : decode cX3_init 87 = .ok (.newarray .int, 2) := dk_188_10 (dk_at dksX3_init_3 15 rfl rfl)
theorem dX3_init_89 : decode cX3_init 89 = .ok (.putfield 19, 3) := dk_181 0 19 (dk_at dksX3_init_3 17 rfl rfl)
theorem dX3_init_92 : decode cX3_init 92 = .ok (.aload_n 0, 1) := dk_42 (dk_at dksX3_init_3 20 rfl rfl)
theorem dX3_init_93 : decode cX3_init 93 = .ok (.iconst 4, 1) := dk_7 (dk_at dksX3_init_3 21 rfl rfl)
theorem dX3_init_94 : decode cX3_init 94 = .ok (.newarray .int, 2) := dk_188_10 (dk_at dksX3_init_3 22 rfl rfl)
theorem dX3_init_96 : decode cX3_init 96 = .ok (.putfield 22, 3) := dk_181 0 22 (dk_at dksX3_init_4 0 rfl rfl)
theorem dX3_init_99 : decode cX3_init 99 = .ok (.aload_n 0, 1) := dk_42 (dk_at dksX3_init_4 3 rfl rfl)
theorem dX3_init_100 : decode cX3_init 100 = .ok (.iconst 5, 1) := dk_8 (dk_at dksX3_init_4 4 rfl rfl)
theorem dX3_init_101 : decode cX3_init 101 = .ok (.newarray .int, 2) := dk_188_10 (dk_at dksX3_init_4 5 rfl rfl)
theorem dX3_init_103 : decode cX3_init 103 = .ok (.putfield 25, 3) := dk_181 0 25 (dk_at dksX3_init_4 7 rfl rfl)
theorem dX3_init_106 : decode cX3_init 106 = .ok (.aload_n 0, 1) := dk_42 (dk_at dksX3_init_4 10 rfl rfl)
theorem dX3_init_107 : decode cX3_init 107 = .ok (.iconst 5, 1) := dk_8 (dk_at dksX3_init_4 11 rfl rfl)
theorem dX3_init_108 : decode cX3_init 108 = .ok (.newarray .int, 2) := dk_188_10 (dk_at dksX3_init_4 12 rfl rfl)
theorem dX3_init_110 : decode cX3_init 110 = .ok (.putfield 28, 3) := dk_181 0 28 (dk_at dksX3_init_4 14 rfl rfl)
theorem dX3_init_113 : decode cX3_init 113 = .ok (.aload_n 0, 1) := dk_42 (dk_at dksX3_init_4 17 rfl rfl)
theorem dX3_init_114 : decode cX3_init 114 = .ok (.bipush 16, 2) := dk_16 16 (dk_at dksX3_init_4 18 rfl rfl)
theorem dX3_init_116 : decode cX3_init 116 = .ok (.newarray .int, 2) := dk_188_10 (dk_at dksX3_init_4 20 rfl rfl)
theorem dX3_init_118 : decode cX3_init 118 = .ok (.putfield 31, 3) := dk_181 0 31 (dk_at dksX3_init_5 0 rfl rfl)
theorem dX3_init_121 : decode cX3_init 121 = .ok (.aload_n 0, 1) := dk_42 (dk_at dksX3_init_5 3 rfl rfl)
theorem dX3_init_122 : decode cX3_init 122 = .ok (.bipush 80, 2) := dk_16 80 (dk_at dksX3_init_5 4 rfl rfl)
theorem dX3_init_124 : decode cX3_init 124 = .ok (.newarray .int, 2) := dk_188_10 (dk_at dksX3_init_5 6 rfl rfl)
theorem dX3_init_126 : decode cX3_init 126 = .ok (.putfield 34, 3) := dk_181 0 34 (dk_at dksX3_init_5 8 rfl rfl)
theorem dX3_init_129 : decode cX3_init 129 = .ok (.aload_n 0, 1) := dk_42 (dk_at dksX3_init_5 11 rfl rfl)
theorem dX3_init_130 : decode cX3_init 130 = .ok (.bipush 80, 2) := dk_16 80 (dk_at dksX3_init_5 12 rfl rfl)
theorem dX3_init_132 : decode cX3_init 132 = .ok (.newarray .int, 2) := dk_188_10 (dk_at dksX3_init_5 14 rfl rfl)
theorem dX3_init_134 : decode cX3_init 134 = .ok (.putfield 37, 3) := dk_181 0 37 (dk_at dksX3_init_5 16 rfl rfl)
theorem dX3_init_137 : decode cX3_init 137 = .ok (.aload_n 0, 1) := dk_42 (dk_at dksX3_init_5 19 rfl rfl)
theorem dX3_init_138 : decode cX3_init 138 = .ok (.bipush 10, 2) := dk_16 10 (dk_at dksX3_init_5 20 rfl rfl)
theorem dX3_init_140 : decode cX3_init 140 = .ok (.newarray .int, 2) := dk_188_10 (dk_at dksX3_init_5 22 rfl rfl)
theorem dX3_init_142 : decode cX3_init 142 = .ok (.putfield 40, 3) := dk_181 0 40 (dk_at dksX3_init_6 0 rfl rfl)
theorem dX3_init_145 : decode cX3_init 145 = .ok (.aload_n 0, 1) := dk_42 (dk_at dksX3_init_6 3 rfl rfl)
theorem dX3_init_146 : decode cX3_init 146 = .ok (.bipush 10, 2) := dk_16 10 (dk_at dksX3_init_6 4 rfl rfl)
theorem dX3_init_148 : decode cX3_init 148 = .ok (.newarray .int, 2) := dk_188_10 (dk_at dksX3_init_6 6 rfl rfl)
theorem dX3_init_150 : decode cX3_init 150 = .ok (.putfield 43, 3) := dk_181 0 43 (dk_at dksX3_init_6 8 rfl rfl)
theorem dX3_init_153 : decode cX3_init 153 = .ok (.aload_n 0, 1) := dk_42 (dk_at dksX3_init_6 11 rfl rfl)
theorem dX3_init_154 : decode cX3_init 154 = .ok (.bipush 10, 2) := dk_16 10 (dk_at dksX3_init_6 12 rfl rfl)
theorem dX3_init_156 : decode cX3_init 156 = .ok (.newarray .int, 2) := dk_188_10 (dk_at dksX3_init_6 14 rfl rfl)
theorem dX3_init_158 : decode cX3_init 158 = .ok (.putfield 46, 3) := dk_181 0 46 (dk_at dksX3_init_6 16 rfl rfl)
theorem dX3_init_161 : decode cX3_init 161 = .ok (.aload_n 0, 1) := dk_42 (dk_at dksX3_init_6 19 rfl rfl)
theorem dX3_init_162 : decode cX3_init 162 = .ok (.bipush 16, 2) := dk_16 16 (dk_at dksX3_init_6 20 rfl rfl)
theorem dX3_init_164 : decode cX3_init 164 = .ok (.newarray .int, 2) := dk_188_10 (dk_at dksX3_init_6 22 rfl rfl)
theorem dX3_init_166 : decode cX3_init 166 = .ok (.putfield 49, 3) := dk_181 0 49 (dk_at dksX3_init_7 0 rfl rfl)
theorem dX3_init_169 : decode cX3_init 169 = .ok (.aload_n 0, 1) := dk_42 (dk_at dksX3_init_7 3 rfl rfl)
theorem dX3_init_170 : decode cX3_init 170 = .ok (.bipush 80, 2) := dk_16 80 (dk_at dksX3_init_7 4 rfl rfl)
theorem dX3_init_172 : decode cX3_init 172 = .ok (.newarray .int, 2) := dk_188_10 (dk_at dksX3_init_7 6 rfl rfl)
theorem dX3_init_174 : decode cX3_init 174 = .ok (.putfield 52, 3) := dk_181 0 52 (dk_at dksX3_init_7 8 rfl rfl)
theorem dX3_init_177 : decode cX3_init 177 = .ok (.aload_n 0, 1) := dk_42 (dk_at dksX3_init_7 11 rfl rfl)
theorem dX3_init_178 : decode cX3_init 178 = .ok (.iconst 4, 1) := dk_7 (dk_at dksX3_init_7 12 rfl rfl)
theorem dX3_init_179 : decode cX3_init 179 = .ok (.newarray .int, 2) := dk_188_10 (dk_at dksX3_init_7 13 rfl rfl)
theorem dX3_init_181 : decode cX3_init 181 = .ok (.putfield 55, 3) := dk_181 0 55 (dk_at dksX3_init_7 15 rfl rfl)
theorem dX3_init_184 : decode cX3_init 184 = .ok (.aload_n 0, 1) := dk_42 (dk_at dksX3_init_7 18 rfl rfl)
theorem dX3_init_185 : decode cX3_init 185 = .ok (.iconst 1, 1) := dk_4 (dk_at dksX3_init_7 19 rfl rfl)
theorem dX3_init_186 : decode cX3_init 186 = .ok (.newarray .int, 2) := dk_188_10 (dk_at dksX3_init_7 20 rfl rfl)
theorem dX3_init_188 : decode cX3_init 188 = .ok (.putfield 58, 3) := dk_181 0 58 (dk_at dksX3_init_8 0 rfl rfl)
theorem dX3_init_191 : decode cX3_init 191 = .ok (.aload_n 0, 1) := dk_42 (dk_at dksX3_init_8 3 rfl rfl)
theorem dX3_init_192 : decode cX3_init 192 = .ok (.bipush 9, 2) := dk_16 9 (dk_at dksX3_init_8 4 rfl rfl)
theorem dX3_init_194 : decode cX3_init 194 = .ok (.newarray .int, 2) := dk_188_10 (dk_at dksX3_init_8 6 rfl rfl)
theorem dX3_init_196 : decode cX3_init 196 = .ok (.putfield 61, 3) := dk_181 0 61 (dk_at dksX3_init_8 8 rfl rfl)
theorem dX3_init_199 : decode cX3_init 199 = .ok (.aload_n 0, 1) := dk_42 (dk_at dksX3_init_8 11 rfl rfl)
theorem dX3_init_200 : decode cX3_init 200 = .ok (.iconst 5, 1) := dk_8 (dk_at dksX3_init_8 12 rfl rfl)
theorem dX3_init_201 : decode cX3_init 201 = .ok (.newarray .int, 2) := dk_188_10 (dk_at dksX3_init_8 13 rfl rfl)
theorem dX3_init_203 : decode cX3_init 203 = .ok (.putfield 64, 3) := dk_181 0 64 (dk_at dksX3_init_8 15 rfl rfl)
theorem dX3_init_206 : decode cX3_init 206 = .ok (.aload_n 0, 1) := dk_42 (dk_at dksX3_init_8 18 rfl rfl)
theorem dX3_init_207 : decode cX3_init 207 = .ok (.iconst 4, 1) := dk_7 (dk_at dksX3_init_8 19 rfl rfl)
theorem dX3_init_208 : decode cX3_init 208 = .ok (.newarray .int, 2) := dk_188_10 (dk_at dksX3_init_8 20 rfl rfl)
theorem dX3_init_210 : decode cX3_init 210 = .ok (.putfield 67, 3) := dk_181 0 67 (dk_at dksX3_init_9 0 rfl rfl)
theorem dX3_init_213 : decode cX3_init 213 = .ok (.aload_n 0, 1) := dk_42 (dk_at dksX3_init_9 3 rfl rfl)
theorem dX3_init_214 : decode cX3_init 214 = .ok (.iconst 4, 1) := dk_7 (dk_at dksX3_init_9 4 rfl rfl)
theorem dX3_init_215 : decode cX3_init 215 = .ok (.newarray .int, 2) := dk_188_10 (dk_at dksX3_init_9 5 rfl rfl)
theorem dX3_init_217 : decode cX3_init 217 = .ok (.putfield 70, 3) := dk_181 0 70 (dk_at dksX3_init_9 7 rfl rfl)
theorem dX3_init_220 : decode cX3_init 220 = .ok (.aload_n 0, 1) := dk_42 (dk_at dksX3_init_9 10 rfl rfl)
theorem dX3_init_221 : decode cX3_init 221 = .ok (.iconst 4, 1) := dk_7 (dk_at dksX3_init_9 11 rfl rfl)
theorem dX3_init_222 : decode cX3_init 222 = .ok (.newarray .int, 2) := dk_188_10 (dk_at dksX3_init_9 12 rfl rfl)
theorem dX3_init_224 : decode cX3_init 224 = .ok (.putfield 73, 3) := dk_181 0 73 (dk_at dksX3_init_9 14 rfl rfl)
theorem dX3_init_227 : decode cX3_init 227 = .ok (.aload_n 0, 1) := dk_42 (dk_at dksX3_init_9 17 rfl rfl)
theorem dX3_init_228 : decode cX3_init 228 = .ok (.iconst 5, 1) := dk_8 (dk_at dksX3_init_9 18 rfl rfl)
theorem dX3_init_229 : decode cX3_init 229 = .ok (.newarray .int, 2) := dk_188_10 (dk_at dksX3_init_9 19 rfl rfl)
theorem dX3_init_231 : decode cX3_init 231 = .ok (.putfield 76, 3) := dk_181 0 76 (dk_at dksX3_init_9 21 rfl rfl)
theorem dX3_init_234 : decode cX3_init 234 = .ok (.aload_n 0, 1) := dk_42 (dk_at dksX3_init_10 0 rfl rfl)
theorem dX3_init_235 : decode cX3_init 235 = .ok (.iconst 5, 1) := dk_8 (dk_at dksX3_init_10 1 rfl rfl)
theorem dX3_init_236 : decode cX3_init 236 = .ok (.newarray .int, 2) := dk_188_10 (dk_at dksX3_init_10 2 rfl rfl)
theorem dX3_init_238 : decode cX3_init 238 = .ok (.putfield 79, 3) := dk_181 0 79 (dk_at dksX3_init_10 4 rfl rfl)
theorem dX3_init_241 : decode cX3_init 241 = .ok (.aload_n 0, 1) := dk_42 (dk_at dksX3_init_10 7 rfl rfl)
theorem dX3_init_242 : decode cX3_init 242 = .ok (.bipush 16, 2) := dk_16 16 (dk_at dksX3_init_10 8 rfl rfl)
theorem dX3_init_244 : decode cX3_init 244 = .ok (.newarray .int, 2) := dk_188_10 (dk_at dksX3_init_10 10 rfl rfl)
theorem dX3_init_246 : decode cX3_init 246 = .ok (.putfield 82, 3) := dk_181 0 82 (dk_at dksX3_init_10 12 rfl rfl)
theorem dX3_init_249 : decode cX3_init 249 = .ok (.aload_n 0, 1) := dk_42 (dk_at dksX3_init_10 15 rfl rfl)
theorem dX3_init_250 : decode cX3_init 250 = .ok (.bipush 80, 2) := dk_16 80 (dk_at dksX3_init_10 16 rfl rfl)
theorem dX3_init_252 : decode cX3_init 252 = .ok (.newarray .int, 2) := dk_188_10 (dk_at dksX3_init_10 18 rfl rfl)
theorem dX3_init_254 : decode cX3_init 254 = .ok (.putfield 85, 3) := dk_181 0 85 (dk_at dksX3_init_10 20 rfl rfl)
theorem dX3_init_257 : decode cX3_init 257 = .ok (.aload_n 0, 1) := dk_42 (dk_at dksX3_init_10 23 rfl rfl)
theorem dX3_init_258 : decode cX3_init 258 = .ok (.bipush 13, 2) := dk_16 13 (dk_at dksX3_init_11 0 rfl rfl)
theorem dX3_init_260 : decode cX3_init 260 = .ok (.putfield 88, 3) := dk_181 0 88 (dk_at dksX3_init_11 2 rfl rfl)
theorem dX3_init_263 : decode cX3_init 263 = .ok (.aload_n 0, 1) := dk_42 (dk_at dksX3_init_11 5 rfl rfl)
theorem dX3_init_264 : decode cX3_init 264 = .ok (.sipush 400, 3) := dk_17 1 144 (dk_at dksX3_init_11 6 rfl rfl)
theorem dX3_init_267 : decode cX3_init 267 = .ok (.newarray .byte, 2) := dk_188_8 (dk_at dksX3_init_11 9 rfl rfl)
theorem dX3_init_269 : decode cX3_init 269 = .ok (.putfield 92, 3) := dk_181 0 92 (dk_at dksX3_init_11 11 rfl rfl)
theorem dX3_init_272 : decode cX3_init 272 = .ok (.aload_n 0, 1) := dk_42 (dk_at dksX3_init_11 14 rfl rfl)
theorem dX3_init_273 : decode cX3_init 273 = .ok (.sipush 1800, 3) := dk_17 7 8 (dk_at dksX3_init_11 15 rfl rfl)
theorem dX3_init_276 : decode cX3_init 276 = .ok (.newarray .int, 2) := dk_188_10 (dk_at dksX3_init_11 18 rfl rfl)
theorem dX3_init_278 : decode cX3_init 278 = .ok (.putfield 96, 3) := dk_181 0 96 (dk_at dksX3_init_11 20 rfl rfl)
theorem dX3_init_281 : decode cX3_init 281 = .ok (.aload_n 0, 1) := dk_42 (dk_at dksX3_init_11 23 rfl rfl)
theorem dX3_init_282 : decode cX3_init 282 = .ok (.sipush 1800, 3) := dk_17 7 8 (dk_at dksX3_init_12 0 rfl rfl)
theorem dX3_init_285 : decode cX3_init 285 = .ok (.newarray .int, 2) := dk_188_10 (dk_at dksX3_init_12 3 rfl rfl)
theorem dX3_init_287 : decode cX3_init 287 = .ok (.putfield 99, 3) := dk_181 0 99 (dk_at dksX3_init_12 5 rfl rfl)
theorem dX3_init_290 : decode cX3_init 290 = .ok (.aload_n 0, 1) := dk_42 (dk_at dksX3_init_12 8 rfl rfl)
theorem dX3_init_291 : decode cX3_init 291 = .ok (.bipush 6, 2) := dk_16 6 (dk_at dksX3_init_12 9 rfl rfl)
theorem dX3_init_293 : decode cX3_init 293 = .ok (.newarray .int, 2) := dk_188_10 (dk_at dksX3_init_12 11 rfl rfl)
theorem dX3_init_295 : decode cX3_init 295 = .ok (.putfield 102, 3) := dk_181 0 102 (dk_at dksX3_init_12 13 rfl rfl)
theorem dX3_init_298 : decode cX3_init 298 = .ok (.aload_n 0, 1) := dk_42 (dk_at dksX3_init_12 16 rfl rfl)
theorem dX3_init_299 : decode cX3_init 299 = .ok (.bipush 72, 2) := dk_16 72 (dk_at dksX3_init_12 17 rfl rfl)
theorem dX3_init_301 : decode cX3_init 301 = .ok (.newarray .int, 2) := dk_188_10 (dk_at dksX3_init_12 19 rfl rfl)
theorem dX3_init_303 : decode cX3_init 303 = .ok (.putfield 105, 3) := dk_181 0 105 (dk_at dksX3_init_12 21 rfl rfl)
theorem dX3_init_306 : decode cX3_init 306 = .ok (.aload_n 0, 1) := dk_42 (dk_at dksX3_init_13 0 rfl rfl)
theorem dX3_init_307 : decode cX3_init 307 = .ok (.bipush 72, 2) := dk_16 72 (dk_at dksX3_init_13 1 rfl rfl)
theorem dX3_init_309 : decode cX3_init 309 = .ok (.newarray .int, 2) := dk_188_10 (dk_at dksX3_init_13 3 rfl rfl)
theorem dX3_init_311 : decode cX3_init 311 = .ok (.putfield 108, 3) := dk_181 0 108 (dk_at dksX3_init_13 5 rfl rfl)
theorem dX3_init_314 : decode cX3_init 314 = .ok (.aload_n 0, 1) := dk_42 (dk_at dksX3_init_13 8 rfl rfl)
theorem dX3_init_315 : decode cX3_init 315 = .ok (.bipush 72, 2) := dk_16 72 (dk_at dksX3_init_13 9 rfl rfl)
theorem dX3_init_317 : decode cX3_init 317 = .ok (.newarray .int, 2) := dk_188_10 (dk_at dksX3_init_13 11 rfl rfl)
theorem dX3_init_319 : decode cX3_init 319 = .ok (.putfield 111, 3) := dk_181 0 111 (dk_at dksX3_init_13 13 rfl rfl)
theorem dX3_init_322 : decode cX3_init 322 = .ok (.aload_n 0, 1) := dk_42 (dk_at dksX3_init_13 16 rfl rfl)
theorem dX3_init_323 : decode cX3_init 323 = .ok (.sipush 402, 3) := dk_17 1 146 (dk_at dksX3_init_13 17 rfl rfl)
theorem dX3_init_326 : decode cX3_init 326 = .ok (.newarray .int, 2) := dk_188_10 (dk_at dksX3_init_13 20 rfl rfl)
theorem dX3_init_328 : decode cX3_init 328 = .ok (.putfield 114, 3) := dk_181 0 114 (dk_at dksX3_init_14 0 rfl rfl)
theorem dX3_init_331 : decode cX3_init 331 = .ok (.aload_n 0, 1) := dk_42 (dk_at dksX3_init_14 3 rfl rfl)
theorem dX3_init_332 : decode cX3_init 332 = .ok (.bipush 13, 2) := dk_16 13 (dk_at dksX3_init_14 4 rfl rfl)
theorem dX3_init_334 : decode cX3_init 334 = .ok (.newarray .long, 2) := dk_188_11 (dk_at dksX3_init_14 6 rfl rfl)
theorem dX3_init_336 : decode cX3_init 336 = .ok (.putfield 117, 3) := dk_181 0 117 (dk_at dksX3_init_14 8 rfl rfl)
theorem dX3_init_339 : decode cX3_init 339 = .ok (.aload_n 0, 1) := dk_42 (dk_at dksX3_init_14 11 rfl rfl)
theorem dX3_init_340 : decode cX3_init 340 = .ok (.sipush 300, 3) := dk_17 1 44 (dk_at dksX3_init_14 12 rfl rfl)
theorem dX3_init_343 : decode cX3_init 343 = .ok (.newarray .long, 2) := dk_188_11 (dk_at dksX3_init_14 15 rfl rfl)
theorem dX3_init_345 : decode cX3_init 345 = .ok (.putfield 121, 3) := dk_181 0 121 (dk_at dksX3_init_14 17 rfl rfl)
theorem dX3_init_348 : decode cX3_init 348 = .ok (.aload_n 0, 1) := dk_42 (dk_at dksX3_init_14 20 rfl rfl)
theorem dX3_init_349 : decode cX3_init 349 = .ok (.iconst 4, 1) := dk_7 (dk_at dksX3_init_14 21 rfl rfl)
theorem dX3_init_350 : decode cX3_init 350 = .ok (.newarray .int, 2) := dk_188_10 (dk_at dksX3_init_14 22 rfl rfl)
theorem dX3_init_352 : decode cX3_init 352 = .ok (.putfield 124, 3) := dk_181 0 124 (dk_at dksX3_init_15 0 rfl rfl)
theorem dX3_init_355 : decode cX3_init 355 = .ok (.aload_n 0, 1) := dk_42 (dk_at dksX3_init_15 3 rfl rfl)
theorem dX3_init_356 : decode cX3_init 356 = .ok (.iconst 4, 1) := dk_7 (dk_at dksX3_init_15 4 rfl rfl)
theorem dX3_init_357 : decode cX3_init 357 = .ok (.newarray .int, 2) := dk_188_10 (dk_at dksX3_init_15 5 rfl rfl)
theorem dX3_init_359 : decode cX3_init 359 = .ok (.putfield 127, 3) := dk_181 0 127 (dk_at dksX3_init_15 7 rfl rfl)
theorem dX3_init_362 : decode cX3_init 362 = .ok (.aload_n 0, 1) := dk_42 (dk_at dksX3_init_15 10 rfl rfl)
theorem dX3_init_363 : decode cX3_init 363 = .ok (.sipush 3640, 3) := dk_17 14 56 (dk_at dksX3_init_15 11 rfl rfl)
theorem dX3_init_366 : decode cX3_init 366 = .ok (.newarray .int, 2) := dk_188_10 (dk_at dksX3_init_15 14 rfl rfl)
theorem dX3_init_368 : decode cX3_init 368 = .ok (.putfield 130, 3) := dk_181 0 130 (dk_at dksX3_init_15 16 rfl rfl)
theorem dX3_init_371 : decode cX3_init 371 = .ok (.aload_n 0, 1) := dk_42 (dk_at dksX3_init_15 19 rfl rfl)
theorem dX3_init_372 : decode cX3_init 372 = .ok (.iconst 1, 1) := dk_4 (dk_at dksX3_init_15 20 rfl rfl)
theorem dX3_init_373 : decode cX3_init 373 = .ok (.newarray .int, 2) := dk_188_10 (dk_at dksX3_init_15 21 rfl rfl)
theorem dX3_init_375 : decode cX3_init 375 = .ok (.putfield 133, 3) := dk_181 0 133 (dk_at dksX3_init_16 0 rfl rfl)
theorem dX3_init_378 : decode cX3_init 378 = .ok (.aload_n 0, 1) := dk_42 (dk_at dksX3_init_16 3 rfl rfl)
theorem dX3_init_379 : decode cX3_init 379 = .ok (.bipush 6, 2) := dk_16 6 (dk_at dksX3_init_16 4 rfl rfl)
theorem dX3_init_381 : decode cX3_init 381 = .ok (.newarray .int, 2) := dk_188_10 (dk_at dksX3_init_16 6 rfl rfl)
theorem dX3_init_383 : decode cX3_init 383 = .ok (.putfield 136, 3) := dk_181 0 136 (dk_at dksX3_init_16 8 rfl rfl)
theorem dX3_init_386 : decode cX3_init 386 = .ok (.aload_n 0, 1) := dk_42 (dk_at dksX3_init_16 11 rfl rfl)
theorem dX3_init_387 : decode cX3_init 387 = .ok (.bipush 6, 2) := dk_16 6 (dk_at dksX3_init_16 12 rfl rfl)
theorem dX3_init_389 : decode cX3_init 389 = .ok (.newarray .int, 2) := dk_188_10 (dk_at dksX3_init_16 14 rfl rfl)
theorem dX3_init_391 : decode cX3_init 391 = .ok (.putfield 139, 3) := dk_181 0 139 (dk_at dksX3_init_16 16 rfl rfl)
theorem dX3_init_394 : decode cX3_init 394 = .ok (.aload_n 0, 1) := dk_42 (dk_at dksX3_init_16 19 rfl rfl)
theorem dX3_init_395 : decode cX3_init 395 = .ok (.iconst 5, 1) := dk_8 (dk_at dksX3_init_16 20 rfl rfl)
theorem dX3_init_396 : decode cX3_init 396 = .ok (.newarray .int, 2) := dk_188_10 (dk_at dksX3_init_16 21 rfl rfl)
theorem dX3_init_398 : decode cX3_init 398 = .ok (.putfield 142, 3) := dk_181 0 142 (dk_at dksX3_init_17 0 rfl rfl)
theorem dX3_init_401 : decode cX3_init 401 = .ok (.aload_n 0, 1) := dk_42 (dk_at dksX3_init_17 3 rfl rfl)
theorem dX3_init_402 : decode cX3_init 402 = .ok (.iconst 5, 1) := dk_8 (dk_at dksX3_init_17 4 rfl rfl)
theorem dX3_init_403 : decode cX3_init 403 = .ok (.newarray .int, 2) := dk_188_10 (dk_at dksX3_init_17 5 rfl rfl)
theorem dX3_init_405 : decode cX3_init 405 = .ok (.putfield 145, 3) := dk_181 0 145 (dk_at dksX3_init_17 7 rfl rfl)
theorem dX3_init_408 : decode cX3_init 408 = .ok (.aload_n 0, 1) := dk_42 (dk_at dksX3_init_17 10 rfl rfl)
theorem dX3_init_409 : decode cX3_init 409 = .ok (.iconst 4, 1) := dk_7 (dk_at dksX3_init_17 11 rfl rfl)
theorem dX3_init_410 : decode cX3_init 410 = .ok (.newarray .int, 2) := dk_188_10 (dk_at dksX3_init_17 12 rfl rfl)
theorem dX3_init_412 : decode cX3_init 412 = .ok (.putfield 148, 3) := dk_181 0 148 (dk_at dksX3_init_17 14 rfl rfl)
theorem dX3_init_415 : decode cX3_init 415 = .ok (.aload_n 0, 1) := dk_42 (dk_at dksX3_init_17 17 rfl rfl)
theorem dX3_init_416 : decode cX3_init 416 = .ok (.bipush 20, 2) := dk_16 20 (dk_at dksX3_init_17 18 rfl rfl)
theorem dX3_init_418 : decode cX3_init 418 = .ok (.newarray .int, 2) := dk_188_10 (dk_at dksX3_init_17 20 rfl rfl)
theorem dX3_init_420 : decode cX3_init 420 = .ok (.putfield 151, 3) := dk_181 0 151 (dk_at dksX3_init_18 0 rfl rfl)
theorem dX3_init_423 : decode cX3_init 423 = .ok (.aload_n 0, 1) := dk_42 (dk_at dksX3_init_18 3 rfl rfl)
theorem dX3_init_424 : decode cX3_init 424 = .ok (.sipush 20500, 3) := dk_17 80 20 (dk_at dksX3_init_18 4 rfl rfl)
theorem dX3_init_427 : decode cX3_init 427 = .ok (.newarray .int, 2) := dk_188_10 (dk_at dksX3_init_18 7 rfl rfl)
theorem dX3_init_429 : decode cX3_init 429 = .ok (.putfield 154, 3) := dk_181 0 154 (dk_at dksX3_init_18 9 rfl rfl)
theorem dX3_init_432 : decode cX3_init 432 = .ok (.aload_n 0, 1) := dk_42 (dk_at dksX3_init_18 12 rfl rfl)
theorem dX3_init_433 : decode cX3_init 433 = .ok (.iconst 4, 1) := dk_7 (dk_at dksX3_init_18 13 rfl rfl)
theorem dX3_init_434 : decode cX3_init 434 = .ok (.newarray .boolean, 2) := dk_188_4 (dk_at dksX3_init_18 14 rfl rfl)
theorem dX3_init_436 : decode cX3_init 436 = .ok (.putfield 157, 3) := dk_181 0 157 (dk_at dksX3_init_18 16 rfl rfl)
theorem dX3_init_439 : decode cX3_init 439 = .ok (.return_, 1) := dk_177 (dk_at dksX3_init_18 19 rfl rfl)
abbrev cX3_feed : ByteArray := prog_17_method_10_code
def yX3_feed : MethodName := ⟨RX3, "feed", "(IIIII)I"⟩
def dkwX3_feed_2 : List UInt8 := [172]
abbrev dktX3_feed_2 : List UInt8 := dkwX3_feed_2 ++ []
def dkwX3_feed_1 : List UInt8 := [182, 0, 171, 42, 29, 182, 0, 171, 42, 21, 4, 182, 0, 171, 42, 21, 5, 182, 0, 171, 42, 180, 0, 168]
abbrev dktX3_feed_1 : List UInt8 := dkwX3_feed_1 ++ dktX3_feed_2
def dkwX3_feed_0 : List UInt8 := [42, 180, 0, 168, 16, 20, 96, 17, 1, 144, 164, 0, 5, 2, 172, 42, 27, 182, 0, 171, 42, 28]
abbrev dktX3_feed_0 : List UInt8 := dkwX3_feed_0 ++ dktX3_feed_1
theorem dksX3_feed_0 : cX3_feed.data.toList.drop 0 = dktX3_feed_0 := by decide +kernel
theorem dksX3_feed_1 : cX3_feed.data.toList.drop 22 = dktX3_feed_1 := dk_seg dksX3_feed_0 22 rfl rfl
theorem dksX3_feed_2 : cX3_feed.data.toList.drop 46 = dktX3_feed_2 := dk_seg dksX3_feed_1 24 rfl rfl
theorem dX3_feed_0 : decode cX3_feed 0 = .ok (.aload_n 0, 1) := dk_42 (dk_at dksX3_feed_0 0 rfl rfl)
theorem dX3_feed_1 : decode cX3_feed 1 = .ok (.getfield 168, 3) := dk_180 0 168 (dk_at dksX3_feed_0 1 rfl rfl)
theorem dX3_feed_4 : decode cX3_feed 4 = .ok (.bipush 20, 2) := dk_16 20 (dk_at dksX3_feed_0 4 rfl rfl)
theorem dX3_feed_6 : decode cX3_feed 6 = .ok (.iadd, 1) := dk_96 (dk_at dksX3_feed_0 6 rfl rfl)
theorem dX3_feed_7 : decode cX3_feed 7 = .ok (.sipush 400, 3) := dk_17 1 144 (dk_at dksX3_feed_0 7 rfl rfl)
theorem dX3_feed_10 : decode cX3_feed 10 = .ok (.if_icmp .le 5, 3) := dk_164 0 5 (dk_at dksX3_feed_0 10 rfl rfl)
theorem dX3_feed_13 : decode cX3_feed 13 = .ok (.iconst (-1), 1) := dk_2 (dk_at dksX3_feed_0 13 rfl rfl)
theorem dX3_feed_14 : decode cX3_feed 14 = .ok (.ireturn, 1) := dk_172 (dk_at dksX3_feed_0 14 rfl rfl)
theorem dX3_feed_15 : decode cX3_feed 15 = .ok (.aload_n 0, 1) := dk_42 (dk_at dksX3_feed_0 15 rfl rfl)
theorem dX3_feed_16 : decode cX3_feed 16 = .ok (.iload_n 1, 1) := dk_27 (dk_at dksX3_feed_0 16 rfl rfl)
theorem dX3_feed_17 : decode cX3_feed 17 = .ok (.invokevirtual 171, 3) := dk_182 0 171 (dk_at dksX3_feed_0 17 rfl rfl)
theorem dX3_feed_20 : decode cX3_feed 20 = .ok (.aload_n 0, 1) := dk_42 (dk_at dksX3_feed_0 20 rfl rfl)
theorem dX3_feed_21 : decode cX3_feed 21 = .ok (.iload_n 2, 1) := dk_28 (dk_at dksX3_feed_0 21 rfl rfl)
theorem dX3_feed_22 : decode cX3_feed 22 = .ok (.invokevirtual 171, 3) := dk_182 0 171 (dk_at dksX3_feed_1 0 rfl rfl)
theorem dX3_feed_25 : decode cX3_feed 25 = .ok (.aload_n 0, 1) := dk_42 (dk_at dksX3_feed_1 3 rfl rfl)
theorem dX3_feed_26 : decode cX3_feed 26 = .ok (.iload_n 3, 1) := dk_29 (dk_at dksX3_feed_1 4 rfl rfl)
theorem dX3_feed_27 : decode cX3_feed 27 = .ok (.invokevirtual 171, 3) := dk_182 0 171 (dk_at dksX3_feed_1 5 rfl rfl)
theorem dX3_feed_30 : decode cX3_feed 30 = .ok (.aload_n 0, 1) := dk_42 (dk_at dksX3_feed_1 8 rfl rfl)
theorem dX3_feed_31 : decode cX3_feed 31 = .ok (.iload 4, 2) := dk_21 4 (dk_at dksX3_feed_1 9 rfl rfl)
theorem dX3_feed_33 : decode cX3_feed 33 = .ok (.invokevirtual 171, 3) := dk_182 0 171 (dk_at dksX3_feed_1 11 rfl rfl)
theorem dX3_feed_36 : decode cX3_feed 36 = .ok (.aload_n 0, 1) := dk_42 (dk_at dksX3_feed_1 14 rfl rfl)
theorem dX3_feed_37 : decode cX3_feed 37 = .ok (.iload 5, 2) := dk_21 5 (dk_at dksX3_feed_1 15 rfl rfl)
theorem dX3_feed_39 : decode cX3_feed 39 = .ok (.invokevirtual 171, 3) := dk_182 0 171 (dk_at dksX3_feed_1 17 rfl rfl)
theorem dX3_feed_42 : decode cX3_feed 42 = .ok (.aload_n 0, 1) := dk_42 (dk_at dksX3_feed_1 20 rfl rfl)
theorem dX3_feed_43 : decode cX3_feed 43 = .ok (.getfield 168, 3) := dk_180 0 168 (dk_at dksX3_feed_1 21 rfl rfl)
theorem dX3_feed_46 : decode cX3_feed 46 = .ok (.ireturn, 1) := dk_172 (dk_at dksX3_feed_2 0 rfl rfl)
abbrev cX3_put : ByteArray := prog_17_method_11_code
def yX3_put : MethodName := ⟨RX3, "put", "(I)V"⟩
def dkwX3_put_1 : List UInt8 := [180, 0, 168, 4, 96, 181, 0, 168, 132, 2, 248, 167, 255, 226, 177]
abbrev dktX3_put_1 : List UInt8 := dkwX3_put_1 ++ []
def dkwX3_put_0 : List UInt8 := [16, 24, 61, 28, 155, 0, 32, 42, 180, 0, 92, 42, 180, 0, 168, 27, 28, 122, 145, 84, 42, 89]
abbrev dktX3_put_0 : List UInt8 := dkwX3_put_0 ++ dktX3_put_1
theorem dksX3_put_0 : cX3_put.data.toList.drop 0 = dktX3_put_0 := by decide +kernel
theorem dksX3_put_1 : cX3_put.data.toList.drop 22 = dktX3_put_1 := dk_seg dksX3_put_0 22 rfl rfl
theorem dX3_put_0 : decode cX3_put 0 = .ok (.bipush 24, 2) := dk_16 24 (dk_at dksX3_put_0 0 rfl rfl)
theorem dX3_put_2 : decode cX3_put 2 = .ok (.istore_n 2, 1) := dk_61 (dk_at dksX3_put_0 2 rfl rfl)
theorem dX3_put_3 : decode cX3_put 3 = .ok (.iload_n 2, 1) := dk_28 (dk_at dksX3_put_0 3 rfl rfl)
theorem dX3_put_4 : decode cX3_put 4 = .ok (.ifCond .lt 32, 3) := dk_155 0 32 (dk_at dksX3_put_0 4 rfl rfl)
theorem dX3_put_7 : decode cX3_put 7 = .ok (.aload_n 0, 1) := dk_42 (dk_at dksX3_put_0 7 rfl rfl)
theorem dX3_put_8 : decode cX3_put 8 = .ok (.getfield 92, 3) := dk_180 0 92 (dk_at dksX3_put_0 8 rfl rfl)
theorem dX3_put_11 : decode cX3_put 11 = .ok (.aload_n 0, 1) := dk_42 (dk_at dksX3_put_0 11 rfl rfl)
theorem dX3_put_12 : decode cX3_put 12 = .ok (.getfield 168, 3) := dk_180 0 168 (dk_at dksX3_put_0 12 rfl rfl)
theorem dX3_put_15 : decode cX3_put 15 = .ok (.iload_n 1, 1) := dk_27 (dk_at dksX3_put_0 15 rfl rfl)
theorem dX3_put_16 : decode cX3_put 16 = .ok (.iload_n 2, 1) := dk_28 (dk_at dksX3_put_0 16 rfl rfl)
theorem dX3_put_17 : decode cX3_put 17 = .ok (.ishr, 1) := dk_122 (dk_at dksX3_put_0 17 rfl rfl)
theorem dX3_put_18 : decode cX3_put 18 = .ok (.i2b, 1) := dk_145 (dk_at dksX3_put_0 18 rfl rfl)
theorem dX3_put_19 : decode cX3_put 19 = .ok (.bastore, 1) := dk_84 (dk_at dksX3_put_0 19 rfl rfl)
theorem dX3_put_20 : decode cX3_put 20 = .ok (.aload_n 0, 1) := dk_42 (dk_at dksX3_put_0 20 rfl rfl)
theorem dX3_put_21 : decode cX3_put 21 = .ok (.dup, 1) := dk_89 (dk_at dksX3_put_0 21 rfl rfl)
theorem dX3_put_22 : decode cX3_put 22 = .ok (.getfield 168, 3) := dk_180 0 168 (dk_at dksX3_put_1 0 rfl rfl)
theorem dX3_put_25 : decode cX3_put 25 = .ok (.iconst 1, 1) := dk_4 (dk_at dksX3_put_1 3 rfl rfl)
theorem dX3_put_26 : decode cX3_put 26 = .ok (.iadd, 1) := dk_96 (dk_at dksX3_put_1 4 rfl rfl)
theorem dX3_put_27 : decode cX3_put 27 = .ok (.putfield 168, 3) := dk_181 0 168 (dk_at dksX3_put_1 5 rfl rfl)
theorem dX3_put_30 : decode cX3_put 30 = .ok (.iinc 2 (-8), 3) := dk_132 2 248 (dk_at dksX3_put_1 8 rfl rfl)
theorem dX3_put_33 : decode cX3_put 33 = .ok (.goto (-30), 3) := dk_167 255 226 (dk_at dksX3_put_1 11 rfl rfl)
theorem dX3_put_36 : decode cX3_put 36 = .ok (.return_, 1) := dk_177 (dk_at dksX3_put_1 14 rfl rfl)
abbrev cX3_end : ByteArray := prog_17_method_12_code
def yX3_end : MethodName := ⟨RX3, "end", "(I)I"⟩
def dkwX3_end_0 : List UInt8 := [27, 155, 0, 11, 27, 42, 180, 0, 168, 164, 0, 5, 2, 172, 42, 27, 181, 0, 168, 27, 172]
abbrev dktX3_end_0 : List UInt8 := dkwX3_end_0 ++ []
theorem dksX3_end_0 : cX3_end.data.toList.drop 0 = dktX3_end_0 := by decide +kernel
theorem dX3_end_0 : decode cX3_end 0 = .ok (.iload_n 1, 1) := dk_27 (dk_at dksX3_end_0 0 rfl rfl)
theorem dX3_end_1 : decode cX3_end 1 = .ok (.ifCond .lt 11, 3) := dk_155 0 11 (dk_at dksX3_end_0 1 rfl rfl)
theorem dX3_end_4 : decode cX3_end 4 = .ok (.iload_n 1, 1) := dk_27 (dk_at dksX3_end_0 4 rfl rfl)
theorem dX3_end_5 : decode cX3_end 5 = .ok (.aload_n 0, 1) := dk_42 (dk_at dksX3_end_0 5 rfl rfl)
theorem dX3_end_6 : decode cX3_end 6 = .ok (.getfield 168, 3) := dk_180 0 168 (dk_at dksX3_end_0 6 rfl rfl)
theorem dX3_end_9 : decode cX3_end 9 = .ok (.if_icmp .le 5, 3) := dk_164 0 5 (dk_at dksX3_end_0 9 rfl rfl)
theorem dX3_end_12 : decode cX3_end 12 = .ok (.iconst (-1), 1) := dk_2 (dk_at dksX3_end_0 12 rfl rfl)
theorem dX3_end_13 : decode cX3_end 13 = .ok (.ireturn, 1) := dk_172 (dk_at dksX3_end_0 13 rfl rfl)
theorem dX3_end_14 : decode cX3_end 14 = .ok (.aload_n 0, 1) := dk_42 (dk_at dksX3_end_0 14 rfl rfl)
theorem dX3_end_15 : decode cX3_end 15 = .ok (.iload_n 1, 1) := dk_27 (dk_at dksX3_end_0 15 rfl rfl)
theorem dX3_end_16 : decode cX3_end 16 = .ok (.putfield 168, 3) := dk_181 0 168 (dk_at dksX3_end_0 16 rfl rfl)
theorem dX3_end_19 : decode cX3_end 19 = .ok (.iload_n 1, 1) := dk_27 (dk_at dksX3_end_0 19 rfl rfl)
theorem dX3_end_20 : decode cX3_end 20 = .ok (.ireturn, 1) := dk_172 (dk_at dksX3_end_0 20 rfl rfl)
abbrev cX3_street : ByteArray := prog_17_method_44_code
def yX3_street : MethodName := ⟨RX3, "street", "()I"⟩
def dkwX3_street_7 : List UInt8 := [3, 181, 1, 93, 42, 180, 0, 9, 7, 46, 172]
abbrev dktX3_street_7 : List UInt8 := dkwX3_street_7 ++ []
def dkwX3_street_6 : List UInt8 := [180, 0, 55, 184, 1, 76, 42, 180, 0, 58, 3, 42, 180, 0, 61, 16, 8, 46, 79, 42, 182, 1, 90, 42]
abbrev dktX3_street_6 : List UInt8 := dkwX3_street_6 ++ dktX3_street_7
def dkwX3_street_5 : List UInt8 := [180, 0, 49, 184, 1, 76, 42, 180, 0, 85, 42, 180, 0, 52, 184, 1, 76, 42, 180, 0, 73, 42]
abbrev dktX3_street_5 : List UInt8 := dkwX3_street_5 ++ dktX3_street_6
def dkwX3_street_4 : List UInt8 := [180, 0, 25, 184, 1, 76, 42, 180, 0, 79, 42, 180, 0, 28, 184, 1, 76, 42, 180, 0, 82, 42]
abbrev dktX3_street_4 : List UInt8 := dkwX3_street_4 ++ dktX3_street_5
def dkwX3_street_3 : List UInt8 := [180, 0, 16, 184, 1, 76, 42, 180, 0, 70, 42, 180, 0, 19, 184, 1, 76, 42, 180, 0, 76, 42]
abbrev dktX3_street_3 : List UInt8 := dkwX3_street_3 ++ dktX3_street_4
def dkwX3_street_2 : List UInt8 := [79, 132, 1, 1, 167, 255, 225, 42, 180, 0, 64, 42, 180, 0, 13, 184, 1, 76, 42, 180, 0, 67, 42]
abbrev dktX3_street_2 : List UInt8 := dkwX3_street_2 ++ dktX3_street_3
def dkwX3_street_1 : List UInt8 := [162, 0, 31, 42, 180, 0, 9, 27, 27, 16, 9, 162, 0, 12, 42, 180, 0, 61, 27, 46, 167, 0, 4, 3]
abbrev dktX3_street_1 : List UInt8 := dkwX3_street_1 ++ dktX3_street_2
def dkwX3_street_0 : List UInt8 := [42, 182, 1, 87, 42, 180, 0, 199, 158, 0, 11, 16, 254, 42, 180, 0, 199, 100, 172, 3, 60, 27, 16, 11]
abbrev dktX3_street_0 : List UInt8 := dkwX3_street_0 ++ dktX3_street_1
theorem dksX3_street_0 : cX3_street.data.toList.drop 0 = dktX3_street_0 := by decide +kernel
theorem dksX3_street_1 : cX3_street.data.toList.drop 24 = dktX3_street_1 := dk_seg dksX3_street_0 24 rfl rfl
theorem dksX3_street_2 : cX3_street.data.toList.drop 48 = dktX3_street_2 := dk_seg dksX3_street_1 24 rfl rfl
theorem dksX3_street_3 : cX3_street.data.toList.drop 71 = dktX3_street_3 := dk_seg dksX3_street_2 23 rfl rfl
theorem dksX3_street_4 : cX3_street.data.toList.drop 93 = dktX3_street_4 := dk_seg dksX3_street_3 22 rfl rfl
theorem dksX3_street_5 : cX3_street.data.toList.drop 115 = dktX3_street_5 := dk_seg dksX3_street_4 22 rfl rfl
theorem dksX3_street_6 : cX3_street.data.toList.drop 137 = dktX3_street_6 := dk_seg dksX3_street_5 22 rfl rfl
theorem dksX3_street_7 : cX3_street.data.toList.drop 161 = dktX3_street_7 := dk_seg dksX3_street_6 24 rfl rfl
theorem dX3_street_0 : decode cX3_street 0 = .ok (.aload_n 0, 1) := dk_42 (dk_at dksX3_street_0 0 rfl rfl)
theorem dX3_street_1 : decode cX3_street 1 = .ok (.invokevirtual 343, 3) := dk_182 1 87 (dk_at dksX3_street_0 1 rfl rfl)
theorem dX3_street_4 : decode cX3_street 4 = .ok (.aload_n 0, 1) := dk_42 (dk_at dksX3_street_0 4 rfl rfl)
theorem dX3_street_5 : decode cX3_street 5 = .ok (.getfield 199, 3) := dk_180 0 199 (dk_at dksX3_street_0 5 rfl rfl)
theorem dX3_street_8 : decode cX3_street 8 = .ok (.ifCond .le 11, 3) := dk_158 0 11 (dk_at dksX3_street_0 8 rfl rfl)
theorem dX3_street_11 : decode cX3_street 11 = .ok (.bipush (-2), 2) := dk_16 254 (dk_at dksX3_street_0 11 rfl rfl)
theorem dX3_street_13 : decode cX3_street 13 = .ok (.aload_n 0, 1) := dk_42 (dk_at dksX3_street_0 13 rfl rfl)
theorem dX3_street_14 : decode cX3_street 14 = .ok (.getfield 199, 3) := dk_180 0 199 (dk_at dksX3_street_0 14 rfl rfl)
theorem dX3_street_17 : decode cX3_street 17 = .ok (.isub, 1) := dk_100 (dk_at dksX3_street_0 17 rfl rfl)
theorem dX3_street_18 : decode cX3_street 18 = .ok (.ireturn, 1) := dk_172 (dk_at dksX3_street_0 18 rfl rfl)
theorem dX3_street_19 : decode cX3_street 19 = .ok (.iconst 0, 1) := dk_3 (dk_at dksX3_street_0 19 rfl rfl)
theorem dX3_street_20 : decode cX3_street 20 = .ok (.istore_n 1, 1) := dk_60 (dk_at dksX3_street_0 20 rfl rfl)
theorem dX3_street_21 : decode cX3_street 21 = .ok (.iload_n 1, 1) := dk_27 (dk_at dksX3_street_0 21 rfl rfl)
theorem dX3_street_22 : decode cX3_street 22 = .ok (.bipush 11, 2) := dk_16 11 (dk_at dksX3_street_0 22 rfl rfl)
theorem dX3_street_24 : decode cX3_street 24 = .ok (.if_icmp .ge 31, 3) := dk_162 0 31 (dk_at dksX3_street_1 0 rfl rfl)
theorem dX3_street_27 : decode cX3_street 27 = .ok (.aload_n 0, 1) := dk_42 (dk_at dksX3_street_1 3 rfl rfl)
theorem dX3_street_28 : decode cX3_street 28 = .ok (.getfield 9, 3) := dk_180 0 9 (dk_at dksX3_street_1 4 rfl rfl)
theorem dX3_street_31 : decode cX3_street 31 = .ok (.iload_n 1, 1) := dk_27 (dk_at dksX3_street_1 7 rfl rfl)
theorem dX3_street_32 : decode cX3_street 32 = .ok (.iload_n 1, 1) := dk_27 (dk_at dksX3_street_1 8 rfl rfl)
theorem dX3_street_33 : decode cX3_street 33 = .ok (.bipush 9, 2) := dk_16 9 (dk_at dksX3_street_1 9 rfl rfl)
theorem dX3_street_35 : decode cX3_street 35 = .ok (.if_icmp .ge 12, 3) := dk_162 0 12 (dk_at dksX3_street_1 11 rfl rfl)
theorem dX3_street_38 : decode cX3_street 38 = .ok (.aload_n 0, 1) := dk_42 (dk_at dksX3_street_1 14 rfl rfl)
theorem dX3_street_39 : decode cX3_street 39 = .ok (.getfield 61, 3) := dk_180 0 61 (dk_at dksX3_street_1 15 rfl rfl)
theorem dX3_street_42 : decode cX3_street 42 = .ok (.iload_n 1, 1) := dk_27 (dk_at dksX3_street_1 18 rfl rfl)
theorem dX3_street_43 : decode cX3_street 43 = .ok (.iaload, 1) := dk_46 (dk_at dksX3_street_1 19 rfl rfl)
theorem dX3_street_44 : decode cX3_street 44 = .ok (.goto 4, 3) := dk_167 0 4 (dk_at dksX3_street_1 20 rfl rfl)
theorem dX3_street_47 : decode cX3_street 47 = .ok (.iconst 0, 1) := dk_3 (dk_at dksX3_street_1 23 rfl rfl)
theorem dX3_street_48 : decode cX3_street 48 = .ok (.iastore, 1) := dk_79 (dk_at dksX3_street_2 0 rfl rfl)
theorem dX3_street_49 : decode cX3_street 49 = .ok (.iinc 1 1, 3) := dk_132 1 1 (dk_at dksX3_street_2 1 rfl rfl)
theorem dX3_street_52 : decode cX3_street 52 = .ok (.goto (-31), 3) := dk_167 255 225 (dk_at dksX3_street_2 4 rfl rfl)
theorem dX3_street_55 : decode cX3_street 55 = .ok (.aload_n 0, 1) := dk_42 (dk_at dksX3_street_2 7 rfl rfl)
theorem dX3_street_56 : decode cX3_street 56 = .ok (.getfield 64, 3) := dk_180 0 64 (dk_at dksX3_street_2 8 rfl rfl)
theorem dX3_street_59 : decode cX3_street 59 = .ok (.aload_n 0, 1) := dk_42 (dk_at dksX3_street_2 11 rfl rfl)
theorem dX3_street_60 : decode cX3_street 60 = .ok (.getfield 13, 3) := dk_180 0 13 (dk_at dksX3_street_2 12 rfl rfl)
theorem dX3_street_63 : decode cX3_street 63 = .ok (.invokestatic 332, 3) := dk_184 1 76 (dk_at dksX3_street_2 15 rfl rfl)
theorem dX3_street_66 : decode cX3_street 66 = .ok (.aload_n 0, 1) := dk_42 (dk_at dksX3_street_2 18 rfl rfl)
theorem dX3_street_67 : decode cX3_street 67 = .ok (.getfield 67, 3) := dk_180 0 67 (dk_at dksX3_street_2 19 rfl rfl)
theorem dX3_street_70 : decode cX3_street 70 = .ok (.aload_n 0, 1) := dk_42 (dk_at dksX3_street_2 22 rfl rfl)
theorem dX3_street_71 : decode cX3_street 71 = .ok (.getfield 16, 3) := dk_180 0 16 (dk_at dksX3_street_3 0 rfl rfl)
theorem dX3_street_74 : decode cX3_street 74 = .ok (.invokestatic 332, 3) := dk_184 1 76 (dk_at dksX3_street_3 3 rfl rfl)
theorem dX3_street_77 : decode cX3_street 77 = .ok (.aload_n 0, 1) := dk_42 (dk_at dksX3_street_3 6 rfl rfl)
theorem dX3_street_78 : decode cX3_street 78 = .ok (.getfield 70, 3) := dk_180 0 70 (dk_at dksX3_street_3 7 rfl rfl)
theorem dX3_street_81 : decode cX3_street 81 = .ok (.aload_n 0, 1) := dk_42 (dk_at dksX3_street_3 10 rfl rfl)
theorem dX3_street_82 : decode cX3_street 82 = .ok (.getfield 19, 3) := dk_180 0 19 (dk_at dksX3_street_3 11 rfl rfl)
theorem dX3_street_85 : decode cX3_street 85 = .ok (.invokestatic 332, 3) := dk_184 1 76 (dk_at dksX3_street_3 14 rfl rfl)
theorem dX3_street_88 : decode cX3_street 88 = .ok (.aload_n 0, 1) := dk_42 (dk_at dksX3_street_3 17 rfl rfl)
theorem dX3_street_89 : decode cX3_street 89 = .ok (.getfield 76, 3) := dk_180 0 76 (dk_at dksX3_street_3 18 rfl rfl)
theorem dX3_street_92 : decode cX3_street 92 = .ok (.aload_n 0, 1) := dk_42 (dk_at dksX3_street_3 21 rfl rfl)
theorem dX3_street_93 : decode cX3_street 93 = .ok (.getfield 25, 3) := dk_180 0 25 (dk_at dksX3_street_4 0 rfl rfl)
theorem dX3_street_96 : decode cX3_street 96 = .ok (.invokestatic 332, 3) := dk_184 1 76 (dk_at dksX3_street_4 3 rfl rfl)
theorem dX3_street_99 : decode cX3_street 99 = .ok (.aload_n 0, 1) := dk_42 (dk_at dksX3_street_4 6 rfl rfl)
theorem dX3_street_100 : decode cX3_street 100 = .ok (.getfield 79, 3) := dk_180 0 79 (dk_at dksX3_street_4 7 rfl rfl)
theorem dX3_street_103 : decode cX3_street 103 = .ok (.aload_n 0, 1) := dk_42 (dk_at dksX3_street_4 10 rfl rfl)
theorem dX3_street_104 : decode cX3_street 104 = .ok (.getfield 28, 3) := dk_180 0 28 (dk_at dksX3_street_4 11 rfl rfl)
theorem dX3_street_107 : decode cX3_street 107 = .ok (.invokestatic 332, 3) := dk_184 1 76 (dk_at dksX3_street_4 14 rfl rfl)
theorem dX3_street_110 : decode cX3_street 110 = .ok (.aload_n 0, 1) := dk_42 (dk_at dksX3_street_4 17 rfl rfl)
theorem dX3_street_111 : decode cX3_street 111 = .ok (.getfield 82, 3) := dk_180 0 82 (dk_at dksX3_street_4 18 rfl rfl)
theorem dX3_street_114 : decode cX3_street 114 = .ok (.aload_n 0, 1) := dk_42 (dk_at dksX3_street_4 21 rfl rfl)
theorem dX3_street_115 : decode cX3_street 115 = .ok (.getfield 49, 3) := dk_180 0 49 (dk_at dksX3_street_5 0 rfl rfl)
theorem dX3_street_118 : decode cX3_street 118 = .ok (.invokestatic 332, 3) := dk_184 1 76 (dk_at dksX3_street_5 3 rfl rfl)
theorem dX3_street_121 : decode cX3_street 121 = .ok (.aload_n 0, 1) := dk_42 (dk_at dksX3_street_5 6 rfl rfl)
theorem dX3_street_122 : decode cX3_street 122 = .ok (.getfield 85, 3) := dk_180 0 85 (dk_at dksX3_street_5 7 rfl rfl)
theorem dX3_street_125 : decode cX3_street 125 = .ok (.aload_n 0, 1) := dk_42 (dk_at dksX3_street_5 10 rfl rfl)
theorem dX3_street_126 : decode cX3_street 126 = .ok (.getfield 52, 3) := dk_180 0 52 (dk_at dksX3_street_5 11 rfl rfl)
theorem dX3_street_129 : decode cX3_street 129 = .ok (.invokestatic 332, 3) := dk_184 1 76 (dk_at dksX3_street_5 14 rfl rfl)
theorem dX3_street_132 : decode cX3_street 132 = .ok (.aload_n 0, 1) := dk_42 (dk_at dksX3_street_5 17 rfl rfl)
theorem dX3_street_133 : decode cX3_street 133 = .ok (.getfield 73, 3) := dk_180 0 73 (dk_at dksX3_street_5 18 rfl rfl)
theorem dX3_street_136 : decode cX3_street 136 = .ok (.aload_n 0, 1) := dk_42 (dk_at dksX3_street_5 21 rfl rfl)
theorem dX3_street_137 : decode cX3_street 137 = .ok (.getfield 55, 3) := dk_180 0 55 (dk_at dksX3_street_6 0 rfl rfl)
theorem dX3_street_140 : decode cX3_street 140 = .ok (.invokestatic 332, 3) := dk_184 1 76 (dk_at dksX3_street_6 3 rfl rfl)
theorem dX3_street_143 : decode cX3_street 143 = .ok (.aload_n 0, 1) := dk_42 (dk_at dksX3_street_6 6 rfl rfl)
theorem dX3_street_144 : decode cX3_street 144 = .ok (.getfield 58, 3) := dk_180 0 58 (dk_at dksX3_street_6 7 rfl rfl)
theorem dX3_street_147 : decode cX3_street 147 = .ok (.iconst 0, 1) := dk_3 (dk_at dksX3_street_6 10 rfl rfl)
theorem dX3_street_148 : decode cX3_street 148 = .ok (.aload_n 0, 1) := dk_42 (dk_at dksX3_street_6 11 rfl rfl)
theorem dX3_street_149 : decode cX3_street 149 = .ok (.getfield 61, 3) := dk_180 0 61 (dk_at dksX3_street_6 12 rfl rfl)
theorem dX3_street_152 : decode cX3_street 152 = .ok (.bipush 8, 2) := dk_16 8 (dk_at dksX3_street_6 15 rfl rfl)
theorem dX3_street_154 : decode cX3_street 154 = .ok (.iaload, 1) := dk_46 (dk_at dksX3_street_6 17 rfl rfl)
theorem dX3_street_155 : decode cX3_street 155 = .ok (.iastore, 1) := dk_79 (dk_at dksX3_street_6 18 rfl rfl)
theorem dX3_street_156 : decode cX3_street 156 = .ok (.aload_n 0, 1) := dk_42 (dk_at dksX3_street_6 19 rfl rfl)
theorem dX3_street_157 : decode cX3_street 157 = .ok (.invokevirtual 346, 3) := dk_182 1 90 (dk_at dksX3_street_6 20 rfl rfl)
theorem dX3_street_160 : decode cX3_street 160 = .ok (.aload_n 0, 1) := dk_42 (dk_at dksX3_street_6 23 rfl rfl)
theorem dX3_street_161 : decode cX3_street 161 = .ok (.iconst 0, 1) := dk_3 (dk_at dksX3_street_7 0 rfl rfl)
theorem dX3_street_162 : decode cX3_street 162 = .ok (.putfield 349, 3) := dk_181 1 93 (dk_at dksX3_street_7 1 rfl rfl)
theorem dX3_street_165 : decode cX3_street 165 = .ok (.aload_n 0, 1) := dk_42 (dk_at dksX3_street_7 4 rfl rfl)
theorem dX3_street_166 : decode cX3_street 166 = .ok (.getfield 9, 3) := dk_180 0 9 (dk_at dksX3_street_7 5 rfl rfl)
theorem dX3_street_169 : decode cX3_street 169 = .ok (.iconst 4, 1) := dk_7 (dk_at dksX3_street_7 8 rfl rfl)
theorem dX3_street_170 : decode cX3_street 170 = .ok (.iaload, 1) := dk_46 (dk_at dksX3_street_7 9 rfl rfl)
theorem dX3_street_171 : decode cX3_street 171 = .ok (.ireturn, 1) := dk_172 (dk_at dksX3_street_7 10 rfl rfl)
abbrev cX3_readsAll : ByteArray := prog_17_method_42_code
def yX3_readsAll : MethodName := ⟨RX3, "readsAll", "()V"⟩
def dkwX3_readsAll_3 : List UInt8 := [42, 3, 181, 0, 168, 177]
abbrev dktX3_readsAll_3 : List UInt8 := dkwX3_readsAll_3 ++ []
def dkwX3_readsAll_2 : List UInt8 := [3, 60, 4, 61, 28, 153, 0, 19, 42, 27, 182, 1, 70, 132, 1, 1, 42, 182, 1, 73, 61, 167, 255, 239]
abbrev dktX3_readsAll_2 : List UInt8 := dkwX3_readsAll_2 ++ dktX3_readsAll_3
def dkwX3_readsAll_1 : List UInt8 := [167, 255, 240, 3, 60, 27, 16, 16, 162, 0, 16, 42, 180, 0, 82, 27, 3, 79, 132, 1, 1, 167, 255, 240]
abbrev dktX3_readsAll_1 : List UInt8 := dkwX3_readsAll_1 ++ dktX3_readsAll_2
def dkwX3_readsAll_0 : List UInt8 := [42, 182, 1, 67, 3, 60, 27, 16, 9, 162, 0, 16, 42, 180, 0, 61, 27, 3, 79, 132, 1, 1]
abbrev dktX3_readsAll_0 : List UInt8 := dkwX3_readsAll_0 ++ dktX3_readsAll_1
theorem dksX3_readsAll_0 : cX3_readsAll.data.toList.drop 0 = dktX3_readsAll_0 := by decide +kernel
theorem dksX3_readsAll_1 : cX3_readsAll.data.toList.drop 22 = dktX3_readsAll_1 := dk_seg dksX3_readsAll_0 22 rfl rfl
theorem dksX3_readsAll_2 : cX3_readsAll.data.toList.drop 46 = dktX3_readsAll_2 := dk_seg dksX3_readsAll_1 24 rfl rfl
theorem dksX3_readsAll_3 : cX3_readsAll.data.toList.drop 70 = dktX3_readsAll_3 := dk_seg dksX3_readsAll_2 24 rfl rfl
theorem dX3_readsAll_0 : decode cX3_readsAll 0 = .ok (.aload_n 0, 1) := dk_42 (dk_at dksX3_readsAll_0 0 rfl rfl)
theorem dX3_readsAll_1 : decode cX3_readsAll 1 = .ok (.invokevirtual 323, 3) := dk_182 1 67 (dk_at dksX3_readsAll_0 1 rfl rfl)
theorem dX3_readsAll_4 : decode cX3_readsAll 4 = .ok (.iconst 0, 1) := dk_3 (dk_at dksX3_readsAll_0 4 rfl rfl)
theorem dX3_readsAll_5 : decode cX3_readsAll 5 = .ok (.istore_n 1, 1) := dk_60 (dk_at dksX3_readsAll_0 5 rfl rfl)
theorem dX3_readsAll_6 : decode cX3_readsAll 6 = .ok (.iload_n 1, 1) := dk_27 (dk_at dksX3_readsAll_0 6 rfl rfl)
theorem dX3_readsAll_7 : decode cX3_readsAll 7 = .ok (.bipush 9, 2) := dk_16 9 (dk_at dksX3_readsAll_0 7 rfl rfl)
theorem dX3_readsAll_9 : decode cX3_readsAll 9 = .ok (.if_icmp .ge 16, 3) := dk_162 0 16 (dk_at dksX3_readsAll_0 9 rfl rfl)
theorem dX3_readsAll_12 : decode cX3_readsAll 12 = .ok (.aload_n 0, 1) := dk_42 (dk_at dksX3_readsAll_0 12 rfl rfl)
theorem dX3_readsAll_13 : decode cX3_readsAll 13 = .ok (.getfield 61, 3) := dk_180 0 61 (dk_at dksX3_readsAll_0 13 rfl rfl)
theorem dX3_readsAll_16 : decode cX3_readsAll 16 = .ok (.iload_n 1, 1) := dk_27 (dk_at dksX3_readsAll_0 16 rfl rfl)
theorem dX3_readsAll_17 : decode cX3_readsAll 17 = .ok (.iconst 0, 1) := dk_3 (dk_at dksX3_readsAll_0 17 rfl rfl)
theorem dX3_readsAll_18 : decode cX3_readsAll 18 = .ok (.iastore, 1) := dk_79 (dk_at dksX3_readsAll_0 18 rfl rfl)
theorem dX3_readsAll_19 : decode cX3_readsAll 19 = .ok (.iinc 1 1, 3) := dk_132 1 1 (dk_at dksX3_readsAll_0 19 rfl rfl)
theorem dX3_readsAll_22 : decode cX3_readsAll 22 = .ok (.goto (-16), 3) := dk_167 255 240 (dk_at dksX3_readsAll_1 0 rfl rfl)
theorem dX3_readsAll_25 : decode cX3_readsAll 25 = .ok (.iconst 0, 1) := dk_3 (dk_at dksX3_readsAll_1 3 rfl rfl)
theorem dX3_readsAll_26 : decode cX3_readsAll 26 = .ok (.istore_n 1, 1) := dk_60 (dk_at dksX3_readsAll_1 4 rfl rfl)
theorem dX3_readsAll_27 : decode cX3_readsAll 27 = .ok (.iload_n 1, 1) := dk_27 (dk_at dksX3_readsAll_1 5 rfl rfl)
theorem dX3_readsAll_28 : decode cX3_readsAll 28 = .ok (.bipush 16, 2) := dk_16 16 (dk_at dksX3_readsAll_1 6 rfl rfl)
theorem dX3_readsAll_30 : decode cX3_readsAll 30 = .ok (.if_icmp .ge 16, 3) := dk_162 0 16 (dk_at dksX3_readsAll_1 8 rfl rfl)
theorem dX3_readsAll_33 : decode cX3_readsAll 33 = .ok (.aload_n 0, 1) := dk_42 (dk_at dksX3_readsAll_1 11 rfl rfl)
theorem dX3_readsAll_34 : decode cX3_readsAll 34 = .ok (.getfield 82, 3) := dk_180 0 82 (dk_at dksX3_readsAll_1 12 rfl rfl)
theorem dX3_readsAll_37 : decode cX3_readsAll 37 = .ok (.iload_n 1, 1) := dk_27 (dk_at dksX3_readsAll_1 15 rfl rfl)
theorem dX3_readsAll_38 : decode cX3_readsAll 38 = .ok (.iconst 0, 1) := dk_3 (dk_at dksX3_readsAll_1 16 rfl rfl)
theorem dX3_readsAll_39 : decode cX3_readsAll 39 = .ok (.iastore, 1) := dk_79 (dk_at dksX3_readsAll_1 17 rfl rfl)
theorem dX3_readsAll_40 : decode cX3_readsAll 40 = .ok (.iinc 1 1, 3) := dk_132 1 1 (dk_at dksX3_readsAll_1 18 rfl rfl)
theorem dX3_readsAll_43 : decode cX3_readsAll 43 = .ok (.goto (-16), 3) := dk_167 255 240 (dk_at dksX3_readsAll_1 21 rfl rfl)
theorem dX3_readsAll_46 : decode cX3_readsAll 46 = .ok (.iconst 0, 1) := dk_3 (dk_at dksX3_readsAll_2 0 rfl rfl)
theorem dX3_readsAll_47 : decode cX3_readsAll 47 = .ok (.istore_n 1, 1) := dk_60 (dk_at dksX3_readsAll_2 1 rfl rfl)
theorem dX3_readsAll_48 : decode cX3_readsAll 48 = .ok (.iconst 1, 1) := dk_4 (dk_at dksX3_readsAll_2 2 rfl rfl)
theorem dX3_readsAll_49 : decode cX3_readsAll 49 = .ok (.istore_n 2, 1) := dk_61 (dk_at dksX3_readsAll_2 3 rfl rfl)
theorem dX3_readsAll_50 : decode cX3_readsAll 50 = .ok (.iload_n 2, 1) := dk_28 (dk_at dksX3_readsAll_2 4 rfl rfl)
theorem dX3_readsAll_51 : decode cX3_readsAll 51 = .ok (.ifCond .eq 19, 3) := dk_153 0 19 (dk_at dksX3_readsAll_2 5 rfl rfl)
theorem dX3_readsAll_54 : decode cX3_readsAll 54 = .ok (.aload_n 0, 1) := dk_42 (dk_at dksX3_readsAll_2 8 rfl rfl)
theorem dX3_readsAll_55 : decode cX3_readsAll 55 = .ok (.iload_n 1, 1) := dk_27 (dk_at dksX3_readsAll_2 9 rfl rfl)
theorem dX3_readsAll_56 : decode cX3_readsAll 56 = .ok (.invokevirtual 326, 3) := dk_182 1 70 (dk_at dksX3_readsAll_2 10 rfl rfl)
theorem dX3_readsAll_59 : decode cX3_readsAll 59 = .ok (.iinc 1 1, 3) := dk_132 1 1 (dk_at dksX3_readsAll_2 13 rfl rfl)
theorem dX3_readsAll_62 : decode cX3_readsAll 62 = .ok (.aload_n 0, 1) := dk_42 (dk_at dksX3_readsAll_2 16 rfl rfl)
theorem dX3_readsAll_63 : decode cX3_readsAll 63 = .ok (.invokevirtual 329, 3) := dk_182 1 73 (dk_at dksX3_readsAll_2 17 rfl rfl)
theorem dX3_readsAll_66 : decode cX3_readsAll 66 = .ok (.istore_n 2, 1) := dk_61 (dk_at dksX3_readsAll_2 20 rfl rfl)
theorem dX3_readsAll_67 : decode cX3_readsAll 67 = .ok (.goto (-17), 3) := dk_167 255 239 (dk_at dksX3_readsAll_2 21 rfl rfl)
theorem dX3_readsAll_70 : decode cX3_readsAll 70 = .ok (.aload_n 0, 1) := dk_42 (dk_at dksX3_readsAll_3 0 rfl rfl)
theorem dX3_readsAll_71 : decode cX3_readsAll 71 = .ok (.iconst 0, 1) := dk_3 (dk_at dksX3_readsAll_3 1 rfl rfl)
theorem dX3_readsAll_72 : decode cX3_readsAll 72 = .ok (.putfield 168, 3) := dk_181 0 168 (dk_at dksX3_readsAll_3 2 rfl rfl)
theorem dX3_readsAll_75 : decode cX3_readsAll 75 = .ok (.return_, 1) := dk_177 (dk_at dksX3_readsAll_3 5 rfl rfl)
abbrev cX3_starts : ByteArray := prog_17_method_41_code
def yX3_starts : MethodName := ⟨RX3, "starts", "()V"⟩
def dkwX3_starts_1 : List UInt8 := [181, 0, 235, 177]
abbrev dktX3_starts_1 : List UInt8 := dkwX3_starts_1 ++ []
def dkwX3_starts_0 : List UInt8 := [42, 3, 181, 0, 202, 42, 3, 181, 0, 199, 42, 3, 181, 0, 232, 42, 3, 181, 1, 16, 42, 3]
abbrev dktX3_starts_0 : List UInt8 := dkwX3_starts_0 ++ dktX3_starts_1
theorem dksX3_starts_0 : cX3_starts.data.toList.drop 0 = dktX3_starts_0 := by decide +kernel
theorem dksX3_starts_1 : cX3_starts.data.toList.drop 22 = dktX3_starts_1 := dk_seg dksX3_starts_0 22 rfl rfl
theorem dX3_starts_0 : decode cX3_starts 0 = .ok (.aload_n 0, 1) := dk_42 (dk_at dksX3_starts_0 0 rfl rfl)
theorem dX3_starts_1 : decode cX3_starts 1 = .ok (.iconst 0, 1) := dk_3 (dk_at dksX3_starts_0 1 rfl rfl)
theorem dX3_starts_2 : decode cX3_starts 2 = .ok (.putfield 202, 3) := dk_181 0 202 (dk_at dksX3_starts_0 2 rfl rfl)
theorem dX3_starts_5 : decode cX3_starts 5 = .ok (.aload_n 0, 1) := dk_42 (dk_at dksX3_starts_0 5 rfl rfl)
theorem dX3_starts_6 : decode cX3_starts 6 = .ok (.iconst 0, 1) := dk_3 (dk_at dksX3_starts_0 6 rfl rfl)
theorem dX3_starts_7 : decode cX3_starts 7 = .ok (.putfield 199, 3) := dk_181 0 199 (dk_at dksX3_starts_0 7 rfl rfl)
theorem dX3_starts_10 : decode cX3_starts 10 = .ok (.aload_n 0, 1) := dk_42 (dk_at dksX3_starts_0 10 rfl rfl)
theorem dX3_starts_11 : decode cX3_starts 11 = .ok (.iconst 0, 1) := dk_3 (dk_at dksX3_starts_0 11 rfl rfl)
theorem dX3_starts_12 : decode cX3_starts 12 = .ok (.putfield 232, 3) := dk_181 0 232 (dk_at dksX3_starts_0 12 rfl rfl)
theorem dX3_starts_15 : decode cX3_starts 15 = .ok (.aload_n 0, 1) := dk_42 (dk_at dksX3_starts_0 15 rfl rfl)
theorem dX3_starts_16 : decode cX3_starts 16 = .ok (.iconst 0, 1) := dk_3 (dk_at dksX3_starts_0 16 rfl rfl)
theorem dX3_starts_17 : decode cX3_starts 17 = .ok (.putfield 272, 3) := dk_181 1 16 (dk_at dksX3_starts_0 17 rfl rfl)
theorem dX3_starts_20 : decode cX3_starts 20 = .ok (.aload_n 0, 1) := dk_42 (dk_at dksX3_starts_0 20 rfl rfl)
theorem dX3_starts_21 : decode cX3_starts 21 = .ok (.iconst 0, 1) := dk_3 (dk_at dksX3_starts_0 21 rfl rfl)
theorem dX3_starts_22 : decode cX3_starts 22 = .ok (.putfield 235, 3) := dk_181 0 235 (dk_at dksX3_starts_1 0 rfl rfl)
theorem dX3_starts_25 : decode cX3_starts 25 = .ok (.return_, 1) := dk_177 (dk_at dksX3_starts_1 3 rfl rfl)
abbrev cX3_streetClause : ByteArray := prog_17_method_38_code
def yX3_streetClause : MethodName := ⟨RX3, "streetClause", "(I)V"⟩
def dkwX3_streetClause_3 : List UInt8 := [184, 1, 57, 182, 0, 213, 96, 181, 0, 202, 42, 29, 182, 1, 64, 177]
abbrev dktX3_streetClause_3 : List UInt8 := dkwX3_streetClause_3 ++ []
def dkwX3_streetClause_2 : List UInt8 := [177, 42, 29, 27, 182, 1, 60, 153, 0, 10, 42, 7, 28, 182, 0, 238, 177, 42, 89, 180, 0, 202, 29]
abbrev dktX3_streetClause_2 : List UInt8 := dkwX3_streetClause_2 ++ dktX3_streetClause_3
def dkwX3_streetClause_1 : List UInt8 := [182, 0, 225, 154, 0, 9, 132, 3, 1, 167, 255, 236, 29, 16, 7, 160, 0, 10, 42, 3, 28, 182, 0, 238]
abbrev dktX3_streetClause_1 : List UInt8 := dkwX3_streetClause_1 ++ dktX3_streetClause_2
def dkwX3_streetClause_0 : List UInt8 := [42, 182, 0, 222, 42, 180, 0, 202, 61, 3, 62, 29, 16, 7, 162, 0, 20, 42, 29, 184, 1, 57]
abbrev dktX3_streetClause_0 : List UInt8 := dkwX3_streetClause_0 ++ dktX3_streetClause_1
theorem dksX3_streetClause_0 : cX3_streetClause.data.toList.drop 0 = dktX3_streetClause_0 := by decide +kernel
theorem dksX3_streetClause_1 : cX3_streetClause.data.toList.drop 22 = dktX3_streetClause_1 := dk_seg dksX3_streetClause_0 22 rfl rfl
theorem dksX3_streetClause_2 : cX3_streetClause.data.toList.drop 46 = dktX3_streetClause_2 := dk_seg dksX3_streetClause_1 24 rfl rfl
theorem dksX3_streetClause_3 : cX3_streetClause.data.toList.drop 69 = dktX3_streetClause_3 := dk_seg dksX3_streetClause_2 23 rfl rfl
theorem dX3_streetClause_0 : decode cX3_streetClause 0 = .ok (.aload_n 0, 1) := dk_42 (dk_at dksX3_streetClause_0 0 rfl rfl)
theorem dX3_streetClause_1 : decode cX3_streetClause 1 = .ok (.invokevirtual 222, 3) := dk_182 0 222 (dk_at dksX3_streetClause_0 1 rfl rfl)
theorem dX3_streetClause_4 : decode cX3_streetClause 4 = .ok (.aload_n 0, 1) := dk_42 (dk_at dksX3_streetClause_0 4 rfl rfl)
theorem dX3_streetClause_5 : decode cX3_streetClause 5 = .ok (.getfield 202, 3) := dk_180 0 202 (dk_at dksX3_streetClause_0 5 rfl rfl)
theorem dX3_streetClause_8 : decode cX3_streetClause 8 = .ok (.istore_n 2, 1) := dk_61 (dk_at dksX3_streetClause_0 8 rfl rfl)
theorem dX3_streetClause_9 : decode cX3_streetClause 9 = .ok (.iconst 0, 1) := dk_3 (dk_at dksX3_streetClause_0 9 rfl rfl)
theorem dX3_streetClause_10 : decode cX3_streetClause 10 = .ok (.istore_n 3, 1) := dk_62 (dk_at dksX3_streetClause_0 10 rfl rfl)
theorem dX3_streetClause_11 : decode cX3_streetClause 11 = .ok (.iload_n 3, 1) := dk_29 (dk_at dksX3_streetClause_0 11 rfl rfl)
theorem dX3_streetClause_12 : decode cX3_streetClause 12 = .ok (.bipush 7, 2) := dk_16 7 (dk_at dksX3_streetClause_0 12 rfl rfl)
theorem dX3_streetClause_14 : decode cX3_streetClause 14 = .ok (.if_icmp .ge 20, 3) := dk_162 0 20 (dk_at dksX3_streetClause_0 14 rfl rfl)
theorem dX3_streetClause_17 : decode cX3_streetClause 17 = .ok (.aload_n 0, 1) := dk_42 (dk_at dksX3_streetClause_0 17 rfl rfl)
theorem dX3_streetClause_18 : decode cX3_streetClause 18 = .ok (.iload_n 3, 1) := dk_29 (dk_at dksX3_streetClause_0 18 rfl rfl)
theorem dX3_streetClause_19 : decode cX3_streetClause 19 = .ok (.invokestatic 313, 3) := dk_184 1 57 (dk_at dksX3_streetClause_0 19 rfl rfl)
theorem dX3_streetClause_22 : decode cX3_streetClause 22 = .ok (.invokevirtual 225, 3) := dk_182 0 225 (dk_at dksX3_streetClause_1 0 rfl rfl)
theorem dX3_streetClause_25 : decode cX3_streetClause 25 = .ok (.ifCond .ne 9, 3) := dk_154 0 9 (dk_at dksX3_streetClause_1 3 rfl rfl)
theorem dX3_streetClause_28 : decode cX3_streetClause 28 = .ok (.iinc 3 1, 3) := dk_132 3 1 (dk_at dksX3_streetClause_1 6 rfl rfl)
theorem dX3_streetClause_31 : decode cX3_streetClause 31 = .ok (.goto (-20), 3) := dk_167 255 236 (dk_at dksX3_streetClause_1 9 rfl rfl)
theorem dX3_streetClause_34 : decode cX3_streetClause 34 = .ok (.iload_n 3, 1) := dk_29 (dk_at dksX3_streetClause_1 12 rfl rfl)
theorem dX3_streetClause_35 : decode cX3_streetClause 35 = .ok (.bipush 7, 2) := dk_16 7 (dk_at dksX3_streetClause_1 13 rfl rfl)
theorem dX3_streetClause_37 : decode cX3_streetClause 37 = .ok (.if_icmp .ne 10, 3) := dk_160 0 10 (dk_at dksX3_streetClause_1 15 rfl rfl)
theorem dX3_streetClause_40 : decode cX3_streetClause 40 = .ok (.aload_n 0, 1) := dk_42 (dk_at dksX3_streetClause_1 18 rfl rfl)
theorem dX3_streetClause_41 : decode cX3_streetClause 41 = .ok (.iconst 0, 1) := dk_3 (dk_at dksX3_streetClause_1 19 rfl rfl)
theorem dX3_streetClause_42 : decode cX3_streetClause 42 = .ok (.iload_n 2, 1) := dk_28 (dk_at dksX3_streetClause_1 20 rfl rfl)
theorem dX3_streetClause_43 : decode cX3_streetClause 43 = .ok (.invokevirtual 238, 3) := dk_182 0 238 (dk_at dksX3_streetClause_1 21 rfl rfl)
theorem dX3_streetClause_46 : decode cX3_streetClause 46 = .ok (.return_, 1) := dk_177 (dk_at dksX3_streetClause_2 0 rfl rfl)
theorem dX3_streetClause_47 : decode cX3_streetClause 47 = .ok (.aload_n 0, 1) := dk_42 (dk_at dksX3_streetClause_2 1 rfl rfl)
theorem dX3_streetClause_48 : decode cX3_streetClause 48 = .ok (.iload_n 3, 1) := dk_29 (dk_at dksX3_streetClause_2 2 rfl rfl)
theorem dX3_streetClause_49 : decode cX3_streetClause 49 = .ok (.iload_n 1, 1) := dk_27 (dk_at dksX3_streetClause_2 3 rfl rfl)
theorem dX3_streetClause_50 : decode cX3_streetClause 50 = .ok (.invokevirtual 316, 3) := dk_182 1 60 (dk_at dksX3_streetClause_2 4 rfl rfl)
theorem dX3_streetClause_53 : decode cX3_streetClause 53 = .ok (.ifCond .eq 10, 3) := dk_153 0 10 (dk_at dksX3_streetClause_2 7 rfl rfl)
theorem dX3_streetClause_56 : decode cX3_streetClause 56 = .ok (.aload_n 0, 1) := dk_42 (dk_at dksX3_streetClause_2 10 rfl rfl)
theorem dX3_streetClause_57 : decode cX3_streetClause 57 = .ok (.iconst 4, 1) := dk_7 (dk_at dksX3_streetClause_2 11 rfl rfl)
theorem dX3_streetClause_58 : decode cX3_streetClause 58 = .ok (.iload_n 2, 1) := dk_28 (dk_at dksX3_streetClause_2 12 rfl rfl)
theorem dX3_streetClause_59 : decode cX3_streetClause 59 = .ok (.invokevirtual 238, 3) := dk_182 0 238 (dk_at dksX3_streetClause_2 13 rfl rfl)
theorem dX3_streetClause_62 : decode cX3_streetClause 62 = .ok (.return_, 1) := dk_177 (dk_at dksX3_streetClause_2 16 rfl rfl)
theorem dX3_streetClause_63 : decode cX3_streetClause 63 = .ok (.aload_n 0, 1) := dk_42 (dk_at dksX3_streetClause_2 17 rfl rfl)
theorem dX3_streetClause_64 : decode cX3_streetClause 64 = .ok (.dup, 1) := dk_89 (dk_at dksX3_streetClause_2 18 rfl rfl)
theorem dX3_streetClause_65 : decode cX3_streetClause 65 = .ok (.getfield 202, 3) := dk_180 0 202 (dk_at dksX3_streetClause_2 19 rfl rfl)
theorem dX3_streetClause_68 : decode cX3_streetClause 68 = .ok (.iload_n 3, 1) := dk_29 (dk_at dksX3_streetClause_2 22 rfl rfl)
theorem dX3_streetClause_69 : decode cX3_streetClause 69 = .ok (.invokestatic 313, 3) := dk_184 1 57 (dk_at dksX3_streetClause_3 0 rfl rfl)
theorem dX3_streetClause_72 : decode cX3_streetClause 72 = .ok (.invokevirtual 213, 3) := dk_182 0 213 (dk_at dksX3_streetClause_3 3 rfl rfl)
theorem dX3_streetClause_75 : decode cX3_streetClause 75 = .ok (.iadd, 1) := dk_96 (dk_at dksX3_streetClause_3 6 rfl rfl)
theorem dX3_streetClause_76 : decode cX3_streetClause 76 = .ok (.putfield 202, 3) := dk_181 0 202 (dk_at dksX3_streetClause_3 7 rfl rfl)
theorem dX3_streetClause_79 : decode cX3_streetClause 79 = .ok (.aload_n 0, 1) := dk_42 (dk_at dksX3_streetClause_3 10 rfl rfl)
theorem dX3_streetClause_80 : decode cX3_streetClause 80 = .ok (.iload_n 3, 1) := dk_29 (dk_at dksX3_streetClause_3 11 rfl rfl)
theorem dX3_streetClause_81 : decode cX3_streetClause 81 = .ok (.invokevirtual 320, 3) := dk_182 1 64 (dk_at dksX3_streetClause_3 12 rfl rfl)
theorem dX3_streetClause_84 : decode cX3_streetClause 84 = .ok (.return_, 1) := dk_177 (dk_at dksX3_streetClause_3 15 rfl rfl)
abbrev cX3_blanks : ByteArray := prog_17_method_16_code
def yX3_blanks : MethodName := ⟨RX3, "blanks", "()V"⟩
def dkwX3_blanks_0 : List UInt8 := [42, 182, 0, 205, 16, 32, 160, 0, 16, 42, 89, 180, 0, 202, 4, 96, 181, 0, 202, 167, 255, 237, 177]
abbrev dktX3_blanks_0 : List UInt8 := dkwX3_blanks_0 ++ []
theorem dksX3_blanks_0 : cX3_blanks.data.toList.drop 0 = dktX3_blanks_0 := by decide +kernel
theorem dX3_blanks_0 : decode cX3_blanks 0 = .ok (.aload_n 0, 1) := dk_42 (dk_at dksX3_blanks_0 0 rfl rfl)
theorem dX3_blanks_1 : decode cX3_blanks 1 = .ok (.invokevirtual 205, 3) := dk_182 0 205 (dk_at dksX3_blanks_0 1 rfl rfl)
theorem dX3_blanks_4 : decode cX3_blanks 4 = .ok (.bipush 32, 2) := dk_16 32 (dk_at dksX3_blanks_0 4 rfl rfl)
theorem dX3_blanks_6 : decode cX3_blanks 6 = .ok (.if_icmp .ne 16, 3) := dk_160 0 16 (dk_at dksX3_blanks_0 6 rfl rfl)
theorem dX3_blanks_9 : decode cX3_blanks 9 = .ok (.aload_n 0, 1) := dk_42 (dk_at dksX3_blanks_0 9 rfl rfl)
theorem dX3_blanks_10 : decode cX3_blanks 10 = .ok (.dup, 1) := dk_89 (dk_at dksX3_blanks_0 10 rfl rfl)
theorem dX3_blanks_11 : decode cX3_blanks 11 = .ok (.getfield 202, 3) := dk_180 0 202 (dk_at dksX3_blanks_0 11 rfl rfl)
theorem dX3_blanks_14 : decode cX3_blanks 14 = .ok (.iconst 1, 1) := dk_4 (dk_at dksX3_blanks_0 14 rfl rfl)
theorem dX3_blanks_15 : decode cX3_blanks 15 = .ok (.iadd, 1) := dk_96 (dk_at dksX3_blanks_0 15 rfl rfl)
theorem dX3_blanks_16 : decode cX3_blanks 16 = .ok (.putfield 202, 3) := dk_181 0 202 (dk_at dksX3_blanks_0 16 rfl rfl)
theorem dX3_blanks_19 : decode cX3_blanks 19 = .ok (.goto (-19), 3) := dk_167 255 237 (dk_at dksX3_blanks_0 19 rfl rfl)
theorem dX3_blanks_22 : decode cX3_blanks 22 = .ok (.return_, 1) := dk_177 (dk_at dksX3_blanks_0 22 rfl rfl)
abbrev cX3_sign : ByteArray := prog_17_method_15_code
def yX3_sign : MethodName := ⟨RX3, "sign", "()I"⟩
def dkwX3_sign_1 : List UInt8 := [167, 0, 4, 2, 172]
abbrev dktX3_sign_1 : List UInt8 := dkwX3_sign_1 ++ []
def dkwX3_sign_0 : List UInt8 := [42, 180, 0, 202, 42, 180, 0, 168, 162, 0, 19, 42, 180, 0, 92, 42, 180, 0, 202, 51, 17, 0, 255, 126]
abbrev dktX3_sign_0 : List UInt8 := dkwX3_sign_0 ++ dktX3_sign_1
theorem dksX3_sign_0 : cX3_sign.data.toList.drop 0 = dktX3_sign_0 := by decide +kernel
theorem dksX3_sign_1 : cX3_sign.data.toList.drop 24 = dktX3_sign_1 := dk_seg dksX3_sign_0 24 rfl rfl
theorem dX3_sign_0 : decode cX3_sign 0 = .ok (.aload_n 0, 1) := dk_42 (dk_at dksX3_sign_0 0 rfl rfl)
theorem dX3_sign_1 : decode cX3_sign 1 = .ok (.getfield 202, 3) := dk_180 0 202 (dk_at dksX3_sign_0 1 rfl rfl)
theorem dX3_sign_4 : decode cX3_sign 4 = .ok (.aload_n 0, 1) := dk_42 (dk_at dksX3_sign_0 4 rfl rfl)
theorem dX3_sign_5 : decode cX3_sign 5 = .ok (.getfield 168, 3) := dk_180 0 168 (dk_at dksX3_sign_0 5 rfl rfl)
theorem dX3_sign_8 : decode cX3_sign 8 = .ok (.if_icmp .ge 19, 3) := dk_162 0 19 (dk_at dksX3_sign_0 8 rfl rfl)
theorem dX3_sign_11 : decode cX3_sign 11 = .ok (.aload_n 0, 1) := dk_42 (dk_at dksX3_sign_0 11 rfl rfl)
theorem dX3_sign_12 : decode cX3_sign 12 = .ok (.getfield 92, 3) := dk_180 0 92 (dk_at dksX3_sign_0 12 rfl rfl)
theorem dX3_sign_15 : decode cX3_sign 15 = .ok (.aload_n 0, 1) := dk_42 (dk_at dksX3_sign_0 15 rfl rfl)
theorem dX3_sign_16 : decode cX3_sign 16 = .ok (.getfield 202, 3) := dk_180 0 202 (dk_at dksX3_sign_0 16 rfl rfl)
theorem dX3_sign_19 : decode cX3_sign 19 = .ok (.baload, 1) := dk_51 (dk_at dksX3_sign_0 19 rfl rfl)
theorem dX3_sign_20 : decode cX3_sign 20 = .ok (.sipush 255, 3) := dk_17 0 255 (dk_at dksX3_sign_0 20 rfl rfl)
theorem dX3_sign_23 : decode cX3_sign 23 = .ok (.iand, 1) := dk_126 (dk_at dksX3_sign_0 23 rfl rfl)
theorem dX3_sign_24 : decode cX3_sign 24 = .ok (.goto 4, 3) := dk_167 0 4 (dk_at dksX3_sign_1 0 rfl rfl)
theorem dX3_sign_27 : decode cX3_sign 27 = .ok (.iconst (-1), 1) := dk_2 (dk_at dksX3_sign_1 3 rfl rfl)
theorem dX3_sign_28 : decode cX3_sign 28 = .ok (.ireturn, 1) := dk_172 (dk_at dksX3_sign_1 4 rfl rfl)
abbrev cX3_streetWord : ByteArray := prog_17_method_33_code
def yX3_streetWord : MethodName := ⟨RX3, "streetWord", "(I)Ljava/lang/String;"⟩
def dkwX3_streetWord_3 : List UInt8 := [176]
abbrev dktX3_streetWord_3 : List UInt8 := dkwX3_streetWord_3 ++ []
def dkwX3_streetWord_2 : List UInt8 := [19, 1, 39, 176, 18, 179, 176, 18, 175, 176, 19, 1, 41, 176, 19, 1, 43, 176, 18, 197, 176, 19, 1, 45]
abbrev dktX3_streetWord_2 : List UInt8 := dkwX3_streetWord_2 ++ dktX3_streetWord_3
def dkwX3_streetWord_1 : List UInt8 := [170, 0, 0, 0, 0, 0, 60, 0, 0, 0, 0, 0, 0, 0, 5, 0, 0, 0, 39, 0, 0, 0, 43, 0, 0, 0, 46, 0, 0, 0, 49, 0, 0, 0, 53, 0, 0, 0, 57]
abbrev dktX3_streetWord_1 : List UInt8 := dkwX3_streetWord_1 ++ dktX3_streetWord_2
def dkwX3_streetWord_0 : List UInt8 := [26]
abbrev dktX3_streetWord_0 : List UInt8 := dkwX3_streetWord_0 ++ dktX3_streetWord_1
theorem dksX3_streetWord_0 : cX3_streetWord.data.toList.drop 0 = dktX3_streetWord_0 := by decide +kernel
theorem dksX3_streetWord_1 : cX3_streetWord.data.toList.drop 1 = dktX3_streetWord_1 := dk_seg dksX3_streetWord_0 1 rfl rfl
theorem dksX3_streetWord_2 : cX3_streetWord.data.toList.drop 40 = dktX3_streetWord_2 := dk_seg dksX3_streetWord_1 39 rfl rfl
theorem dksX3_streetWord_3 : cX3_streetWord.data.toList.drop 64 = dktX3_streetWord_3 := dk_seg dksX3_streetWord_2 24 rfl rfl
theorem dX3_streetWord_0 : decode cX3_streetWord 0 = .ok (.iload_n 0, 1) := dk_26 (dk_at dksX3_streetWord_0 0 rfl rfl)
theorem dX3_streetWord_1 : decode cX3_streetWord 1 = .ok (.tableswitch 60 0 5 #[39, 43, 46, 49, 53, 57], 39) := by decide +kernel
theorem dX3_streetWord_40 : decode cX3_streetWord 40 = .ok (.ldc_w 295, 3) := dk_19 1 39 (dk_at dksX3_streetWord_2 0 rfl rfl)
theorem dX3_streetWord_43 : decode cX3_streetWord 43 = .ok (.areturn, 1) := dk_176 (dk_at dksX3_streetWord_2 3 rfl rfl)
theorem dX3_streetWord_44 : decode cX3_streetWord 44 = .ok (.ldc 179, 2) := dk_18 179 (dk_at dksX3_streetWord_2 4 rfl rfl)
theorem dX3_streetWord_46 : decode cX3_streetWord 46 = .ok (.areturn, 1) := dk_176 (dk_at dksX3_streetWord_2 6 rfl rfl)
theorem dX3_streetWord_47 : decode cX3_streetWord 47 = .ok (.ldc 175, 2) := dk_18 175 (dk_at dksX3_streetWord_2 7 rfl rfl)
theorem dX3_streetWord_49 : decode cX3_streetWord 49 = .ok (.areturn, 1) := dk_176 (dk_at dksX3_streetWord_2 9 rfl rfl)
theorem dX3_streetWord_50 : decode cX3_streetWord 50 = .ok (.ldc_w 297, 3) := dk_19 1 41 (dk_at dksX3_streetWord_2 10 rfl rfl)
theorem dX3_streetWord_53 : decode cX3_streetWord 53 = .ok (.areturn, 1) := dk_176 (dk_at dksX3_streetWord_2 13 rfl rfl)
theorem dX3_streetWord_54 : decode cX3_streetWord 54 = .ok (.ldc_w 299, 3) := dk_19 1 43 (dk_at dksX3_streetWord_2 14 rfl rfl)
theorem dX3_streetWord_57 : decode cX3_streetWord 57 = .ok (.areturn, 1) := dk_176 (dk_at dksX3_streetWord_2 17 rfl rfl)
theorem dX3_streetWord_58 : decode cX3_streetWord 58 = .ok (.ldc 197, 2) := dk_18 197 (dk_at dksX3_streetWord_2 18 rfl rfl)
theorem dX3_streetWord_60 : decode cX3_streetWord 60 = .ok (.areturn, 1) := dk_176 (dk_at dksX3_streetWord_2 20 rfl rfl)
theorem dX3_streetWord_61 : decode cX3_streetWord 61 = .ok (.ldc_w 301, 3) := dk_19 1 45 (dk_at dksX3_streetWord_2 21 rfl rfl)
theorem dX3_streetWord_64 : decode cX3_streetWord 64 = .ok (.areturn, 1) := dk_176 (dk_at dksX3_streetWord_3 0 rfl rfl)
abbrev cX3_stood : ByteArray := prog_17_method_18_code
def yX3_stood : MethodName := ⟨RX3, "stood", "(Ljava/lang/String;)Z"⟩
def dkwX3_stood_4 : List UInt8 := [160, 0, 7, 4, 167, 0, 4, 3, 62, 132, 4, 1, 167, 255, 213, 29, 172]
abbrev dktX3_stood_4 : List UInt8 := dkwX3_stood_4 ++ []
def dkwX3_stood_3 : List UInt8 := [29, 153, 0, 36, 42, 180, 0, 92, 42, 180, 0, 202, 21, 4, 96, 51, 43, 21, 4, 182, 0, 218]
abbrev dktX3_stood_3 : List UInt8 := dkwX3_stood_3 ++ dktX3_stood_4
def dkwX3_stood_2 : List UInt8 := [182, 0, 213, 160, 0, 7, 4, 167, 0, 4, 3, 62, 3, 54, 4, 21, 4, 43, 182, 0, 213, 162, 0, 40]
abbrev dktX3_stood_2 : List UInt8 := dkwX3_stood_2 ++ dktX3_stood_3
def dkwX3_stood_1 : List UInt8 := [42, 180, 0, 92, 28, 51, 16, 122, 163, 0, 9, 132, 2, 1, 167, 255, 223, 28, 42, 180, 0, 202, 100, 43]
abbrev dktX3_stood_1 : List UInt8 := dkwX3_stood_1 ++ dktX3_stood_2
def dkwX3_stood_0 : List UInt8 := [42, 180, 0, 202, 61, 28, 42, 180, 0, 168, 162, 0, 31, 42, 180, 0, 92, 28, 51, 16, 97, 161, 0, 20]
abbrev dktX3_stood_0 : List UInt8 := dkwX3_stood_0 ++ dktX3_stood_1
theorem dksX3_stood_0 : cX3_stood.data.toList.drop 0 = dktX3_stood_0 := by decide +kernel
theorem dksX3_stood_1 : cX3_stood.data.toList.drop 24 = dktX3_stood_1 := dk_seg dksX3_stood_0 24 rfl rfl
theorem dksX3_stood_2 : cX3_stood.data.toList.drop 48 = dktX3_stood_2 := dk_seg dksX3_stood_1 24 rfl rfl
theorem dksX3_stood_3 : cX3_stood.data.toList.drop 72 = dktX3_stood_3 := dk_seg dksX3_stood_2 24 rfl rfl
theorem dksX3_stood_4 : cX3_stood.data.toList.drop 94 = dktX3_stood_4 := dk_seg dksX3_stood_3 22 rfl rfl
theorem dX3_stood_0 : decode cX3_stood 0 = .ok (.aload_n 0, 1) := dk_42 (dk_at dksX3_stood_0 0 rfl rfl)
theorem dX3_stood_1 : decode cX3_stood 1 = .ok (.getfield 202, 3) := dk_180 0 202 (dk_at dksX3_stood_0 1 rfl rfl)
theorem dX3_stood_4 : decode cX3_stood 4 = .ok (.istore_n 2, 1) := dk_61 (dk_at dksX3_stood_0 4 rfl rfl)
theorem dX3_stood_5 : decode cX3_stood 5 = .ok (.iload_n 2, 1) := dk_28 (dk_at dksX3_stood_0 5 rfl rfl)
theorem dX3_stood_6 : decode cX3_stood 6 = .ok (.aload_n 0, 1) := dk_42 (dk_at dksX3_stood_0 6 rfl rfl)
theorem dX3_stood_7 : decode cX3_stood 7 = .ok (.getfield 168, 3) := dk_180 0 168 (dk_at dksX3_stood_0 7 rfl rfl)
theorem dX3_stood_10 : decode cX3_stood 10 = .ok (.if_icmp .ge 31, 3) := dk_162 0 31 (dk_at dksX3_stood_0 10 rfl rfl)
theorem dX3_stood_13 : decode cX3_stood 13 = .ok (.aload_n 0, 1) := dk_42 (dk_at dksX3_stood_0 13 rfl rfl)
theorem dX3_stood_14 : decode cX3_stood 14 = .ok (.getfield 92, 3) := dk_180 0 92 (dk_at dksX3_stood_0 14 rfl rfl)
theorem dX3_stood_17 : decode cX3_stood 17 = .ok (.iload_n 2, 1) := dk_28 (dk_at dksX3_stood_0 17 rfl rfl)
theorem dX3_stood_18 : decode cX3_stood 18 = .ok (.baload, 1) := dk_51 (dk_at dksX3_stood_0 18 rfl rfl)
theorem dX3_stood_19 : decode cX3_stood 19 = .ok (.bipush 97, 2) := dk_16 97 (dk_at dksX3_stood_0 19 rfl rfl)
theorem dX3_stood_21 : decode cX3_stood 21 = .ok (.if_icmp .lt 20, 3) := dk_161 0 20 (dk_at dksX3_stood_0 21 rfl rfl)
theorem dX3_stood_24 : decode cX3_stood 24 = .ok (.aload_n 0, 1) := dk_42 (dk_at dksX3_stood_1 0 rfl rfl)
theorem dX3_stood_25 : decode cX3_stood 25 = .ok (.getfield 92, 3) := dk_180 0 92 (dk_at dksX3_stood_1 1 rfl rfl)
theorem dX3_stood_28 : decode cX3_stood 28 = .ok (.iload_n 2, 1) := dk_28 (dk_at dksX3_stood_1 4 rfl rfl)
theorem dX3_stood_29 : decode cX3_stood 29 = .ok (.baload, 1) := dk_51 (dk_at dksX3_stood_1 5 rfl rfl)
theorem dX3_stood_30 : decode cX3_stood 30 = .ok (.bipush 122, 2) := dk_16 122 (dk_at dksX3_stood_1 6 rfl rfl)
theorem dX3_stood_32 : decode cX3_stood 32 = .ok (.if_icmp .gt 9, 3) := dk_163 0 9 (dk_at dksX3_stood_1 8 rfl rfl)
theorem dX3_stood_35 : decode cX3_stood 35 = .ok (.iinc 2 1, 3) := dk_132 2 1 (dk_at dksX3_stood_1 11 rfl rfl)
theorem dX3_stood_38 : decode cX3_stood 38 = .ok (.goto (-33), 3) := dk_167 255 223 (dk_at dksX3_stood_1 14 rfl rfl)
theorem dX3_stood_41 : decode cX3_stood 41 = .ok (.iload_n 2, 1) := dk_28 (dk_at dksX3_stood_1 17 rfl rfl)
theorem dX3_stood_42 : decode cX3_stood 42 = .ok (.aload_n 0, 1) := dk_42 (dk_at dksX3_stood_1 18 rfl rfl)
theorem dX3_stood_43 : decode cX3_stood 43 = .ok (.getfield 202, 3) := dk_180 0 202 (dk_at dksX3_stood_1 19 rfl rfl)
theorem dX3_stood_46 : decode cX3_stood 46 = .ok (.isub, 1) := dk_100 (dk_at dksX3_stood_1 22 rfl rfl)
theorem dX3_stood_47 : decode cX3_stood 47 = .ok (.aload_n 1, 1) := dk_43 (dk_at dksX3_stood_1 23 rfl rfl)
theorem dX3_stood_48 : decode cX3_stood 48 = .ok (.invokevirtual 213, 3) := dk_182 0 213 (dk_at dksX3_stood_2 0 rfl rfl)
theorem dX3_stood_51 : decode cX3_stood 51 = .ok (.if_icmp .ne 7, 3) := dk_160 0 7 (dk_at dksX3_stood_2 3 rfl rfl)
theorem dX3_stood_54 : decode cX3_stood 54 = .ok (.iconst 1, 1) := dk_4 (dk_at dksX3_stood_2 6 rfl rfl)
theorem dX3_stood_55 : decode cX3_stood 55 = .ok (.goto 4, 3) := dk_167 0 4 (dk_at dksX3_stood_2 7 rfl rfl)
theorem dX3_stood_58 : decode cX3_stood 58 = .ok (.iconst 0, 1) := dk_3 (dk_at dksX3_stood_2 10 rfl rfl)
theorem dX3_stood_59 : decode cX3_stood 59 = .ok (.istore_n 3, 1) := dk_62 (dk_at dksX3_stood_2 11 rfl rfl)
theorem dX3_stood_60 : decode cX3_stood 60 = .ok (.iconst 0, 1) := dk_3 (dk_at dksX3_stood_2 12 rfl rfl)
theorem dX3_stood_61 : decode cX3_stood 61 = .ok (.istore 4, 2) := dk_54 4 (dk_at dksX3_stood_2 13 rfl rfl)
theorem dX3_stood_63 : decode cX3_stood 63 = .ok (.iload 4, 2) := dk_21 4 (dk_at dksX3_stood_2 15 rfl rfl)
theorem dX3_stood_65 : decode cX3_stood 65 = .ok (.aload_n 1, 1) := dk_43 (dk_at dksX3_stood_2 17 rfl rfl)
theorem dX3_stood_66 : decode cX3_stood 66 = .ok (.invokevirtual 213, 3) := dk_182 0 213 (dk_at dksX3_stood_2 18 rfl rfl)
theorem dX3_stood_69 : decode cX3_stood 69 = .ok (.if_icmp .ge 40, 3) := dk_162 0 40 (dk_at dksX3_stood_2 21 rfl rfl)
theorem dX3_stood_72 : decode cX3_stood 72 = .ok (.iload_n 3, 1) := dk_29 (dk_at dksX3_stood_3 0 rfl rfl)
theorem dX3_stood_73 : decode cX3_stood 73 = .ok (.ifCond .eq 36, 3) := dk_153 0 36 (dk_at dksX3_stood_3 1 rfl rfl)
theorem dX3_stood_76 : decode cX3_stood 76 = .ok (.aload_n 0, 1) := dk_42 (dk_at dksX3_stood_3 4 rfl rfl)
theorem dX3_stood_77 : decode cX3_stood 77 = .ok (.getfield 92, 3) := dk_180 0 92 (dk_at dksX3_stood_3 5 rfl rfl)
theorem dX3_stood_80 : decode cX3_stood 80 = .ok (.aload_n 0, 1) := dk_42 (dk_at dksX3_stood_3 8 rfl rfl)
theorem dX3_stood_81 : decode cX3_stood 81 = .ok (.getfield 202, 3) := dk_180 0 202 (dk_at dksX3_stood_3 9 rfl rfl)
theorem dX3_stood_84 : decode cX3_stood 84 = .ok (.iload 4, 2) := dk_21 4 (dk_at dksX3_stood_3 12 rfl rfl)
theorem dX3_stood_86 : decode cX3_stood 86 = .ok (.iadd, 1) := dk_96 (dk_at dksX3_stood_3 14 rfl rfl)
theorem dX3_stood_87 : decode cX3_stood 87 = .ok (.baload, 1) := dk_51 (dk_at dksX3_stood_3 15 rfl rfl)
theorem dX3_stood_88 : decode cX3_stood 88 = .ok (.aload_n 1, 1) := dk_43 (dk_at dksX3_stood_3 16 rfl rfl)
theorem dX3_stood_89 : decode cX3_stood 89 = .ok (.iload 4, 2) := dk_21 4 (dk_at dksX3_stood_3 17 rfl rfl)
theorem dX3_stood_91 : decode cX3_stood 91 = .ok (.invokevirtual 218, 3) := dk_182 0 218 (dk_at dksX3_stood_3 19 rfl rfl)
theorem dX3_stood_94 : decode cX3_stood 94 = .ok (.if_icmp .ne 7, 3) := dk_160 0 7 (dk_at dksX3_stood_4 0 rfl rfl)
theorem dX3_stood_97 : decode cX3_stood 97 = .ok (.iconst 1, 1) := dk_4 (dk_at dksX3_stood_4 3 rfl rfl)
theorem dX3_stood_98 : decode cX3_stood 98 = .ok (.goto 4, 3) := dk_167 0 4 (dk_at dksX3_stood_4 4 rfl rfl)
theorem dX3_stood_101 : decode cX3_stood 101 = .ok (.iconst 0, 1) := dk_3 (dk_at dksX3_stood_4 7 rfl rfl)
theorem dX3_stood_102 : decode cX3_stood 102 = .ok (.istore_n 3, 1) := dk_62 (dk_at dksX3_stood_4 8 rfl rfl)
theorem dX3_stood_103 : decode cX3_stood 103 = .ok (.iinc 4 1, 3) := dk_132 4 1 (dk_at dksX3_stood_4 9 rfl rfl)
theorem dX3_stood_106 : decode cX3_stood 106 = .ok (.goto (-43), 3) := dk_167 255 213 (dk_at dksX3_stood_4 12 rfl rfl)
theorem dX3_stood_109 : decode cX3_stood 109 = .ok (.iload_n 3, 1) := dk_29 (dk_at dksX3_stood_4 15 rfl rfl)
theorem dX3_stood_110 : decode cX3_stood 110 = .ok (.ireturn, 1) := dk_172 (dk_at dksX3_stood_4 16 rfl rfl)
abbrev cX3_fails : ByteArray := prog_17_method_14_code
def yX3_fails : MethodName := ⟨RX3, "fails", "(II)V"⟩
def dkwX3_fails_1 : List UInt8 := [181, 0, 199, 177]
abbrev dktX3_fails_1 : List UInt8 := dkwX3_fails_1 ++ []
def dkwX3_fails_0 : List UInt8 := [42, 42, 180, 0, 199, 154, 0, 14, 4, 16, 8, 28, 104, 96, 27, 96, 167, 0, 7, 42, 180, 0, 199]
abbrev dktX3_fails_0 : List UInt8 := dkwX3_fails_0 ++ dktX3_fails_1
theorem dksX3_fails_0 : cX3_fails.data.toList.drop 0 = dktX3_fails_0 := by decide +kernel
theorem dksX3_fails_1 : cX3_fails.data.toList.drop 23 = dktX3_fails_1 := dk_seg dksX3_fails_0 23 rfl rfl
theorem dX3_fails_0 : decode cX3_fails 0 = .ok (.aload_n 0, 1) := dk_42 (dk_at dksX3_fails_0 0 rfl rfl)
theorem dX3_fails_1 : decode cX3_fails 1 = .ok (.aload_n 0, 1) := dk_42 (dk_at dksX3_fails_0 1 rfl rfl)
theorem dX3_fails_2 : decode cX3_fails 2 = .ok (.getfield 199, 3) := dk_180 0 199 (dk_at dksX3_fails_0 2 rfl rfl)
theorem dX3_fails_5 : decode cX3_fails 5 = .ok (.ifCond .ne 14, 3) := dk_154 0 14 (dk_at dksX3_fails_0 5 rfl rfl)
theorem dX3_fails_8 : decode cX3_fails 8 = .ok (.iconst 1, 1) := dk_4 (dk_at dksX3_fails_0 8 rfl rfl)
theorem dX3_fails_9 : decode cX3_fails 9 = .ok (.bipush 8, 2) := dk_16 8 (dk_at dksX3_fails_0 9 rfl rfl)
theorem dX3_fails_11 : decode cX3_fails 11 = .ok (.iload_n 2, 1) := dk_28 (dk_at dksX3_fails_0 11 rfl rfl)
theorem dX3_fails_12 : decode cX3_fails 12 = .ok (.imul, 1) := dk_104 (dk_at dksX3_fails_0 12 rfl rfl)
theorem dX3_fails_13 : decode cX3_fails 13 = .ok (.iadd, 1) := dk_96 (dk_at dksX3_fails_0 13 rfl rfl)
theorem dX3_fails_14 : decode cX3_fails 14 = .ok (.iload_n 1, 1) := dk_27 (dk_at dksX3_fails_0 14 rfl rfl)
theorem dX3_fails_15 : decode cX3_fails 15 = .ok (.iadd, 1) := dk_96 (dk_at dksX3_fails_0 15 rfl rfl)
theorem dX3_fails_16 : decode cX3_fails 16 = .ok (.goto 7, 3) := dk_167 0 7 (dk_at dksX3_fails_0 16 rfl rfl)
theorem dX3_fails_19 : decode cX3_fails 19 = .ok (.aload_n 0, 1) := dk_42 (dk_at dksX3_fails_0 19 rfl rfl)
theorem dX3_fails_20 : decode cX3_fails 20 = .ok (.getfield 199, 3) := dk_180 0 199 (dk_at dksX3_fails_0 20 rfl rfl)
theorem dX3_fails_23 : decode cX3_fails 23 = .ok (.putfield 199, 3) := dk_181 0 199 (dk_at dksX3_fails_1 0 rfl rfl)
theorem dX3_fails_26 : decode cX3_fails 26 = .ok (.return_, 1) := dk_177 (dk_at dksX3_fails_1 3 rfl rfl)
abbrev cX3_isFull : ByteArray := prog_17_method_37_code
def yX3_isFull : MethodName := ⟨RX3, "isFull", "(II)Z"⟩
def dkwX3_isFull_5 : List UInt8 := [3, 172, 42, 180, 0, 61, 16, 6, 46, 4, 160, 0, 7, 4, 167, 0, 4, 3, 172, 3, 172]
abbrev dktX3_isFull_5 : List UInt8 := dkwX3_isFull_5 ++ []
def dkwX3_isFull_4 : List UInt8 := [160, 0, 7, 4, 167, 0, 4, 3, 172, 42, 180, 0, 61, 16, 7, 46, 8, 160, 0, 7, 4, 167, 0, 4]
abbrev dktX3_isFull_4 : List UInt8 := dkwX3_isFull_4 ++ dktX3_isFull_5
def dkwX3_isFull_3 : List UInt8 := [42, 180, 0, 61, 6, 46, 7, 160, 0, 7, 4, 167, 0, 4, 3, 172, 42, 180, 0, 61, 8, 46, 7]
abbrev dktX3_isFull_3 : List UInt8 := dkwX3_isFull_3 ++ dktX3_isFull_4
def dkwX3_isFull_2 : List UInt8 := [170, 0, 0, 0, 0, 104, 0, 0, 0, 1, 0, 0, 0, 6, 0, 0, 0, 38, 0, 0, 0, 54, 0, 0, 0, 104, 0, 0, 0, 104, 0, 0, 0, 70, 0, 0, 0, 87]
abbrev dktX3_isFull_2 : List UInt8 := dkwX3_isFull_2 ++ dktX3_isFull_3
def dkwX3_isFull_1 : List UInt8 := [159, 0, 5, 4, 172, 27]
abbrev dktX3_isFull_1 : List UInt8 := dkwX3_isFull_1 ++ dktX3_isFull_2
def dkwX3_isFull_0 : List UInt8 := [28, 16, 40, 159, 0, 24, 27, 154, 0, 7, 4, 167, 0, 4, 3, 28, 154, 0, 7, 4, 167, 0, 4, 3]
abbrev dktX3_isFull_0 : List UInt8 := dkwX3_isFull_0 ++ dktX3_isFull_1
theorem dksX3_isFull_0 : cX3_isFull.data.toList.drop 0 = dktX3_isFull_0 := by decide +kernel
theorem dksX3_isFull_1 : cX3_isFull.data.toList.drop 24 = dktX3_isFull_1 := dk_seg dksX3_isFull_0 24 rfl rfl
theorem dksX3_isFull_2 : cX3_isFull.data.toList.drop 30 = dktX3_isFull_2 := dk_seg dksX3_isFull_1 6 rfl rfl
theorem dksX3_isFull_3 : cX3_isFull.data.toList.drop 68 = dktX3_isFull_3 := dk_seg dksX3_isFull_2 38 rfl rfl
theorem dksX3_isFull_4 : cX3_isFull.data.toList.drop 91 = dktX3_isFull_4 := dk_seg dksX3_isFull_3 23 rfl rfl
theorem dksX3_isFull_5 : cX3_isFull.data.toList.drop 115 = dktX3_isFull_5 := dk_seg dksX3_isFull_4 24 rfl rfl
theorem dX3_isFull_0 : decode cX3_isFull 0 = .ok (.iload_n 2, 1) := dk_28 (dk_at dksX3_isFull_0 0 rfl rfl)
theorem dX3_isFull_1 : decode cX3_isFull 1 = .ok (.bipush 40, 2) := dk_16 40 (dk_at dksX3_isFull_0 1 rfl rfl)
theorem dX3_isFull_3 : decode cX3_isFull 3 = .ok (.if_icmp .eq 24, 3) := dk_159 0 24 (dk_at dksX3_isFull_0 3 rfl rfl)
theorem dX3_isFull_6 : decode cX3_isFull 6 = .ok (.iload_n 1, 1) := dk_27 (dk_at dksX3_isFull_0 6 rfl rfl)
theorem dX3_isFull_7 : decode cX3_isFull 7 = .ok (.ifCond .ne 7, 3) := dk_154 0 7 (dk_at dksX3_isFull_0 7 rfl rfl)
theorem dX3_isFull_10 : decode cX3_isFull 10 = .ok (.iconst 1, 1) := dk_4 (dk_at dksX3_isFull_0 10 rfl rfl)
theorem dX3_isFull_11 : decode cX3_isFull 11 = .ok (.goto 4, 3) := dk_167 0 4 (dk_at dksX3_isFull_0 11 rfl rfl)
theorem dX3_isFull_14 : decode cX3_isFull 14 = .ok (.iconst 0, 1) := dk_3 (dk_at dksX3_isFull_0 14 rfl rfl)
theorem dX3_isFull_15 : decode cX3_isFull 15 = .ok (.iload_n 2, 1) := dk_28 (dk_at dksX3_isFull_0 15 rfl rfl)
theorem dX3_isFull_16 : decode cX3_isFull 16 = .ok (.ifCond .ne 7, 3) := dk_154 0 7 (dk_at dksX3_isFull_0 16 rfl rfl)
theorem dX3_isFull_19 : decode cX3_isFull 19 = .ok (.iconst 1, 1) := dk_4 (dk_at dksX3_isFull_0 19 rfl rfl)
theorem dX3_isFull_20 : decode cX3_isFull 20 = .ok (.goto 4, 3) := dk_167 0 4 (dk_at dksX3_isFull_0 20 rfl rfl)
theorem dX3_isFull_23 : decode cX3_isFull 23 = .ok (.iconst 0, 1) := dk_3 (dk_at dksX3_isFull_0 23 rfl rfl)
theorem dX3_isFull_24 : decode cX3_isFull 24 = .ok (.if_icmp .eq 5, 3) := dk_159 0 5 (dk_at dksX3_isFull_1 0 rfl rfl)
theorem dX3_isFull_27 : decode cX3_isFull 27 = .ok (.iconst 1, 1) := dk_4 (dk_at dksX3_isFull_1 3 rfl rfl)
theorem dX3_isFull_28 : decode cX3_isFull 28 = .ok (.ireturn, 1) := dk_172 (dk_at dksX3_isFull_1 4 rfl rfl)
theorem dX3_isFull_29 : decode cX3_isFull 29 = .ok (.iload_n 1, 1) := dk_27 (dk_at dksX3_isFull_1 5 rfl rfl)
theorem dX3_isFull_30 : decode cX3_isFull 30 = .ok (.tableswitch 104 1 6 #[38, 54, 104, 104, 70, 87], 38) := by decide +kernel
theorem dX3_isFull_68 : decode cX3_isFull 68 = .ok (.aload_n 0, 1) := dk_42 (dk_at dksX3_isFull_3 0 rfl rfl)
theorem dX3_isFull_69 : decode cX3_isFull 69 = .ok (.getfield 61, 3) := dk_180 0 61 (dk_at dksX3_isFull_3 1 rfl rfl)
theorem dX3_isFull_72 : decode cX3_isFull 72 = .ok (.iconst 3, 1) := dk_6 (dk_at dksX3_isFull_3 4 rfl rfl)
theorem dX3_isFull_73 : decode cX3_isFull 73 = .ok (.iaload, 1) := dk_46 (dk_at dksX3_isFull_3 5 rfl rfl)
theorem dX3_isFull_74 : decode cX3_isFull 74 = .ok (.iconst 4, 1) := dk_7 (dk_at dksX3_isFull_3 6 rfl rfl)
theorem dX3_isFull_75 : decode cX3_isFull 75 = .ok (.if_icmp .ne 7, 3) := dk_160 0 7 (dk_at dksX3_isFull_3 7 rfl rfl)
theorem dX3_isFull_78 : decode cX3_isFull 78 = .ok (.iconst 1, 1) := dk_4 (dk_at dksX3_isFull_3 10 rfl rfl)
theorem dX3_isFull_79 : decode cX3_isFull 79 = .ok (.goto 4, 3) := dk_167 0 4 (dk_at dksX3_isFull_3 11 rfl rfl)
theorem dX3_isFull_82 : decode cX3_isFull 82 = .ok (.iconst 0, 1) := dk_3 (dk_at dksX3_isFull_3 14 rfl rfl)
theorem dX3_isFull_83 : decode cX3_isFull 83 = .ok (.ireturn, 1) := dk_172 (dk_at dksX3_isFull_3 15 rfl rfl)
theorem dX3_isFull_84 : decode cX3_isFull 84 = .ok (.aload_n 0, 1) := dk_42 (dk_at dksX3_isFull_3 16 rfl rfl)
theorem dX3_isFull_85 : decode cX3_isFull 85 = .ok (.getfield 61, 3) := dk_180 0 61 (dk_at dksX3_isFull_3 17 rfl rfl)
theorem dX3_isFull_88 : decode cX3_isFull 88 = .ok (.iconst 5, 1) := dk_8 (dk_at dksX3_isFull_3 20 rfl rfl)
theorem dX3_isFull_89 : decode cX3_isFull 89 = .ok (.iaload, 1) := dk_46 (dk_at dksX3_isFull_3 21 rfl rfl)
theorem dX3_isFull_90 : decode cX3_isFull 90 = .ok (.iconst 4, 1) := dk_7 (dk_at dksX3_isFull_3 22 rfl rfl)
theorem dX3_isFull_91 : decode cX3_isFull 91 = .ok (.if_icmp .ne 7, 3) := dk_160 0 7 (dk_at dksX3_isFull_4 0 rfl rfl)
theorem dX3_isFull_94 : decode cX3_isFull 94 = .ok (.iconst 1, 1) := dk_4 (dk_at dksX3_isFull_4 3 rfl rfl)
theorem dX3_isFull_95 : decode cX3_isFull 95 = .ok (.goto 4, 3) := dk_167 0 4 (dk_at dksX3_isFull_4 4 rfl rfl)
theorem dX3_isFull_98 : decode cX3_isFull 98 = .ok (.iconst 0, 1) := dk_3 (dk_at dksX3_isFull_4 7 rfl rfl)
theorem dX3_isFull_99 : decode cX3_isFull 99 = .ok (.ireturn, 1) := dk_172 (dk_at dksX3_isFull_4 8 rfl rfl)
theorem dX3_isFull_100 : decode cX3_isFull 100 = .ok (.aload_n 0, 1) := dk_42 (dk_at dksX3_isFull_4 9 rfl rfl)
theorem dX3_isFull_101 : decode cX3_isFull 101 = .ok (.getfield 61, 3) := dk_180 0 61 (dk_at dksX3_isFull_4 10 rfl rfl)
theorem dX3_isFull_104 : decode cX3_isFull 104 = .ok (.bipush 7, 2) := dk_16 7 (dk_at dksX3_isFull_4 13 rfl rfl)
theorem dX3_isFull_106 : decode cX3_isFull 106 = .ok (.iaload, 1) := dk_46 (dk_at dksX3_isFull_4 15 rfl rfl)
theorem dX3_isFull_107 : decode cX3_isFull 107 = .ok (.iconst 5, 1) := dk_8 (dk_at dksX3_isFull_4 16 rfl rfl)
theorem dX3_isFull_108 : decode cX3_isFull 108 = .ok (.if_icmp .ne 7, 3) := dk_160 0 7 (dk_at dksX3_isFull_4 17 rfl rfl)
theorem dX3_isFull_111 : decode cX3_isFull 111 = .ok (.iconst 1, 1) := dk_4 (dk_at dksX3_isFull_4 20 rfl rfl)
theorem dX3_isFull_112 : decode cX3_isFull 112 = .ok (.goto 4, 3) := dk_167 0 4 (dk_at dksX3_isFull_4 21 rfl rfl)
theorem dX3_isFull_115 : decode cX3_isFull 115 = .ok (.iconst 0, 1) := dk_3 (dk_at dksX3_isFull_5 0 rfl rfl)
theorem dX3_isFull_116 : decode cX3_isFull 116 = .ok (.ireturn, 1) := dk_172 (dk_at dksX3_isFull_5 1 rfl rfl)
theorem dX3_isFull_117 : decode cX3_isFull 117 = .ok (.aload_n 0, 1) := dk_42 (dk_at dksX3_isFull_5 2 rfl rfl)
theorem dX3_isFull_118 : decode cX3_isFull 118 = .ok (.getfield 61, 3) := dk_180 0 61 (dk_at dksX3_isFull_5 3 rfl rfl)
theorem dX3_isFull_121 : decode cX3_isFull 121 = .ok (.bipush 6, 2) := dk_16 6 (dk_at dksX3_isFull_5 6 rfl rfl)
theorem dX3_isFull_123 : decode cX3_isFull 123 = .ok (.iaload, 1) := dk_46 (dk_at dksX3_isFull_5 8 rfl rfl)
theorem dX3_isFull_124 : decode cX3_isFull 124 = .ok (.iconst 1, 1) := dk_4 (dk_at dksX3_isFull_5 9 rfl rfl)
theorem dX3_isFull_125 : decode cX3_isFull 125 = .ok (.if_icmp .ne 7, 3) := dk_160 0 7 (dk_at dksX3_isFull_5 10 rfl rfl)
theorem dX3_isFull_128 : decode cX3_isFull 128 = .ok (.iconst 1, 1) := dk_4 (dk_at dksX3_isFull_5 13 rfl rfl)
theorem dX3_isFull_129 : decode cX3_isFull 129 = .ok (.goto 4, 3) := dk_167 0 4 (dk_at dksX3_isFull_5 14 rfl rfl)
theorem dX3_isFull_132 : decode cX3_isFull 132 = .ok (.iconst 0, 1) := dk_3 (dk_at dksX3_isFull_5 17 rfl rfl)
theorem dX3_isFull_133 : decode cX3_isFull 133 = .ok (.ireturn, 1) := dk_172 (dk_at dksX3_isFull_5 18 rfl rfl)
theorem dX3_isFull_134 : decode cX3_isFull 134 = .ok (.iconst 0, 1) := dk_3 (dk_at dksX3_isFull_5 19 rfl rfl)
theorem dX3_isFull_135 : decode cX3_isFull 135 = .ok (.ireturn, 1) := dk_172 (dk_at dksX3_isFull_5 20 rfl rfl)
abbrev cX3_streetPart : ByteArray := prog_17_method_36_code
def yX3_streetPart : MethodName := ⟨RX3, "streetPart", "(I)V"⟩
def dkwX3_streetPart_10 : List UInt8 := [16, 7, 92, 46, 4, 96, 79, 167, 0, 11, 42, 180, 0, 61, 16, 6, 4, 79, 177]
abbrev dktX3_streetPart_10 : List UInt8 := dkwX3_streetPart_10 ++ []
def dkwX3_streetPart_9 : List UInt8 := [79, 42, 180, 0, 79, 28, 42, 42, 180, 0, 76, 28, 46, 17, 0, 199, 182, 1, 47, 79, 42, 180, 0, 61]
abbrev dktX3_streetPart_9 : List UInt8 := dkwX3_streetPart_9 ++ dktX3_streetPart_10
def dkwX3_streetPart_8 : List UInt8 := [167, 0, 66, 42, 180, 0, 61, 16, 7, 46, 61, 42, 180, 0, 76, 28, 42, 3, 17, 0, 199, 182, 1, 47]
abbrev dktX3_streetPart_8 : List UInt8 := dkwX3_streetPart_8 ++ dktX3_streetPart_9
def dkwX3_streetPart_7 : List UInt8 := [42, 180, 0, 61, 16, 8, 92, 46, 42, 180, 0, 199, 154, 0, 9, 4, 28, 120, 167, 0, 4, 3, 128, 79]
abbrev dktX3_streetPart_7 : List UInt8 := dkwX3_streetPart_7 ++ dktX3_streetPart_8
def dkwX3_streetPart_6 : List UInt8 := [167, 0, 114, 42, 182, 1, 54, 167, 0, 107, 42, 3, 42, 180, 0, 61, 6, 46, 4, 100, 182, 1, 47, 61]
abbrev dktX3_streetPart_6 : List UInt8 := dkwX3_streetPart_6 ++ dktX3_streetPart_7
def dkwX3_streetPart_5 : List UInt8 := [180, 0, 73, 28, 42, 3, 16, 99, 182, 1, 47, 79, 42, 180, 0, 61, 8, 92, 46, 4, 96, 79]
abbrev dktX3_streetPart_5 : List UInt8 := dkwX3_streetPart_5 ++ dktX3_streetPart_6
def dkwX3_streetPart_4 : List UInt8 := [167, 0, 160, 42, 180, 0, 61, 8, 46, 61, 42, 180, 0, 70, 28, 42, 3, 16, 8, 182, 1, 47, 79, 42]
abbrev dktX3_streetPart_4 : List UInt8 := dkwX3_streetPart_4 ++ dktX3_streetPart_5
def dkwX3_streetPart_3 : List UInt8 := [182, 1, 47, 79, 42, 180, 0, 61, 5, 42, 3, 16, 9, 182, 1, 47, 79, 167, 0, 167, 42, 182, 1, 51]
abbrev dktX3_streetPart_3 : List UInt8 := dkwX3_streetPart_3 ++ dktX3_streetPart_4
def dkwX3_streetPart_2 : List UInt8 := [42, 180, 0, 61, 3, 42, 4, 16, 9, 182, 1, 47, 79, 42, 180, 0, 61, 4, 42, 4, 16, 100]
abbrev dktX3_streetPart_2 : List UInt8 := dkwX3_streetPart_2 ++ dktX3_streetPart_3
def dkwX3_streetPart_1 : List UInt8 := [170, 0, 0, 0, 0, 0, 237, 0, 0, 0, 0, 0, 0, 0, 5, 0, 0, 0, 39, 0, 0, 0, 81, 0, 0, 0, 88, 0, 0, 0, 134, 0, 0, 0, 141, 0, 0, 0, 182]
abbrev dktX3_streetPart_1 : List UInt8 := dkwX3_streetPart_1 ++ dktX3_streetPart_2
def dkwX3_streetPart_0 : List UInt8 := [27]
abbrev dktX3_streetPart_0 : List UInt8 := dkwX3_streetPart_0 ++ dktX3_streetPart_1
theorem dksX3_streetPart_0 : cX3_streetPart.data.toList.drop 0 = dktX3_streetPart_0 := by decide +kernel
theorem dksX3_streetPart_1 : cX3_streetPart.data.toList.drop 1 = dktX3_streetPart_1 := dk_seg dksX3_streetPart_0 1 rfl rfl
theorem dksX3_streetPart_2 : cX3_streetPart.data.toList.drop 40 = dktX3_streetPart_2 := dk_seg dksX3_streetPart_1 39 rfl rfl
theorem dksX3_streetPart_3 : cX3_streetPart.data.toList.drop 62 = dktX3_streetPart_3 := dk_seg dksX3_streetPart_2 22 rfl rfl
theorem dksX3_streetPart_4 : cX3_streetPart.data.toList.drop 86 = dktX3_streetPart_4 := dk_seg dksX3_streetPart_3 24 rfl rfl
theorem dksX3_streetPart_5 : cX3_streetPart.data.toList.drop 110 = dktX3_streetPart_5 := dk_seg dksX3_streetPart_4 24 rfl rfl
theorem dksX3_streetPart_6 : cX3_streetPart.data.toList.drop 132 = dktX3_streetPart_6 := dk_seg dksX3_streetPart_5 22 rfl rfl
theorem dksX3_streetPart_7 : cX3_streetPart.data.toList.drop 156 = dktX3_streetPart_7 := dk_seg dksX3_streetPart_6 24 rfl rfl
theorem dksX3_streetPart_8 : cX3_streetPart.data.toList.drop 180 = dktX3_streetPart_8 := dk_seg dksX3_streetPart_7 24 rfl rfl
theorem dksX3_streetPart_9 : cX3_streetPart.data.toList.drop 204 = dktX3_streetPart_9 := dk_seg dksX3_streetPart_8 24 rfl rfl
theorem dksX3_streetPart_10 : cX3_streetPart.data.toList.drop 228 = dktX3_streetPart_10 := dk_seg dksX3_streetPart_9 24 rfl rfl
theorem dX3_streetPart_0 : decode cX3_streetPart 0 = .ok (.iload_n 1, 1) := dk_27 (dk_at dksX3_streetPart_0 0 rfl rfl)
theorem dX3_streetPart_1 : decode cX3_streetPart 1 = .ok (.tableswitch 237 0 5 #[39, 81, 88, 134, 141, 182], 39) := by decide +kernel
theorem dX3_streetPart_40 : decode cX3_streetPart 40 = .ok (.aload_n 0, 1) := dk_42 (dk_at dksX3_streetPart_2 0 rfl rfl)
theorem dX3_streetPart_41 : decode cX3_streetPart 41 = .ok (.getfield 61, 3) := dk_180 0 61 (dk_at dksX3_streetPart_2 1 rfl rfl)
theorem dX3_streetPart_44 : decode cX3_streetPart 44 = .ok (.iconst 0, 1) := dk_3 (dk_at dksX3_streetPart_2 4 rfl rfl)
theorem dX3_streetPart_45 : decode cX3_streetPart 45 = .ok (.aload_n 0, 1) := dk_42 (dk_at dksX3_streetPart_2 5 rfl rfl)
theorem dX3_streetPart_46 : decode cX3_streetPart 46 = .ok (.iconst 1, 1) := dk_4 (dk_at dksX3_streetPart_2 6 rfl rfl)
theorem dX3_streetPart_47 : decode cX3_streetPart 47 = .ok (.bipush 9, 2) := dk_16 9 (dk_at dksX3_streetPart_2 7 rfl rfl)
theorem dX3_streetPart_49 : decode cX3_streetPart 49 = .ok (.invokevirtual 303, 3) := dk_182 1 47 (dk_at dksX3_streetPart_2 9 rfl rfl)
theorem dX3_streetPart_52 : decode cX3_streetPart 52 = .ok (.iastore, 1) := dk_79 (dk_at dksX3_streetPart_2 12 rfl rfl)
theorem dX3_streetPart_53 : decode cX3_streetPart 53 = .ok (.aload_n 0, 1) := dk_42 (dk_at dksX3_streetPart_2 13 rfl rfl)
theorem dX3_streetPart_54 : decode cX3_streetPart 54 = .ok (.getfield 61, 3) := dk_180 0 61 (dk_at dksX3_streetPart_2 14 rfl rfl)
theorem dX3_streetPart_57 : decode cX3_streetPart 57 = .ok (.iconst 1, 1) := dk_4 (dk_at dksX3_streetPart_2 17 rfl rfl)
theorem dX3_streetPart_58 : decode cX3_streetPart 58 = .ok (.aload_n 0, 1) := dk_42 (dk_at dksX3_streetPart_2 18 rfl rfl)
theorem dX3_streetPart_59 : decode cX3_streetPart 59 = .ok (.iconst 1, 1) := dk_4 (dk_at dksX3_streetPart_2 19 rfl rfl)
theorem dX3_streetPart_60 : decode cX3_streetPart 60 = .ok (.bipush 100, 2) := dk_16 100 (dk_at dksX3_streetPart_2 20 rfl rfl)
theorem dX3_streetPart_62 : decode cX3_streetPart 62 = .ok (.invokevirtual 303, 3) := dk_182 1 47 (dk_at dksX3_streetPart_3 0 rfl rfl)
theorem dX3_streetPart_65 : decode cX3_streetPart 65 = .ok (.iastore, 1) := dk_79 (dk_at dksX3_streetPart_3 3 rfl rfl)
theorem dX3_streetPart_66 : decode cX3_streetPart 66 = .ok (.aload_n 0, 1) := dk_42 (dk_at dksX3_streetPart_3 4 rfl rfl)
theorem dX3_streetPart_67 : decode cX3_streetPart 67 = .ok (.getfield 61, 3) := dk_180 0 61 (dk_at dksX3_streetPart_3 5 rfl rfl)
theorem dX3_streetPart_70 : decode cX3_streetPart 70 = .ok (.iconst 2, 1) := dk_5 (dk_at dksX3_streetPart_3 8 rfl rfl)
theorem dX3_streetPart_71 : decode cX3_streetPart 71 = .ok (.aload_n 0, 1) := dk_42 (dk_at dksX3_streetPart_3 9 rfl rfl)
theorem dX3_streetPart_72 : decode cX3_streetPart 72 = .ok (.iconst 0, 1) := dk_3 (dk_at dksX3_streetPart_3 10 rfl rfl)
theorem dX3_streetPart_73 : decode cX3_streetPart 73 = .ok (.bipush 9, 2) := dk_16 9 (dk_at dksX3_streetPart_3 11 rfl rfl)
theorem dX3_streetPart_75 : decode cX3_streetPart 75 = .ok (.invokevirtual 303, 3) := dk_182 1 47 (dk_at dksX3_streetPart_3 13 rfl rfl)
theorem dX3_streetPart_78 : decode cX3_streetPart 78 = .ok (.iastore, 1) := dk_79 (dk_at dksX3_streetPart_3 16 rfl rfl)
theorem dX3_streetPart_79 : decode cX3_streetPart 79 = .ok (.goto 167, 3) := dk_167 0 167 (dk_at dksX3_streetPart_3 17 rfl rfl)
theorem dX3_streetPart_82 : decode cX3_streetPart 82 = .ok (.aload_n 0, 1) := dk_42 (dk_at dksX3_streetPart_3 20 rfl rfl)
theorem dX3_streetPart_83 : decode cX3_streetPart 83 = .ok (.invokevirtual 307, 3) := dk_182 1 51 (dk_at dksX3_streetPart_3 21 rfl rfl)
theorem dX3_streetPart_86 : decode cX3_streetPart 86 = .ok (.goto 160, 3) := dk_167 0 160 (dk_at dksX3_streetPart_4 0 rfl rfl)
theorem dX3_streetPart_89 : decode cX3_streetPart 89 = .ok (.aload_n 0, 1) := dk_42 (dk_at dksX3_streetPart_4 3 rfl rfl)
theorem dX3_streetPart_90 : decode cX3_streetPart 90 = .ok (.getfield 61, 3) := dk_180 0 61 (dk_at dksX3_streetPart_4 4 rfl rfl)
theorem dX3_streetPart_93 : decode cX3_streetPart 93 = .ok (.iconst 5, 1) := dk_8 (dk_at dksX3_streetPart_4 7 rfl rfl)
theorem dX3_streetPart_94 : decode cX3_streetPart 94 = .ok (.iaload, 1) := dk_46 (dk_at dksX3_streetPart_4 8 rfl rfl)
theorem dX3_streetPart_95 : decode cX3_streetPart 95 = .ok (.istore_n 2, 1) := dk_61 (dk_at dksX3_streetPart_4 9 rfl rfl)
theorem dX3_streetPart_96 : decode cX3_streetPart 96 = .ok (.aload_n 0, 1) := dk_42 (dk_at dksX3_streetPart_4 10 rfl rfl)
theorem dX3_streetPart_97 : decode cX3_streetPart 97 = .ok (.getfield 70, 3) := dk_180 0 70 (dk_at dksX3_streetPart_4 11 rfl rfl)
theorem dX3_streetPart_100 : decode cX3_streetPart 100 = .ok (.iload_n 2, 1) := dk_28 (dk_at dksX3_streetPart_4 14 rfl rfl)
theorem dX3_streetPart_101 : decode cX3_streetPart 101 = .ok (.aload_n 0, 1) := dk_42 (dk_at dksX3_streetPart_4 15 rfl rfl)
theorem dX3_streetPart_102 : decode cX3_streetPart 102 = .ok (.iconst 0, 1) := dk_3 (dk_at dksX3_streetPart_4 16 rfl rfl)
theorem dX3_streetPart_103 : decode cX3_streetPart 103 = .ok (.bipush 8, 2) := dk_16 8 (dk_at dksX3_streetPart_4 17 rfl rfl)
theorem dX3_streetPart_105 : decode cX3_streetPart 105 = .ok (.invokevirtual 303, 3) := dk_182 1 47 (dk_at dksX3_streetPart_4 19 rfl rfl)
theorem dX3_streetPart_108 : decode cX3_streetPart 108 = .ok (.iastore, 1) := dk_79 (dk_at dksX3_streetPart_4 22 rfl rfl)
theorem dX3_streetPart_109 : decode cX3_streetPart 109 = .ok (.aload_n 0, 1) := dk_42 (dk_at dksX3_streetPart_4 23 rfl rfl)
theorem dX3_streetPart_110 : decode cX3_streetPart 110 = .ok (.getfield 73, 3) := dk_180 0 73 (dk_at dksX3_streetPart_5 0 rfl rfl)
theorem dX3_streetPart_113 : decode cX3_streetPart 113 = .ok (.iload_n 2, 1) := dk_28 (dk_at dksX3_streetPart_5 3 rfl rfl)
theorem dX3_streetPart_114 : decode cX3_streetPart 114 = .ok (.aload_n 0, 1) := dk_42 (dk_at dksX3_streetPart_5 4 rfl rfl)
theorem dX3_streetPart_115 : decode cX3_streetPart 115 = .ok (.iconst 0, 1) := dk_3 (dk_at dksX3_streetPart_5 5 rfl rfl)
theorem dX3_streetPart_116 : decode cX3_streetPart 116 = .ok (.bipush 99, 2) := dk_16 99 (dk_at dksX3_streetPart_5 6 rfl rfl)
theorem dX3_streetPart_118 : decode cX3_streetPart 118 = .ok (.invokevirtual 303, 3) := dk_182 1 47 (dk_at dksX3_streetPart_5 8 rfl rfl)
theorem dX3_streetPart_121 : decode cX3_streetPart 121 = .ok (.iastore, 1) := dk_79 (dk_at dksX3_streetPart_5 11 rfl rfl)
theorem dX3_streetPart_122 : decode cX3_streetPart 122 = .ok (.aload_n 0, 1) := dk_42 (dk_at dksX3_streetPart_5 12 rfl rfl)
theorem dX3_streetPart_123 : decode cX3_streetPart 123 = .ok (.getfield 61, 3) := dk_180 0 61 (dk_at dksX3_streetPart_5 13 rfl rfl)
theorem dX3_streetPart_126 : decode cX3_streetPart 126 = .ok (.iconst 5, 1) := dk_8 (dk_at dksX3_streetPart_5 16 rfl rfl)
theorem dX3_streetPart_127 : decode cX3_streetPart 127 = .ok (.dup2, 1) := dk_92 (dk_at dksX3_streetPart_5 17 rfl rfl)
theorem dX3_streetPart_128 : decode cX3_streetPart 128 = .ok (.iaload, 1) := dk_46 (dk_at dksX3_streetPart_5 18 rfl rfl)
theorem dX3_streetPart_129 : decode cX3_streetPart 129 = .ok (.iconst 1, 1) := dk_4 (dk_at dksX3_streetPart_5 19 rfl rfl)
theorem dX3_streetPart_130 : decode cX3_streetPart 130 = .ok (.iadd, 1) := dk_96 (dk_at dksX3_streetPart_5 20 rfl rfl)
theorem dX3_streetPart_131 : decode cX3_streetPart 131 = .ok (.iastore, 1) := dk_79 (dk_at dksX3_streetPart_5 21 rfl rfl)
theorem dX3_streetPart_132 : decode cX3_streetPart 132 = .ok (.goto 114, 3) := dk_167 0 114 (dk_at dksX3_streetPart_6 0 rfl rfl)
theorem dX3_streetPart_135 : decode cX3_streetPart 135 = .ok (.aload_n 0, 1) := dk_42 (dk_at dksX3_streetPart_6 3 rfl rfl)
theorem dX3_streetPart_136 : decode cX3_streetPart 136 = .ok (.invokevirtual 310, 3) := dk_182 1 54 (dk_at dksX3_streetPart_6 4 rfl rfl)
theorem dX3_streetPart_139 : decode cX3_streetPart 139 = .ok (.goto 107, 3) := dk_167 0 107 (dk_at dksX3_streetPart_6 7 rfl rfl)
theorem dX3_streetPart_142 : decode cX3_streetPart 142 = .ok (.aload_n 0, 1) := dk_42 (dk_at dksX3_streetPart_6 10 rfl rfl)
theorem dX3_streetPart_143 : decode cX3_streetPart 143 = .ok (.iconst 0, 1) := dk_3 (dk_at dksX3_streetPart_6 11 rfl rfl)
theorem dX3_streetPart_144 : decode cX3_streetPart 144 = .ok (.aload_n 0, 1) := dk_42 (dk_at dksX3_streetPart_6 12 rfl rfl)
theorem dX3_streetPart_145 : decode cX3_streetPart 145 = .ok (.getfield 61, 3) := dk_180 0 61 (dk_at dksX3_streetPart_6 13 rfl rfl)
theorem dX3_streetPart_148 : decode cX3_streetPart 148 = .ok (.iconst 3, 1) := dk_6 (dk_at dksX3_streetPart_6 16 rfl rfl)
theorem dX3_streetPart_149 : decode cX3_streetPart 149 = .ok (.iaload, 1) := dk_46 (dk_at dksX3_streetPart_6 17 rfl rfl)
theorem dX3_streetPart_150 : decode cX3_streetPart 150 = .ok (.iconst 1, 1) := dk_4 (dk_at dksX3_streetPart_6 18 rfl rfl)
theorem dX3_streetPart_151 : decode cX3_streetPart 151 = .ok (.isub, 1) := dk_100 (dk_at dksX3_streetPart_6 19 rfl rfl)
theorem dX3_streetPart_152 : decode cX3_streetPart 152 = .ok (.invokevirtual 303, 3) := dk_182 1 47 (dk_at dksX3_streetPart_6 20 rfl rfl)
theorem dX3_streetPart_155 : decode cX3_streetPart 155 = .ok (.istore_n 2, 1) := dk_61 (dk_at dksX3_streetPart_6 23 rfl rfl)
theorem dX3_streetPart_156 : decode cX3_streetPart 156 = .ok (.aload_n 0, 1) := dk_42 (dk_at dksX3_streetPart_7 0 rfl rfl)
theorem dX3_streetPart_157 : decode cX3_streetPart 157 = .ok (.getfield 61, 3) := dk_180 0 61 (dk_at dksX3_streetPart_7 1 rfl rfl)
theorem dX3_streetPart_160 : decode cX3_streetPart 160 = .ok (.bipush 8, 2) := dk_16 8 (dk_at dksX3_streetPart_7 4 rfl rfl)
theorem dX3_streetPart_162 : decode cX3_streetPart 162 = .ok (.dup2, 1) := dk_92 (dk_at dksX3_streetPart_7 6 rfl rfl)
theorem dX3_streetPart_163 : decode cX3_streetPart 163 = .ok (.iaload, 1) := dk_46 (dk_at dksX3_streetPart_7 7 rfl rfl)
theorem dX3_streetPart_164 : decode cX3_streetPart 164 = .ok (.aload_n 0, 1) := dk_42 (dk_at dksX3_streetPart_7 8 rfl rfl)
theorem dX3_streetPart_165 : decode cX3_streetPart 165 = .ok (.getfield 199, 3) := dk_180 0 199 (dk_at dksX3_streetPart_7 9 rfl rfl)
theorem dX3_streetPart_168 : decode cX3_streetPart 168 = .ok (.ifCond .ne 9, 3) := dk_154 0 9 (dk_at dksX3_streetPart_7 12 rfl rfl)
theorem dX3_streetPart_171 : decode cX3_streetPart 171 = .ok (.iconst 1, 1) := dk_4 (dk_at dksX3_streetPart_7 15 rfl rfl)
theorem dX3_streetPart_172 : decode cX3_streetPart 172 = .ok (.iload_n 2, 1) := dk_28 (dk_at dksX3_streetPart_7 16 rfl rfl)
theorem dX3_streetPart_173 : decode cX3_streetPart 173 = .ok (.ishl, 1) := dk_120 (dk_at dksX3_streetPart_7 17 rfl rfl)
theorem dX3_streetPart_174 : decode cX3_streetPart 174 = .ok (.goto 4, 3) := dk_167 0 4 (dk_at dksX3_streetPart_7 18 rfl rfl)
theorem dX3_streetPart_177 : decode cX3_streetPart 177 = .ok (.iconst 0, 1) := dk_3 (dk_at dksX3_streetPart_7 21 rfl rfl)
theorem dX3_streetPart_178 : decode cX3_streetPart 178 = .ok (.ior, 1) := dk_128 (dk_at dksX3_streetPart_7 22 rfl rfl)
theorem dX3_streetPart_179 : decode cX3_streetPart 179 = .ok (.iastore, 1) := dk_79 (dk_at dksX3_streetPart_7 23 rfl rfl)
theorem dX3_streetPart_180 : decode cX3_streetPart 180 = .ok (.goto 66, 3) := dk_167 0 66 (dk_at dksX3_streetPart_8 0 rfl rfl)
theorem dX3_streetPart_183 : decode cX3_streetPart 183 = .ok (.aload_n 0, 1) := dk_42 (dk_at dksX3_streetPart_8 3 rfl rfl)
theorem dX3_streetPart_184 : decode cX3_streetPart 184 = .ok (.getfield 61, 3) := dk_180 0 61 (dk_at dksX3_streetPart_8 4 rfl rfl)
theorem dX3_streetPart_187 : decode cX3_streetPart 187 = .ok (.bipush 7, 2) := dk_16 7 (dk_at dksX3_streetPart_8 7 rfl rfl)
theorem dX3_streetPart_189 : decode cX3_streetPart 189 = .ok (.iaload, 1) := dk_46 (dk_at dksX3_streetPart_8 9 rfl rfl)
theorem dX3_streetPart_190 : decode cX3_streetPart 190 = .ok (.istore_n 2, 1) := dk_61 (dk_at dksX3_streetPart_8 10 rfl rfl)
theorem dX3_streetPart_191 : decode cX3_streetPart 191 = .ok (.aload_n 0, 1) := dk_42 (dk_at dksX3_streetPart_8 11 rfl rfl)
theorem dX3_streetPart_192 : decode cX3_streetPart 192 = .ok (.getfield 76, 3) := dk_180 0 76 (dk_at dksX3_streetPart_8 12 rfl rfl)
theorem dX3_streetPart_195 : decode cX3_streetPart 195 = .ok (.iload_n 2, 1) := dk_28 (dk_at dksX3_streetPart_8 15 rfl rfl)
theorem dX3_streetPart_196 : decode cX3_streetPart 196 = .ok (.aload_n 0, 1) := dk_42 (dk_at dksX3_streetPart_8 16 rfl rfl)
theorem dX3_streetPart_197 : decode cX3_streetPart 197 = .ok (.iconst 0, 1) := dk_3 (dk_at dksX3_streetPart_8 17 rfl rfl)
theorem dX3_streetPart_198 : decode cX3_streetPart 198 = .ok (.sipush 199, 3) := dk_17 0 199 (dk_at dksX3_streetPart_8 18 rfl rfl)
theorem dX3_streetPart_201 : decode cX3_streetPart 201 = .ok (.invokevirtual 303, 3) := dk_182 1 47 (dk_at dksX3_streetPart_8 21 rfl rfl)
theorem dX3_streetPart_204 : decode cX3_streetPart 204 = .ok (.iastore, 1) := dk_79 (dk_at dksX3_streetPart_9 0 rfl rfl)
theorem dX3_streetPart_205 : decode cX3_streetPart 205 = .ok (.aload_n 0, 1) := dk_42 (dk_at dksX3_streetPart_9 1 rfl rfl)
theorem dX3_streetPart_206 : decode cX3_streetPart 206 = .ok (.getfield 79, 3) := dk_180 0 79 (dk_at dksX3_streetPart_9 2 rfl rfl)
theorem dX3_streetPart_209 : decode cX3_streetPart 209 = .ok (.iload_n 2, 1) := dk_28 (dk_at dksX3_streetPart_9 5 rfl rfl)
theorem dX3_streetPart_210 : decode cX3_streetPart 210 = .ok (.aload_n 0, 1) := dk_42 (dk_at dksX3_streetPart_9 6 rfl rfl)
theorem dX3_streetPart_211 : decode cX3_streetPart 211 = .ok (.aload_n 0, 1) := dk_42 (dk_at dksX3_streetPart_9 7 rfl rfl)
theorem dX3_streetPart_212 : decode cX3_streetPart 212 = .ok (.getfield 76, 3) := dk_180 0 76 (dk_at dksX3_streetPart_9 8 rfl rfl)
theorem dX3_streetPart_215 : decode cX3_streetPart 215 = .ok (.iload_n 2, 1) := dk_28 (dk_at dksX3_streetPart_9 11 rfl rfl)
theorem dX3_streetPart_216 : decode cX3_streetPart 216 = .ok (.iaload, 1) := dk_46 (dk_at dksX3_streetPart_9 12 rfl rfl)
theorem dX3_streetPart_217 : decode cX3_streetPart 217 = .ok (.sipush 199, 3) := dk_17 0 199 (dk_at dksX3_streetPart_9 13 rfl rfl)
theorem dX3_streetPart_220 : decode cX3_streetPart 220 = .ok (.invokevirtual 303, 3) := dk_182 1 47 (dk_at dksX3_streetPart_9 16 rfl rfl)
theorem dX3_streetPart_223 : decode cX3_streetPart 223 = .ok (.iastore, 1) := dk_79 (dk_at dksX3_streetPart_9 19 rfl rfl)
theorem dX3_streetPart_224 : decode cX3_streetPart 224 = .ok (.aload_n 0, 1) := dk_42 (dk_at dksX3_streetPart_9 20 rfl rfl)
theorem dX3_streetPart_225 : decode cX3_streetPart 225 = .ok (.getfield 61, 3) := dk_180 0 61 (dk_at dksX3_streetPart_9 21 rfl rfl)
theorem dX3_streetPart_228 : decode cX3_streetPart 228 = .ok (.bipush 7, 2) := dk_16 7 (dk_at dksX3_streetPart_10 0 rfl rfl)
theorem dX3_streetPart_230 : decode cX3_streetPart 230 = .ok (.dup2, 1) := dk_92 (dk_at dksX3_streetPart_10 2 rfl rfl)
theorem dX3_streetPart_231 : decode cX3_streetPart 231 = .ok (.iaload, 1) := dk_46 (dk_at dksX3_streetPart_10 3 rfl rfl)
theorem dX3_streetPart_232 : decode cX3_streetPart 232 = .ok (.iconst 1, 1) := dk_4 (dk_at dksX3_streetPart_10 4 rfl rfl)
theorem dX3_streetPart_233 : decode cX3_streetPart 233 = .ok (.iadd, 1) := dk_96 (dk_at dksX3_streetPart_10 5 rfl rfl)
theorem dX3_streetPart_234 : decode cX3_streetPart 234 = .ok (.iastore, 1) := dk_79 (dk_at dksX3_streetPart_10 6 rfl rfl)
theorem dX3_streetPart_235 : decode cX3_streetPart 235 = .ok (.goto 11, 3) := dk_167 0 11 (dk_at dksX3_streetPart_10 7 rfl rfl)
theorem dX3_streetPart_238 : decode cX3_streetPart 238 = .ok (.aload_n 0, 1) := dk_42 (dk_at dksX3_streetPart_10 10 rfl rfl)
theorem dX3_streetPart_239 : decode cX3_streetPart 239 = .ok (.getfield 61, 3) := dk_180 0 61 (dk_at dksX3_streetPart_10 11 rfl rfl)
theorem dX3_streetPart_242 : decode cX3_streetPart 242 = .ok (.bipush 6, 2) := dk_16 6 (dk_at dksX3_streetPart_10 14 rfl rfl)
theorem dX3_streetPart_244 : decode cX3_streetPart 244 = .ok (.iconst 1, 1) := dk_4 (dk_at dksX3_streetPart_10 16 rfl rfl)
theorem dX3_streetPart_245 : decode cX3_streetPart 245 = .ok (.iastore, 1) := dk_79 (dk_at dksX3_streetPart_10 17 rfl rfl)
theorem dX3_streetPart_246 : decode cX3_streetPart 246 = .ok (.return_, 1) := dk_177 (dk_at dksX3_streetPart_10 18 rfl rfl)
abbrev cX3_amount : ByteArray := prog_17_method_32_code
def yX3_amount : MethodName := ⟨RX3, "amount", "(II)I"⟩
def dkwX3_amount_2 : List UInt8 := [154, 0, 9, 42, 4, 29, 182, 0, 238, 21, 4, 172]
abbrev dktX3_amount_2 : List UInt8 := dkwX3_amount_2 ++ []
def dkwX3_amount_1 : List UInt8 := [167, 0, 4, 3, 54, 4, 42, 180, 0, 199, 154, 0, 22, 21, 4, 133, 27, 133, 28, 133, 184, 0, 164]
abbrev dktX3_amount_1 : List UInt8 := dkwX3_amount_1 ++ dktX3_amount_2
def dkwX3_amount_0 : List UInt8 := [42, 182, 0, 222, 42, 180, 0, 202, 62, 42, 180, 0, 199, 154, 0, 12, 42, 18, 246, 182, 0, 247]
abbrev dktX3_amount_0 : List UInt8 := dkwX3_amount_0 ++ dktX3_amount_1
theorem dksX3_amount_0 : cX3_amount.data.toList.drop 0 = dktX3_amount_0 := by decide +kernel
theorem dksX3_amount_1 : cX3_amount.data.toList.drop 22 = dktX3_amount_1 := dk_seg dksX3_amount_0 22 rfl rfl
theorem dksX3_amount_2 : cX3_amount.data.toList.drop 45 = dktX3_amount_2 := dk_seg dksX3_amount_1 23 rfl rfl
theorem dX3_amount_0 : decode cX3_amount 0 = .ok (.aload_n 0, 1) := dk_42 (dk_at dksX3_amount_0 0 rfl rfl)
theorem dX3_amount_1 : decode cX3_amount 1 = .ok (.invokevirtual 222, 3) := dk_182 0 222 (dk_at dksX3_amount_0 1 rfl rfl)
theorem dX3_amount_4 : decode cX3_amount 4 = .ok (.aload_n 0, 1) := dk_42 (dk_at dksX3_amount_0 4 rfl rfl)
theorem dX3_amount_5 : decode cX3_amount 5 = .ok (.getfield 202, 3) := dk_180 0 202 (dk_at dksX3_amount_0 5 rfl rfl)
theorem dX3_amount_8 : decode cX3_amount 8 = .ok (.istore_n 3, 1) := dk_62 (dk_at dksX3_amount_0 8 rfl rfl)
theorem dX3_amount_9 : decode cX3_amount 9 = .ok (.aload_n 0, 1) := dk_42 (dk_at dksX3_amount_0 9 rfl rfl)
theorem dX3_amount_10 : decode cX3_amount 10 = .ok (.getfield 199, 3) := dk_180 0 199 (dk_at dksX3_amount_0 10 rfl rfl)
theorem dX3_amount_13 : decode cX3_amount 13 = .ok (.ifCond .ne 12, 3) := dk_154 0 12 (dk_at dksX3_amount_0 13 rfl rfl)
theorem dX3_amount_16 : decode cX3_amount 16 = .ok (.aload_n 0, 1) := dk_42 (dk_at dksX3_amount_0 16 rfl rfl)
theorem dX3_amount_17 : decode cX3_amount 17 = .ok (.ldc 246, 2) := dk_18 246 (dk_at dksX3_amount_0 17 rfl rfl)
theorem dX3_amount_19 : decode cX3_amount 19 = .ok (.invokevirtual 247, 3) := dk_182 0 247 (dk_at dksX3_amount_0 19 rfl rfl)
theorem dX3_amount_22 : decode cX3_amount 22 = .ok (.goto 4, 3) := dk_167 0 4 (dk_at dksX3_amount_1 0 rfl rfl)
theorem dX3_amount_25 : decode cX3_amount 25 = .ok (.iconst 0, 1) := dk_3 (dk_at dksX3_amount_1 3 rfl rfl)
theorem dX3_amount_26 : decode cX3_amount 26 = .ok (.istore 4, 2) := dk_54 4 (dk_at dksX3_amount_1 4 rfl rfl)
theorem dX3_amount_28 : decode cX3_amount 28 = .ok (.aload_n 0, 1) := dk_42 (dk_at dksX3_amount_1 6 rfl rfl)
theorem dX3_amount_29 : decode cX3_amount 29 = .ok (.getfield 199, 3) := dk_180 0 199 (dk_at dksX3_amount_1 7 rfl rfl)
theorem dX3_amount_32 : decode cX3_amount 32 = .ok (.ifCond .ne 22, 3) := dk_154 0 22 (dk_at dksX3_amount_1 10 rfl rfl)
theorem dX3_amount_35 : decode cX3_amount 35 = .ok (.iload 4, 2) := dk_21 4 (dk_at dksX3_amount_1 13 rfl rfl)
theorem dX3_amount_37 : decode cX3_amount 37 = .ok (.i2l, 1) := dk_133 (dk_at dksX3_amount_1 15 rfl rfl)
theorem dX3_amount_38 : decode cX3_amount 38 = .ok (.iload_n 1, 1) := dk_27 (dk_at dksX3_amount_1 16 rfl rfl)
theorem dX3_amount_39 : decode cX3_amount 39 = .ok (.i2l, 1) := dk_133 (dk_at dksX3_amount_1 17 rfl rfl)
theorem dX3_amount_40 : decode cX3_amount 40 = .ok (.iload_n 2, 1) := dk_28 (dk_at dksX3_amount_1 18 rfl rfl)
theorem dX3_amount_41 : decode cX3_amount 41 = .ok (.i2l, 1) := dk_133 (dk_at dksX3_amount_1 19 rfl rfl)
theorem dX3_amount_42 : decode cX3_amount 42 = .ok (.invokestatic 164, 3) := dk_184 0 164 (dk_at dksX3_amount_1 20 rfl rfl)
theorem dX3_amount_45 : decode cX3_amount 45 = .ok (.ifCond .ne 9, 3) := dk_154 0 9 (dk_at dksX3_amount_2 0 rfl rfl)
theorem dX3_amount_48 : decode cX3_amount 48 = .ok (.aload_n 0, 1) := dk_42 (dk_at dksX3_amount_2 3 rfl rfl)
theorem dX3_amount_49 : decode cX3_amount 49 = .ok (.iconst 1, 1) := dk_4 (dk_at dksX3_amount_2 4 rfl rfl)
theorem dX3_amount_50 : decode cX3_amount 50 = .ok (.iload_n 3, 1) := dk_29 (dk_at dksX3_amount_2 5 rfl rfl)
theorem dX3_amount_51 : decode cX3_amount 51 = .ok (.invokevirtual 238, 3) := dk_182 0 238 (dk_at dksX3_amount_2 6 rfl rfl)
theorem dX3_amount_54 : decode cX3_amount 54 = .ok (.iload 4, 2) := dk_21 4 (dk_at dksX3_amount_2 9 rfl rfl)
theorem dX3_amount_56 : decode cX3_amount 56 = .ok (.ireturn, 1) := dk_172 (dk_at dksX3_amount_2 11 rfl rfl)
abbrev cX3_digits : ByteArray := prog_17_method_22_code
def yX3_digits : MethodName := ⟨RX3, "digits", "(I)I"⟩
def dkwX3_digits_4 : List UInt8 := [29, 172]
abbrev dktX3_digits_4 : List UInt8 := dkwX3_digits_4 ++ []
def dkwX3_digits_3 : List UInt8 := [167, 255, 212, 42, 180, 0, 202, 28, 100, 8, 163, 0, 8, 29, 27, 164, 0, 9, 42, 4, 28, 182, 0, 238]
abbrev dktX3_digits_3 : List UInt8 := dkwX3_digits_3 ++ dktX3_digits_4
def dkwX3_digits_2 : List UInt8 := [182, 0, 205, 96, 16, 48, 100, 167, 0, 4, 29, 62, 42, 89, 180, 0, 202, 4, 96, 181, 0, 202]
abbrev dktX3_digits_2 : List UInt8 := dkwX3_digits_2 ++ dktX3_digits_3
def dkwX3_digits_1 : List UInt8 := [62, 42, 182, 0, 242, 153, 0, 43, 42, 180, 0, 202, 28, 100, 8, 162, 0, 18, 16, 10, 29, 104, 42]
abbrev dktX3_digits_1 : List UInt8 := dkwX3_digits_1 ++ dktX3_digits_2
def dkwX3_digits_0 : List UInt8 := [42, 182, 0, 242, 154, 0, 14, 42, 3, 42, 180, 0, 202, 182, 0, 238, 3, 172, 42, 180, 0, 202, 61, 3]
abbrev dktX3_digits_0 : List UInt8 := dkwX3_digits_0 ++ dktX3_digits_1
theorem dksX3_digits_0 : cX3_digits.data.toList.drop 0 = dktX3_digits_0 := by decide +kernel
theorem dksX3_digits_1 : cX3_digits.data.toList.drop 24 = dktX3_digits_1 := dk_seg dksX3_digits_0 24 rfl rfl
theorem dksX3_digits_2 : cX3_digits.data.toList.drop 47 = dktX3_digits_2 := dk_seg dksX3_digits_1 23 rfl rfl
theorem dksX3_digits_3 : cX3_digits.data.toList.drop 69 = dktX3_digits_3 := dk_seg dksX3_digits_2 22 rfl rfl
theorem dksX3_digits_4 : cX3_digits.data.toList.drop 93 = dktX3_digits_4 := dk_seg dksX3_digits_3 24 rfl rfl
theorem dX3_digits_0 : decode cX3_digits 0 = .ok (.aload_n 0, 1) := dk_42 (dk_at dksX3_digits_0 0 rfl rfl)
theorem dX3_digits_1 : decode cX3_digits 1 = .ok (.invokevirtual 242, 3) := dk_182 0 242 (dk_at dksX3_digits_0 1 rfl rfl)
theorem dX3_digits_4 : decode cX3_digits 4 = .ok (.ifCond .ne 14, 3) := dk_154 0 14 (dk_at dksX3_digits_0 4 rfl rfl)
theorem dX3_digits_7 : decode cX3_digits 7 = .ok (.aload_n 0, 1) := dk_42 (dk_at dksX3_digits_0 7 rfl rfl)
theorem dX3_digits_8 : decode cX3_digits 8 = .ok (.iconst 0, 1) := dk_3 (dk_at dksX3_digits_0 8 rfl rfl)
theorem dX3_digits_9 : decode cX3_digits 9 = .ok (.aload_n 0, 1) := dk_42 (dk_at dksX3_digits_0 9 rfl rfl)
theorem dX3_digits_10 : decode cX3_digits 10 = .ok (.getfield 202, 3) := dk_180 0 202 (dk_at dksX3_digits_0 10 rfl rfl)
theorem dX3_digits_13 : decode cX3_digits 13 = .ok (.invokevirtual 238, 3) := dk_182 0 238 (dk_at dksX3_digits_0 13 rfl rfl)
theorem dX3_digits_16 : decode cX3_digits 16 = .ok (.iconst 0, 1) := dk_3 (dk_at dksX3_digits_0 16 rfl rfl)
theorem dX3_digits_17 : decode cX3_digits 17 = .ok (.ireturn, 1) := dk_172 (dk_at dksX3_digits_0 17 rfl rfl)
theorem dX3_digits_18 : decode cX3_digits 18 = .ok (.aload_n 0, 1) := dk_42 (dk_at dksX3_digits_0 18 rfl rfl)
theorem dX3_digits_19 : decode cX3_digits 19 = .ok (.getfield 202, 3) := dk_180 0 202 (dk_at dksX3_digits_0 19 rfl rfl)
theorem dX3_digits_22 : decode cX3_digits 22 = .ok (.istore_n 2, 1) := dk_61 (dk_at dksX3_digits_0 22 rfl rfl)
theorem dX3_digits_23 : decode cX3_digits 23 = .ok (.iconst 0, 1) := dk_3 (dk_at dksX3_digits_0 23 rfl rfl)
theorem dX3_digits_24 : decode cX3_digits 24 = .ok (.istore_n 3, 1) := dk_62 (dk_at dksX3_digits_1 0 rfl rfl)
theorem dX3_digits_25 : decode cX3_digits 25 = .ok (.aload_n 0, 1) := dk_42 (dk_at dksX3_digits_1 1 rfl rfl)
theorem dX3_digits_26 : decode cX3_digits 26 = .ok (.invokevirtual 242, 3) := dk_182 0 242 (dk_at dksX3_digits_1 2 rfl rfl)
theorem dX3_digits_29 : decode cX3_digits 29 = .ok (.ifCond .eq 43, 3) := dk_153 0 43 (dk_at dksX3_digits_1 5 rfl rfl)
theorem dX3_digits_32 : decode cX3_digits 32 = .ok (.aload_n 0, 1) := dk_42 (dk_at dksX3_digits_1 8 rfl rfl)
theorem dX3_digits_33 : decode cX3_digits 33 = .ok (.getfield 202, 3) := dk_180 0 202 (dk_at dksX3_digits_1 9 rfl rfl)
theorem dX3_digits_36 : decode cX3_digits 36 = .ok (.iload_n 2, 1) := dk_28 (dk_at dksX3_digits_1 12 rfl rfl)
theorem dX3_digits_37 : decode cX3_digits 37 = .ok (.isub, 1) := dk_100 (dk_at dksX3_digits_1 13 rfl rfl)
theorem dX3_digits_38 : decode cX3_digits 38 = .ok (.iconst 5, 1) := dk_8 (dk_at dksX3_digits_1 14 rfl rfl)
theorem dX3_digits_39 : decode cX3_digits 39 = .ok (.if_icmp .ge 18, 3) := dk_162 0 18 (dk_at dksX3_digits_1 15 rfl rfl)
theorem dX3_digits_42 : decode cX3_digits 42 = .ok (.bipush 10, 2) := dk_16 10 (dk_at dksX3_digits_1 18 rfl rfl)
theorem dX3_digits_44 : decode cX3_digits 44 = .ok (.iload_n 3, 1) := dk_29 (dk_at dksX3_digits_1 20 rfl rfl)
theorem dX3_digits_45 : decode cX3_digits 45 = .ok (.imul, 1) := dk_104 (dk_at dksX3_digits_1 21 rfl rfl)
theorem dX3_digits_46 : decode cX3_digits 46 = .ok (.aload_n 0, 1) := dk_42 (dk_at dksX3_digits_1 22 rfl rfl)
theorem dX3_digits_47 : decode cX3_digits 47 = .ok (.invokevirtual 205, 3) := dk_182 0 205 (dk_at dksX3_digits_2 0 rfl rfl)
theorem dX3_digits_50 : decode cX3_digits 50 = .ok (.iadd, 1) := dk_96 (dk_at dksX3_digits_2 3 rfl rfl)
theorem dX3_digits_51 : decode cX3_digits 51 = .ok (.bipush 48, 2) := dk_16 48 (dk_at dksX3_digits_2 4 rfl rfl)
theorem dX3_digits_53 : decode cX3_digits 53 = .ok (.isub, 1) := dk_100 (dk_at dksX3_digits_2 6 rfl rfl)
theorem dX3_digits_54 : decode cX3_digits 54 = .ok (.goto 4, 3) := dk_167 0 4 (dk_at dksX3_digits_2 7 rfl rfl)
theorem dX3_digits_57 : decode cX3_digits 57 = .ok (.iload_n 3, 1) := dk_29 (dk_at dksX3_digits_2 10 rfl rfl)
theorem dX3_digits_58 : decode cX3_digits 58 = .ok (.istore_n 3, 1) := dk_62 (dk_at dksX3_digits_2 11 rfl rfl)
theorem dX3_digits_59 : decode cX3_digits 59 = .ok (.aload_n 0, 1) := dk_42 (dk_at dksX3_digits_2 12 rfl rfl)
theorem dX3_digits_60 : decode cX3_digits 60 = .ok (.dup, 1) := dk_89 (dk_at dksX3_digits_2 13 rfl rfl)
theorem dX3_digits_61 : decode cX3_digits 61 = .ok (.getfield 202, 3) := dk_180 0 202 (dk_at dksX3_digits_2 14 rfl rfl)
theorem dX3_digits_64 : decode cX3_digits 64 = .ok (.iconst 1, 1) := dk_4 (dk_at dksX3_digits_2 17 rfl rfl)
theorem dX3_digits_65 : decode cX3_digits 65 = .ok (.iadd, 1) := dk_96 (dk_at dksX3_digits_2 18 rfl rfl)
theorem dX3_digits_66 : decode cX3_digits 66 = .ok (.putfield 202, 3) := dk_181 0 202 (dk_at dksX3_digits_2 19 rfl rfl)
theorem dX3_digits_69 : decode cX3_digits 69 = .ok (.goto (-44), 3) := dk_167 255 212 (dk_at dksX3_digits_3 0 rfl rfl)
theorem dX3_digits_72 : decode cX3_digits 72 = .ok (.aload_n 0, 1) := dk_42 (dk_at dksX3_digits_3 3 rfl rfl)
theorem dX3_digits_73 : decode cX3_digits 73 = .ok (.getfield 202, 3) := dk_180 0 202 (dk_at dksX3_digits_3 4 rfl rfl)
theorem dX3_digits_76 : decode cX3_digits 76 = .ok (.iload_n 2, 1) := dk_28 (dk_at dksX3_digits_3 7 rfl rfl)
theorem dX3_digits_77 : decode cX3_digits 77 = .ok (.isub, 1) := dk_100 (dk_at dksX3_digits_3 8 rfl rfl)
theorem dX3_digits_78 : decode cX3_digits 78 = .ok (.iconst 5, 1) := dk_8 (dk_at dksX3_digits_3 9 rfl rfl)
theorem dX3_digits_79 : decode cX3_digits 79 = .ok (.if_icmp .gt 8, 3) := dk_163 0 8 (dk_at dksX3_digits_3 10 rfl rfl)
theorem dX3_digits_82 : decode cX3_digits 82 = .ok (.iload_n 3, 1) := dk_29 (dk_at dksX3_digits_3 13 rfl rfl)
theorem dX3_digits_83 : decode cX3_digits 83 = .ok (.iload_n 1, 1) := dk_27 (dk_at dksX3_digits_3 14 rfl rfl)
theorem dX3_digits_84 : decode cX3_digits 84 = .ok (.if_icmp .le 9, 3) := dk_164 0 9 (dk_at dksX3_digits_3 15 rfl rfl)
theorem dX3_digits_87 : decode cX3_digits 87 = .ok (.aload_n 0, 1) := dk_42 (dk_at dksX3_digits_3 18 rfl rfl)
theorem dX3_digits_88 : decode cX3_digits 88 = .ok (.iconst 1, 1) := dk_4 (dk_at dksX3_digits_3 19 rfl rfl)
theorem dX3_digits_89 : decode cX3_digits 89 = .ok (.iload_n 2, 1) := dk_28 (dk_at dksX3_digits_3 20 rfl rfl)
theorem dX3_digits_90 : decode cX3_digits 90 = .ok (.invokevirtual 238, 3) := dk_182 0 238 (dk_at dksX3_digits_3 21 rfl rfl)
theorem dX3_digits_93 : decode cX3_digits 93 = .ok (.iload_n 3, 1) := dk_29 (dk_at dksX3_digits_4 0 rfl rfl)
theorem dX3_digits_94 : decode cX3_digits 94 = .ok (.ireturn, 1) := dk_172 (dk_at dksX3_digits_4 1 rfl rfl)
abbrev cX3_isDigit : ByteArray := prog_17_method_17_code
def yX3_isDigit : MethodName := ⟨RX3, "isDigit", "()Z"⟩
def dkwX3_isDigit_0 : List UInt8 := [42, 182, 0, 205, 133, 20, 0, 209, 20, 0, 211, 184, 0, 164, 172]
abbrev dktX3_isDigit_0 : List UInt8 := dkwX3_isDigit_0 ++ []
theorem dksX3_isDigit_0 : cX3_isDigit.data.toList.drop 0 = dktX3_isDigit_0 := by decide +kernel
theorem dX3_isDigit_0 : decode cX3_isDigit 0 = .ok (.aload_n 0, 1) := dk_42 (dk_at dksX3_isDigit_0 0 rfl rfl)
theorem dX3_isDigit_1 : decode cX3_isDigit 1 = .ok (.invokevirtual 205, 3) := dk_182 0 205 (dk_at dksX3_isDigit_0 1 rfl rfl)
theorem dX3_isDigit_4 : decode cX3_isDigit 4 = .ok (.i2l, 1) := dk_133 (dk_at dksX3_isDigit_0 4 rfl rfl)
theorem dX3_isDigit_5 : decode cX3_isDigit 5 = .ok (.ldc2_w 209, 3) := dk_20 0 209 (dk_at dksX3_isDigit_0 5 rfl rfl)
theorem dX3_isDigit_8 : decode cX3_isDigit 8 = .ok (.ldc2_w 211, 3) := dk_20 0 211 (dk_at dksX3_isDigit_0 8 rfl rfl)
theorem dX3_isDigit_11 : decode cX3_isDigit 11 = .ok (.invokestatic 164, 3) := dk_184 0 164 (dk_at dksX3_isDigit_0 11 rfl rfl)
theorem dX3_isDigit_14 : decode cX3_isDigit 14 = .ok (.ireturn, 1) := dk_172 (dk_at dksX3_isDigit_0 14 rfl rfl)
abbrev cX3_in : ByteArray := prog_17_method_3_code
def yX3_in : MethodName := ⟨RX3, "in", "(JJJ)Z"⟩
def dkwX3_in_0 : List UInt8 := [30, 32, 148, 155, 0, 14, 30, 22, 4, 148, 157, 0, 7, 4, 167, 0, 4, 3, 172]
abbrev dktX3_in_0 : List UInt8 := dkwX3_in_0 ++ []
theorem dksX3_in_0 : cX3_in.data.toList.drop 0 = dktX3_in_0 := by decide +kernel
theorem dX3_in_0 : decode cX3_in 0 = .ok (.lload_n 0, 1) := dk_30 (dk_at dksX3_in_0 0 rfl rfl)
theorem dX3_in_1 : decode cX3_in 1 = .ok (.lload_n 2, 1) := dk_32 (dk_at dksX3_in_0 1 rfl rfl)
theorem dX3_in_2 : decode cX3_in 2 = .ok (.lcmp, 1) := dk_148 (dk_at dksX3_in_0 2 rfl rfl)
theorem dX3_in_3 : decode cX3_in 3 = .ok (.ifCond .lt 14, 3) := dk_155 0 14 (dk_at dksX3_in_0 3 rfl rfl)
theorem dX3_in_6 : decode cX3_in 6 = .ok (.lload_n 0, 1) := dk_30 (dk_at dksX3_in_0 6 rfl rfl)
theorem dX3_in_7 : decode cX3_in 7 = .ok (.lload 4, 2) := dk_22 4 (dk_at dksX3_in_0 7 rfl rfl)
theorem dX3_in_9 : decode cX3_in 9 = .ok (.lcmp, 1) := dk_148 (dk_at dksX3_in_0 9 rfl rfl)
theorem dX3_in_10 : decode cX3_in 10 = .ok (.ifCond .gt 7, 3) := dk_157 0 7 (dk_at dksX3_in_0 10 rfl rfl)
theorem dX3_in_13 : decode cX3_in 13 = .ok (.iconst 1, 1) := dk_4 (dk_at dksX3_in_0 13 rfl rfl)
theorem dX3_in_14 : decode cX3_in 14 = .ok (.goto 4, 3) := dk_167 0 4 (dk_at dksX3_in_0 14 rfl rfl)
theorem dX3_in_17 : decode cX3_in 17 = .ok (.iconst 0, 1) := dk_3 (dk_at dksX3_in_0 17 rfl rfl)
theorem dX3_in_18 : decode cX3_in 18 = .ok (.ireturn, 1) := dk_172 (dk_at dksX3_in_0 18 rfl rfl)
abbrev cX3_readsThing : ByteArray := prog_17_method_34_code
def yX3_readsThing : MethodName := ⟨RX3, "readsThing", "()V"⟩
def dkwX3_readsThing_3 : List UInt8 := [180, 0, 61, 6, 92, 46, 4, 96, 79, 42, 180, 0, 64, 27, 4, 96, 42, 180, 0, 61, 7, 46, 79, 177]
abbrev dktX3_readsThing_3 : List UInt8 := dkwX3_readsThing_3 ++ []
def dkwX3_readsThing_2 : List UInt8 := [182, 1, 47, 79, 42, 180, 0, 199, 154, 0, 13, 42, 180, 0, 61, 7, 92, 46, 29, 96, 79, 42]
abbrev dktX3_readsThing_2 : List UInt8 := dkwX3_readsThing_2 ++ dktX3_readsThing_3
def dkwX3_readsThing_1 : List UInt8 := [162, 0, 7, 28, 167, 0, 5, 16, 6, 182, 1, 47, 62, 42, 180, 0, 67, 27, 42, 3, 16, 20]
abbrev dktX3_readsThing_1 : List UInt8 := dkwX3_readsThing_1 ++ dktX3_readsThing_2
def dkwX3_readsThing_0 : List UInt8 := [42, 180, 0, 61, 6, 46, 60, 16, 16, 42, 180, 0, 61, 7, 46, 100, 61, 42, 4, 28, 16, 6]
abbrev dktX3_readsThing_0 : List UInt8 := dkwX3_readsThing_0 ++ dktX3_readsThing_1
theorem dksX3_readsThing_0 : cX3_readsThing.data.toList.drop 0 = dktX3_readsThing_0 := by decide +kernel
theorem dksX3_readsThing_1 : cX3_readsThing.data.toList.drop 22 = dktX3_readsThing_1 := dk_seg dksX3_readsThing_0 22 rfl rfl
theorem dksX3_readsThing_2 : cX3_readsThing.data.toList.drop 44 = dktX3_readsThing_2 := dk_seg dksX3_readsThing_1 22 rfl rfl
theorem dksX3_readsThing_3 : cX3_readsThing.data.toList.drop 66 = dktX3_readsThing_3 := dk_seg dksX3_readsThing_2 22 rfl rfl
theorem dX3_readsThing_0 : decode cX3_readsThing 0 = .ok (.aload_n 0, 1) := dk_42 (dk_at dksX3_readsThing_0 0 rfl rfl)
theorem dX3_readsThing_1 : decode cX3_readsThing 1 = .ok (.getfield 61, 3) := dk_180 0 61 (dk_at dksX3_readsThing_0 1 rfl rfl)
theorem dX3_readsThing_4 : decode cX3_readsThing 4 = .ok (.iconst 3, 1) := dk_6 (dk_at dksX3_readsThing_0 4 rfl rfl)
theorem dX3_readsThing_5 : decode cX3_readsThing 5 = .ok (.iaload, 1) := dk_46 (dk_at dksX3_readsThing_0 5 rfl rfl)
theorem dX3_readsThing_6 : decode cX3_readsThing 6 = .ok (.istore_n 1, 1) := dk_60 (dk_at dksX3_readsThing_0 6 rfl rfl)
theorem dX3_readsThing_7 : decode cX3_readsThing 7 = .ok (.bipush 16, 2) := dk_16 16 (dk_at dksX3_readsThing_0 7 rfl rfl)
theorem dX3_readsThing_9 : decode cX3_readsThing 9 = .ok (.aload_n 0, 1) := dk_42 (dk_at dksX3_readsThing_0 9 rfl rfl)
theorem dX3_readsThing_10 : decode cX3_readsThing 10 = .ok (.getfield 61, 3) := dk_180 0 61 (dk_at dksX3_readsThing_0 10 rfl rfl)
theorem dX3_readsThing_13 : decode cX3_readsThing 13 = .ok (.iconst 4, 1) := dk_7 (dk_at dksX3_readsThing_0 13 rfl rfl)
theorem dX3_readsThing_14 : decode cX3_readsThing 14 = .ok (.iaload, 1) := dk_46 (dk_at dksX3_readsThing_0 14 rfl rfl)
theorem dX3_readsThing_15 : decode cX3_readsThing 15 = .ok (.isub, 1) := dk_100 (dk_at dksX3_readsThing_0 15 rfl rfl)
theorem dX3_readsThing_16 : decode cX3_readsThing 16 = .ok (.istore_n 2, 1) := dk_61 (dk_at dksX3_readsThing_0 16 rfl rfl)
theorem dX3_readsThing_17 : decode cX3_readsThing 17 = .ok (.aload_n 0, 1) := dk_42 (dk_at dksX3_readsThing_0 17 rfl rfl)
theorem dX3_readsThing_18 : decode cX3_readsThing 18 = .ok (.iconst 1, 1) := dk_4 (dk_at dksX3_readsThing_0 18 rfl rfl)
theorem dX3_readsThing_19 : decode cX3_readsThing 19 = .ok (.iload_n 2, 1) := dk_28 (dk_at dksX3_readsThing_0 19 rfl rfl)
theorem dX3_readsThing_20 : decode cX3_readsThing 20 = .ok (.bipush 6, 2) := dk_16 6 (dk_at dksX3_readsThing_0 20 rfl rfl)
theorem dX3_readsThing_22 : decode cX3_readsThing 22 = .ok (.if_icmp .ge 7, 3) := dk_162 0 7 (dk_at dksX3_readsThing_1 0 rfl rfl)
theorem dX3_readsThing_25 : decode cX3_readsThing 25 = .ok (.iload_n 2, 1) := dk_28 (dk_at dksX3_readsThing_1 3 rfl rfl)
theorem dX3_readsThing_26 : decode cX3_readsThing 26 = .ok (.goto 5, 3) := dk_167 0 5 (dk_at dksX3_readsThing_1 4 rfl rfl)
theorem dX3_readsThing_29 : decode cX3_readsThing 29 = .ok (.bipush 6, 2) := dk_16 6 (dk_at dksX3_readsThing_1 7 rfl rfl)
theorem dX3_readsThing_31 : decode cX3_readsThing 31 = .ok (.invokevirtual 303, 3) := dk_182 1 47 (dk_at dksX3_readsThing_1 9 rfl rfl)
theorem dX3_readsThing_34 : decode cX3_readsThing 34 = .ok (.istore_n 3, 1) := dk_62 (dk_at dksX3_readsThing_1 12 rfl rfl)
theorem dX3_readsThing_35 : decode cX3_readsThing 35 = .ok (.aload_n 0, 1) := dk_42 (dk_at dksX3_readsThing_1 13 rfl rfl)
theorem dX3_readsThing_36 : decode cX3_readsThing 36 = .ok (.getfield 67, 3) := dk_180 0 67 (dk_at dksX3_readsThing_1 14 rfl rfl)
theorem dX3_readsThing_39 : decode cX3_readsThing 39 = .ok (.iload_n 1, 1) := dk_27 (dk_at dksX3_readsThing_1 17 rfl rfl)
theorem dX3_readsThing_40 : decode cX3_readsThing 40 = .ok (.aload_n 0, 1) := dk_42 (dk_at dksX3_readsThing_1 18 rfl rfl)
theorem dX3_readsThing_41 : decode cX3_readsThing 41 = .ok (.iconst 0, 1) := dk_3 (dk_at dksX3_readsThing_1 19 rfl rfl)
theorem dX3_readsThing_42 : decode cX3_readsThing 42 = .ok (.bipush 20, 2) := dk_16 20 (dk_at dksX3_readsThing_1 20 rfl rfl)
theorem dX3_readsThing_44 : decode cX3_readsThing 44 = .ok (.invokevirtual 303, 3) := dk_182 1 47 (dk_at dksX3_readsThing_2 0 rfl rfl)
theorem dX3_readsThing_47 : decode cX3_readsThing 47 = .ok (.iastore, 1) := dk_79 (dk_at dksX3_readsThing_2 3 rfl rfl)
theorem dX3_readsThing_48 : decode cX3_readsThing 48 = .ok (.aload_n 0, 1) := dk_42 (dk_at dksX3_readsThing_2 4 rfl rfl)
theorem dX3_readsThing_49 : decode cX3_readsThing 49 = .ok (.getfield 199, 3) := dk_180 0 199 (dk_at dksX3_readsThing_2 5 rfl rfl)
theorem dX3_readsThing_52 : decode cX3_readsThing 52 = .ok (.ifCond .ne 13, 3) := dk_154 0 13 (dk_at dksX3_readsThing_2 8 rfl rfl)
theorem dX3_readsThing_55 : decode cX3_readsThing 55 = .ok (.aload_n 0, 1) := dk_42 (dk_at dksX3_readsThing_2 11 rfl rfl)
theorem dX3_readsThing_56 : decode cX3_readsThing 56 = .ok (.getfield 61, 3) := dk_180 0 61 (dk_at dksX3_readsThing_2 12 rfl rfl)
theorem dX3_readsThing_59 : decode cX3_readsThing 59 = .ok (.iconst 4, 1) := dk_7 (dk_at dksX3_readsThing_2 15 rfl rfl)
theorem dX3_readsThing_60 : decode cX3_readsThing 60 = .ok (.dup2, 1) := dk_92 (dk_at dksX3_readsThing_2 16 rfl rfl)
theorem dX3_readsThing_61 : decode cX3_readsThing 61 = .ok (.iaload, 1) := dk_46 (dk_at dksX3_readsThing_2 17 rfl rfl)
theorem dX3_readsThing_62 : decode cX3_readsThing 62 = .ok (.iload_n 3, 1) := dk_29 (dk_at dksX3_readsThing_2 18 rfl rfl)
theorem dX3_readsThing_63 : decode cX3_readsThing 63 = .ok (.iadd, 1) := dk_96 (dk_at dksX3_readsThing_2 19 rfl rfl)
theorem dX3_readsThing_64 : decode cX3_readsThing 64 = .ok (.iastore, 1) := dk_79 (dk_at dksX3_readsThing_2 20 rfl rfl)
theorem dX3_readsThing_65 : decode cX3_readsThing 65 = .ok (.aload_n 0, 1) := dk_42 (dk_at dksX3_readsThing_2 21 rfl rfl)
theorem dX3_readsThing_66 : decode cX3_readsThing 66 = .ok (.getfield 61, 3) := dk_180 0 61 (dk_at dksX3_readsThing_3 0 rfl rfl)
theorem dX3_readsThing_69 : decode cX3_readsThing 69 = .ok (.iconst 3, 1) := dk_6 (dk_at dksX3_readsThing_3 3 rfl rfl)
theorem dX3_readsThing_70 : decode cX3_readsThing 70 = .ok (.dup2, 1) := dk_92 (dk_at dksX3_readsThing_3 4 rfl rfl)
theorem dX3_readsThing_71 : decode cX3_readsThing 71 = .ok (.iaload, 1) := dk_46 (dk_at dksX3_readsThing_3 5 rfl rfl)
theorem dX3_readsThing_72 : decode cX3_readsThing 72 = .ok (.iconst 1, 1) := dk_4 (dk_at dksX3_readsThing_3 6 rfl rfl)
theorem dX3_readsThing_73 : decode cX3_readsThing 73 = .ok (.iadd, 1) := dk_96 (dk_at dksX3_readsThing_3 7 rfl rfl)
theorem dX3_readsThing_74 : decode cX3_readsThing 74 = .ok (.iastore, 1) := dk_79 (dk_at dksX3_readsThing_3 8 rfl rfl)
theorem dX3_readsThing_75 : decode cX3_readsThing 75 = .ok (.aload_n 0, 1) := dk_42 (dk_at dksX3_readsThing_3 9 rfl rfl)
theorem dX3_readsThing_76 : decode cX3_readsThing 76 = .ok (.getfield 64, 3) := dk_180 0 64 (dk_at dksX3_readsThing_3 10 rfl rfl)
theorem dX3_readsThing_79 : decode cX3_readsThing 79 = .ok (.iload_n 1, 1) := dk_27 (dk_at dksX3_readsThing_3 13 rfl rfl)
theorem dX3_readsThing_80 : decode cX3_readsThing 80 = .ok (.iconst 1, 1) := dk_4 (dk_at dksX3_readsThing_3 14 rfl rfl)
theorem dX3_readsThing_81 : decode cX3_readsThing 81 = .ok (.iadd, 1) := dk_96 (dk_at dksX3_readsThing_3 15 rfl rfl)
theorem dX3_readsThing_82 : decode cX3_readsThing 82 = .ok (.aload_n 0, 1) := dk_42 (dk_at dksX3_readsThing_3 16 rfl rfl)
theorem dX3_readsThing_83 : decode cX3_readsThing 83 = .ok (.getfield 61, 3) := dk_180 0 61 (dk_at dksX3_readsThing_3 17 rfl rfl)
theorem dX3_readsThing_86 : decode cX3_readsThing 86 = .ok (.iconst 4, 1) := dk_7 (dk_at dksX3_readsThing_3 20 rfl rfl)
theorem dX3_readsThing_87 : decode cX3_readsThing 87 = .ok (.iaload, 1) := dk_46 (dk_at dksX3_readsThing_3 21 rfl rfl)
theorem dX3_readsThing_88 : decode cX3_readsThing 88 = .ok (.iastore, 1) := dk_79 (dk_at dksX3_readsThing_3 22 rfl rfl)
theorem dX3_readsThing_89 : decode cX3_readsThing 89 = .ok (.return_, 1) := dk_177 (dk_at dksX3_readsThing_3 23 rfl rfl)
abbrev cX3_readsCoat : ByteArray := prog_17_method_35_code
def yX3_readsCoat : MethodName := ⟨RX3, "readsCoat", "()V"⟩
def dkwX3_readsCoat_4 : List UInt8 := [27, 104, 42, 180, 0, 82, 27, 46, 96, 28, 79, 42, 180, 0, 82, 27, 92, 46, 4, 96, 79, 177]
abbrev dktX3_readsCoat_4 : List UInt8 := dkwX3_readsCoat_4 ++ []
def dkwX3_readsCoat_3 : List UInt8 := [96, 46, 79, 132, 3, 1, 167, 255, 226, 42, 180, 0, 82, 27, 92, 46, 4, 100, 79, 42, 180, 0, 85, 8]
abbrev dktX3_readsCoat_3 : List UInt8 := dkwX3_readsCoat_3 ++ dktX3_readsCoat_4
def dkwX3_readsCoat_2 : List UInt8 := [29, 8, 162, 0, 31, 42, 180, 0, 85, 8, 27, 104, 29, 96, 4, 100, 42, 180, 0, 85, 8, 27, 104, 29]
abbrev dktX3_readsCoat_2 : List UInt8 := dkwX3_readsCoat_2 ++ dktX3_readsCoat_3
def dkwX3_readsCoat_1 : List UInt8 := [182, 1, 47, 61, 42, 180, 0, 199, 158, 0, 4, 177, 42, 180, 0, 82, 27, 46, 8, 160, 0, 48, 4, 62]
abbrev dktX3_readsCoat_1 : List UInt8 := dkwX3_readsCoat_1 ++ dktX3_readsCoat_2
def dkwX3_readsCoat_0 : List UInt8 := [42, 3, 42, 180, 0, 61, 7, 46, 4, 100, 182, 1, 47, 60, 42, 3, 42, 180, 0, 61, 8, 46, 4, 100]
abbrev dktX3_readsCoat_0 : List UInt8 := dkwX3_readsCoat_0 ++ dktX3_readsCoat_1
theorem dksX3_readsCoat_0 : cX3_readsCoat.data.toList.drop 0 = dktX3_readsCoat_0 := by decide +kernel
theorem dksX3_readsCoat_1 : cX3_readsCoat.data.toList.drop 24 = dktX3_readsCoat_1 := dk_seg dksX3_readsCoat_0 24 rfl rfl
theorem dksX3_readsCoat_2 : cX3_readsCoat.data.toList.drop 48 = dktX3_readsCoat_2 := dk_seg dksX3_readsCoat_1 24 rfl rfl
theorem dksX3_readsCoat_3 : cX3_readsCoat.data.toList.drop 72 = dktX3_readsCoat_3 := dk_seg dksX3_readsCoat_2 24 rfl rfl
theorem dksX3_readsCoat_4 : cX3_readsCoat.data.toList.drop 96 = dktX3_readsCoat_4 := dk_seg dksX3_readsCoat_3 24 rfl rfl
theorem dX3_readsCoat_0 : decode cX3_readsCoat 0 = .ok (.aload_n 0, 1) := dk_42 (dk_at dksX3_readsCoat_0 0 rfl rfl)
theorem dX3_readsCoat_1 : decode cX3_readsCoat 1 = .ok (.iconst 0, 1) := dk_3 (dk_at dksX3_readsCoat_0 1 rfl rfl)
theorem dX3_readsCoat_2 : decode cX3_readsCoat 2 = .ok (.aload_n 0, 1) := dk_42 (dk_at dksX3_readsCoat_0 2 rfl rfl)
theorem dX3_readsCoat_3 : decode cX3_readsCoat 3 = .ok (.getfield 61, 3) := dk_180 0 61 (dk_at dksX3_readsCoat_0 3 rfl rfl)
theorem dX3_readsCoat_6 : decode cX3_readsCoat 6 = .ok (.iconst 4, 1) := dk_7 (dk_at dksX3_readsCoat_0 6 rfl rfl)
theorem dX3_readsCoat_7 : decode cX3_readsCoat 7 = .ok (.iaload, 1) := dk_46 (dk_at dksX3_readsCoat_0 7 rfl rfl)
theorem dX3_readsCoat_8 : decode cX3_readsCoat 8 = .ok (.iconst 1, 1) := dk_4 (dk_at dksX3_readsCoat_0 8 rfl rfl)
theorem dX3_readsCoat_9 : decode cX3_readsCoat 9 = .ok (.isub, 1) := dk_100 (dk_at dksX3_readsCoat_0 9 rfl rfl)
theorem dX3_readsCoat_10 : decode cX3_readsCoat 10 = .ok (.invokevirtual 303, 3) := dk_182 1 47 (dk_at dksX3_readsCoat_0 10 rfl rfl)
theorem dX3_readsCoat_13 : decode cX3_readsCoat 13 = .ok (.istore_n 1, 1) := dk_60 (dk_at dksX3_readsCoat_0 13 rfl rfl)
theorem dX3_readsCoat_14 : decode cX3_readsCoat 14 = .ok (.aload_n 0, 1) := dk_42 (dk_at dksX3_readsCoat_0 14 rfl rfl)
theorem dX3_readsCoat_15 : decode cX3_readsCoat 15 = .ok (.iconst 0, 1) := dk_3 (dk_at dksX3_readsCoat_0 15 rfl rfl)
theorem dX3_readsCoat_16 : decode cX3_readsCoat 16 = .ok (.aload_n 0, 1) := dk_42 (dk_at dksX3_readsCoat_0 16 rfl rfl)
theorem dX3_readsCoat_17 : decode cX3_readsCoat 17 = .ok (.getfield 61, 3) := dk_180 0 61 (dk_at dksX3_readsCoat_0 17 rfl rfl)
theorem dX3_readsCoat_20 : decode cX3_readsCoat 20 = .ok (.iconst 5, 1) := dk_8 (dk_at dksX3_readsCoat_0 20 rfl rfl)
theorem dX3_readsCoat_21 : decode cX3_readsCoat 21 = .ok (.iaload, 1) := dk_46 (dk_at dksX3_readsCoat_0 21 rfl rfl)
theorem dX3_readsCoat_22 : decode cX3_readsCoat 22 = .ok (.iconst 1, 1) := dk_4 (dk_at dksX3_readsCoat_0 22 rfl rfl)
theorem dX3_readsCoat_23 : decode cX3_readsCoat 23 = .ok (.isub, 1) := dk_100 (dk_at dksX3_readsCoat_0 23 rfl rfl)
theorem dX3_readsCoat_24 : decode cX3_readsCoat 24 = .ok (.invokevirtual 303, 3) := dk_182 1 47 (dk_at dksX3_readsCoat_1 0 rfl rfl)
theorem dX3_readsCoat_27 : decode cX3_readsCoat 27 = .ok (.istore_n 2, 1) := dk_61 (dk_at dksX3_readsCoat_1 3 rfl rfl)
theorem dX3_readsCoat_28 : decode cX3_readsCoat 28 = .ok (.aload_n 0, 1) := dk_42 (dk_at dksX3_readsCoat_1 4 rfl rfl)
theorem dX3_readsCoat_29 : decode cX3_readsCoat 29 = .ok (.getfield 199, 3) := dk_180 0 199 (dk_at dksX3_readsCoat_1 5 rfl rfl)
theorem dX3_readsCoat_32 : decode cX3_readsCoat 32 = .ok (.ifCond .le 4, 3) := dk_158 0 4 (dk_at dksX3_readsCoat_1 8 rfl rfl)
theorem dX3_readsCoat_35 : decode cX3_readsCoat 35 = .ok (.return_, 1) := dk_177 (dk_at dksX3_readsCoat_1 11 rfl rfl)
theorem dX3_readsCoat_36 : decode cX3_readsCoat 36 = .ok (.aload_n 0, 1) := dk_42 (dk_at dksX3_readsCoat_1 12 rfl rfl)
theorem dX3_readsCoat_37 : decode cX3_readsCoat 37 = .ok (.getfield 82, 3) := dk_180 0 82 (dk_at dksX3_readsCoat_1 13 rfl rfl)
theorem dX3_readsCoat_40 : decode cX3_readsCoat 40 = .ok (.iload_n 1, 1) := dk_27 (dk_at dksX3_readsCoat_1 16 rfl rfl)
theorem dX3_readsCoat_41 : decode cX3_readsCoat 41 = .ok (.iaload, 1) := dk_46 (dk_at dksX3_readsCoat_1 17 rfl rfl)
theorem dX3_readsCoat_42 : decode cX3_readsCoat 42 = .ok (.iconst 5, 1) := dk_8 (dk_at dksX3_readsCoat_1 18 rfl rfl)
theorem dX3_readsCoat_43 : decode cX3_readsCoat 43 = .ok (.if_icmp .ne 48, 3) := dk_160 0 48 (dk_at dksX3_readsCoat_1 19 rfl rfl)
theorem dX3_readsCoat_46 : decode cX3_readsCoat 46 = .ok (.iconst 1, 1) := dk_4 (dk_at dksX3_readsCoat_1 22 rfl rfl)
theorem dX3_readsCoat_47 : decode cX3_readsCoat 47 = .ok (.istore_n 3, 1) := dk_62 (dk_at dksX3_readsCoat_1 23 rfl rfl)
theorem dX3_readsCoat_48 : decode cX3_readsCoat 48 = .ok (.iload_n 3, 1) := dk_29 (dk_at dksX3_readsCoat_2 0 rfl rfl)
theorem dX3_readsCoat_49 : decode cX3_readsCoat 49 = .ok (.iconst 5, 1) := dk_8 (dk_at dksX3_readsCoat_2 1 rfl rfl)
theorem dX3_readsCoat_50 : decode cX3_readsCoat 50 = .ok (.if_icmp .ge 31, 3) := dk_162 0 31 (dk_at dksX3_readsCoat_2 2 rfl rfl)
theorem dX3_readsCoat_53 : decode cX3_readsCoat 53 = .ok (.aload_n 0, 1) := dk_42 (dk_at dksX3_readsCoat_2 5 rfl rfl)
theorem dX3_readsCoat_54 : decode cX3_readsCoat 54 = .ok (.getfield 85, 3) := dk_180 0 85 (dk_at dksX3_readsCoat_2 6 rfl rfl)
theorem dX3_readsCoat_57 : decode cX3_readsCoat 57 = .ok (.iconst 5, 1) := dk_8 (dk_at dksX3_readsCoat_2 9 rfl rfl)
theorem dX3_readsCoat_58 : decode cX3_readsCoat 58 = .ok (.iload_n 1, 1) := dk_27 (dk_at dksX3_readsCoat_2 10 rfl rfl)
theorem dX3_readsCoat_59 : decode cX3_readsCoat 59 = .ok (.imul, 1) := dk_104 (dk_at dksX3_readsCoat_2 11 rfl rfl)
theorem dX3_readsCoat_60 : decode cX3_readsCoat 60 = .ok (.iload_n 3, 1) := dk_29 (dk_at dksX3_readsCoat_2 12 rfl rfl)
theorem dX3_readsCoat_61 : decode cX3_readsCoat 61 = .ok (.iadd, 1) := dk_96 (dk_at dksX3_readsCoat_2 13 rfl rfl)
theorem dX3_readsCoat_62 : decode cX3_readsCoat 62 = .ok (.iconst 1, 1) := dk_4 (dk_at dksX3_readsCoat_2 14 rfl rfl)
theorem dX3_readsCoat_63 : decode cX3_readsCoat 63 = .ok (.isub, 1) := dk_100 (dk_at dksX3_readsCoat_2 15 rfl rfl)
theorem dX3_readsCoat_64 : decode cX3_readsCoat 64 = .ok (.aload_n 0, 1) := dk_42 (dk_at dksX3_readsCoat_2 16 rfl rfl)
theorem dX3_readsCoat_65 : decode cX3_readsCoat 65 = .ok (.getfield 85, 3) := dk_180 0 85 (dk_at dksX3_readsCoat_2 17 rfl rfl)
theorem dX3_readsCoat_68 : decode cX3_readsCoat 68 = .ok (.iconst 5, 1) := dk_8 (dk_at dksX3_readsCoat_2 20 rfl rfl)
theorem dX3_readsCoat_69 : decode cX3_readsCoat 69 = .ok (.iload_n 1, 1) := dk_27 (dk_at dksX3_readsCoat_2 21 rfl rfl)
theorem dX3_readsCoat_70 : decode cX3_readsCoat 70 = .ok (.imul, 1) := dk_104 (dk_at dksX3_readsCoat_2 22 rfl rfl)
theorem dX3_readsCoat_71 : decode cX3_readsCoat 71 = .ok (.iload_n 3, 1) := dk_29 (dk_at dksX3_readsCoat_2 23 rfl rfl)
theorem dX3_readsCoat_72 : decode cX3_readsCoat 72 = .ok (.iadd, 1) := dk_96 (dk_at dksX3_readsCoat_3 0 rfl rfl)
theorem dX3_readsCoat_73 : decode cX3_readsCoat 73 = .ok (.iaload, 1) := dk_46 (dk_at dksX3_readsCoat_3 1 rfl rfl)
theorem dX3_readsCoat_74 : decode cX3_readsCoat 74 = .ok (.iastore, 1) := dk_79 (dk_at dksX3_readsCoat_3 2 rfl rfl)
theorem dX3_readsCoat_75 : decode cX3_readsCoat 75 = .ok (.iinc 3 1, 3) := dk_132 3 1 (dk_at dksX3_readsCoat_3 3 rfl rfl)
theorem dX3_readsCoat_78 : decode cX3_readsCoat 78 = .ok (.goto (-30), 3) := dk_167 255 226 (dk_at dksX3_readsCoat_3 6 rfl rfl)
theorem dX3_readsCoat_81 : decode cX3_readsCoat 81 = .ok (.aload_n 0, 1) := dk_42 (dk_at dksX3_readsCoat_3 9 rfl rfl)
theorem dX3_readsCoat_82 : decode cX3_readsCoat 82 = .ok (.getfield 82, 3) := dk_180 0 82 (dk_at dksX3_readsCoat_3 10 rfl rfl)
theorem dX3_readsCoat_85 : decode cX3_readsCoat 85 = .ok (.iload_n 1, 1) := dk_27 (dk_at dksX3_readsCoat_3 13 rfl rfl)
theorem dX3_readsCoat_86 : decode cX3_readsCoat 86 = .ok (.dup2, 1) := dk_92 (dk_at dksX3_readsCoat_3 14 rfl rfl)
theorem dX3_readsCoat_87 : decode cX3_readsCoat 87 = .ok (.iaload, 1) := dk_46 (dk_at dksX3_readsCoat_3 15 rfl rfl)
theorem dX3_readsCoat_88 : decode cX3_readsCoat 88 = .ok (.iconst 1, 1) := dk_4 (dk_at dksX3_readsCoat_3 16 rfl rfl)
theorem dX3_readsCoat_89 : decode cX3_readsCoat 89 = .ok (.isub, 1) := dk_100 (dk_at dksX3_readsCoat_3 17 rfl rfl)
theorem dX3_readsCoat_90 : decode cX3_readsCoat 90 = .ok (.iastore, 1) := dk_79 (dk_at dksX3_readsCoat_3 18 rfl rfl)
theorem dX3_readsCoat_91 : decode cX3_readsCoat 91 = .ok (.aload_n 0, 1) := dk_42 (dk_at dksX3_readsCoat_3 19 rfl rfl)
theorem dX3_readsCoat_92 : decode cX3_readsCoat 92 = .ok (.getfield 85, 3) := dk_180 0 85 (dk_at dksX3_readsCoat_3 20 rfl rfl)
theorem dX3_readsCoat_95 : decode cX3_readsCoat 95 = .ok (.iconst 5, 1) := dk_8 (dk_at dksX3_readsCoat_3 23 rfl rfl)
theorem dX3_readsCoat_96 : decode cX3_readsCoat 96 = .ok (.iload_n 1, 1) := dk_27 (dk_at dksX3_readsCoat_4 0 rfl rfl)
theorem dX3_readsCoat_97 : decode cX3_readsCoat 97 = .ok (.imul, 1) := dk_104 (dk_at dksX3_readsCoat_4 1 rfl rfl)
theorem dX3_readsCoat_98 : decode cX3_readsCoat 98 = .ok (.aload_n 0, 1) := dk_42 (dk_at dksX3_readsCoat_4 2 rfl rfl)
theorem dX3_readsCoat_99 : decode cX3_readsCoat 99 = .ok (.getfield 82, 3) := dk_180 0 82 (dk_at dksX3_readsCoat_4 3 rfl rfl)
theorem dX3_readsCoat_102 : decode cX3_readsCoat 102 = .ok (.iload_n 1, 1) := dk_27 (dk_at dksX3_readsCoat_4 6 rfl rfl)
theorem dX3_readsCoat_103 : decode cX3_readsCoat 103 = .ok (.iaload, 1) := dk_46 (dk_at dksX3_readsCoat_4 7 rfl rfl)
theorem dX3_readsCoat_104 : decode cX3_readsCoat 104 = .ok (.iadd, 1) := dk_96 (dk_at dksX3_readsCoat_4 8 rfl rfl)
theorem dX3_readsCoat_105 : decode cX3_readsCoat 105 = .ok (.iload_n 2, 1) := dk_28 (dk_at dksX3_readsCoat_4 9 rfl rfl)
theorem dX3_readsCoat_106 : decode cX3_readsCoat 106 = .ok (.iastore, 1) := dk_79 (dk_at dksX3_readsCoat_4 10 rfl rfl)
theorem dX3_readsCoat_107 : decode cX3_readsCoat 107 = .ok (.aload_n 0, 1) := dk_42 (dk_at dksX3_readsCoat_4 11 rfl rfl)
theorem dX3_readsCoat_108 : decode cX3_readsCoat 108 = .ok (.getfield 82, 3) := dk_180 0 82 (dk_at dksX3_readsCoat_4 12 rfl rfl)
theorem dX3_readsCoat_111 : decode cX3_readsCoat 111 = .ok (.iload_n 1, 1) := dk_27 (dk_at dksX3_readsCoat_4 15 rfl rfl)
theorem dX3_readsCoat_112 : decode cX3_readsCoat 112 = .ok (.dup2, 1) := dk_92 (dk_at dksX3_readsCoat_4 16 rfl rfl)
theorem dX3_readsCoat_113 : decode cX3_readsCoat 113 = .ok (.iaload, 1) := dk_46 (dk_at dksX3_readsCoat_4 17 rfl rfl)
theorem dX3_readsCoat_114 : decode cX3_readsCoat 114 = .ok (.iconst 1, 1) := dk_4 (dk_at dksX3_readsCoat_4 18 rfl rfl)
theorem dX3_readsCoat_115 : decode cX3_readsCoat 115 = .ok (.iadd, 1) := dk_96 (dk_at dksX3_readsCoat_4 19 rfl rfl)
theorem dX3_readsCoat_116 : decode cX3_readsCoat 116 = .ok (.iastore, 1) := dk_79 (dk_at dksX3_readsCoat_4 20 rfl rfl)
theorem dX3_readsCoat_117 : decode cX3_readsCoat 117 = .ok (.return_, 1) := dk_177 (dk_at dksX3_readsCoat_4 21 rfl rfl)
abbrev cX3_goesOn : ByteArray := prog_17_method_40_code
def yX3_goesOn : MethodName := ⟨RX3, "goesOn", "()Z"⟩
def dkwX3_goesOn_3 : List UInt8 := [181, 0, 202, 27, 172]
abbrev dktX3_goesOn_3 : List UInt8 := dkwX3_goesOn_3 ++ []
def dkwX3_goesOn_2 : List UInt8 := [42, 180, 0, 202, 42, 180, 0, 168, 162, 0, 7, 4, 167, 0, 4, 3, 60, 42, 89, 180, 0, 202, 4, 96]
abbrev dktX3_goesOn_2 : List UInt8 := dkwX3_goesOn_2 ++ dktX3_goesOn_3
def dkwX3_goesOn_1 : List UInt8 := [182, 0, 205, 16, 59, 159, 0, 12, 42, 3, 42, 180, 0, 202, 182, 0, 238, 42, 180, 0, 199, 154, 0, 18]
abbrev dktX3_goesOn_1 : List UInt8 := dkwX3_goesOn_1 ++ dktX3_goesOn_2
def dkwX3_goesOn_0 : List UInt8 := [42, 182, 0, 222, 42, 180, 0, 199, 154, 0, 32, 42, 180, 0, 202, 42, 180, 0, 168, 162, 0, 21, 42]
abbrev dktX3_goesOn_0 : List UInt8 := dkwX3_goesOn_0 ++ dktX3_goesOn_1
theorem dksX3_goesOn_0 : cX3_goesOn.data.toList.drop 0 = dktX3_goesOn_0 := by decide +kernel
theorem dksX3_goesOn_1 : cX3_goesOn.data.toList.drop 23 = dktX3_goesOn_1 := dk_seg dksX3_goesOn_0 23 rfl rfl
theorem dksX3_goesOn_2 : cX3_goesOn.data.toList.drop 47 = dktX3_goesOn_2 := dk_seg dksX3_goesOn_1 24 rfl rfl
theorem dksX3_goesOn_3 : cX3_goesOn.data.toList.drop 71 = dktX3_goesOn_3 := dk_seg dksX3_goesOn_2 24 rfl rfl
theorem dX3_goesOn_0 : decode cX3_goesOn 0 = .ok (.aload_n 0, 1) := dk_42 (dk_at dksX3_goesOn_0 0 rfl rfl)
theorem dX3_goesOn_1 : decode cX3_goesOn 1 = .ok (.invokevirtual 222, 3) := dk_182 0 222 (dk_at dksX3_goesOn_0 1 rfl rfl)
theorem dX3_goesOn_4 : decode cX3_goesOn 4 = .ok (.aload_n 0, 1) := dk_42 (dk_at dksX3_goesOn_0 4 rfl rfl)
theorem dX3_goesOn_5 : decode cX3_goesOn 5 = .ok (.getfield 199, 3) := dk_180 0 199 (dk_at dksX3_goesOn_0 5 rfl rfl)
theorem dX3_goesOn_8 : decode cX3_goesOn 8 = .ok (.ifCond .ne 32, 3) := dk_154 0 32 (dk_at dksX3_goesOn_0 8 rfl rfl)
theorem dX3_goesOn_11 : decode cX3_goesOn 11 = .ok (.aload_n 0, 1) := dk_42 (dk_at dksX3_goesOn_0 11 rfl rfl)
theorem dX3_goesOn_12 : decode cX3_goesOn 12 = .ok (.getfield 202, 3) := dk_180 0 202 (dk_at dksX3_goesOn_0 12 rfl rfl)
theorem dX3_goesOn_15 : decode cX3_goesOn 15 = .ok (.aload_n 0, 1) := dk_42 (dk_at dksX3_goesOn_0 15 rfl rfl)
theorem dX3_goesOn_16 : decode cX3_goesOn 16 = .ok (.getfield 168, 3) := dk_180 0 168 (dk_at dksX3_goesOn_0 16 rfl rfl)
theorem dX3_goesOn_19 : decode cX3_goesOn 19 = .ok (.if_icmp .ge 21, 3) := dk_162 0 21 (dk_at dksX3_goesOn_0 19 rfl rfl)
theorem dX3_goesOn_22 : decode cX3_goesOn 22 = .ok (.aload_n 0, 1) := dk_42 (dk_at dksX3_goesOn_0 22 rfl rfl)
theorem dX3_goesOn_23 : decode cX3_goesOn 23 = .ok (.invokevirtual 205, 3) := dk_182 0 205 (dk_at dksX3_goesOn_1 0 rfl rfl)
theorem dX3_goesOn_26 : decode cX3_goesOn 26 = .ok (.bipush 59, 2) := dk_16 59 (dk_at dksX3_goesOn_1 3 rfl rfl)
theorem dX3_goesOn_28 : decode cX3_goesOn 28 = .ok (.if_icmp .eq 12, 3) := dk_159 0 12 (dk_at dksX3_goesOn_1 5 rfl rfl)
theorem dX3_goesOn_31 : decode cX3_goesOn 31 = .ok (.aload_n 0, 1) := dk_42 (dk_at dksX3_goesOn_1 8 rfl rfl)
theorem dX3_goesOn_32 : decode cX3_goesOn 32 = .ok (.iconst 0, 1) := dk_3 (dk_at dksX3_goesOn_1 9 rfl rfl)
theorem dX3_goesOn_33 : decode cX3_goesOn 33 = .ok (.aload_n 0, 1) := dk_42 (dk_at dksX3_goesOn_1 10 rfl rfl)
theorem dX3_goesOn_34 : decode cX3_goesOn 34 = .ok (.getfield 202, 3) := dk_180 0 202 (dk_at dksX3_goesOn_1 11 rfl rfl)
theorem dX3_goesOn_37 : decode cX3_goesOn 37 = .ok (.invokevirtual 238, 3) := dk_182 0 238 (dk_at dksX3_goesOn_1 14 rfl rfl)
theorem dX3_goesOn_40 : decode cX3_goesOn 40 = .ok (.aload_n 0, 1) := dk_42 (dk_at dksX3_goesOn_1 17 rfl rfl)
theorem dX3_goesOn_41 : decode cX3_goesOn 41 = .ok (.getfield 199, 3) := dk_180 0 199 (dk_at dksX3_goesOn_1 18 rfl rfl)
theorem dX3_goesOn_44 : decode cX3_goesOn 44 = .ok (.ifCond .ne 18, 3) := dk_154 0 18 (dk_at dksX3_goesOn_1 21 rfl rfl)
theorem dX3_goesOn_47 : decode cX3_goesOn 47 = .ok (.aload_n 0, 1) := dk_42 (dk_at dksX3_goesOn_2 0 rfl rfl)
theorem dX3_goesOn_48 : decode cX3_goesOn 48 = .ok (.getfield 202, 3) := dk_180 0 202 (dk_at dksX3_goesOn_2 1 rfl rfl)
theorem dX3_goesOn_51 : decode cX3_goesOn 51 = .ok (.aload_n 0, 1) := dk_42 (dk_at dksX3_goesOn_2 4 rfl rfl)
theorem dX3_goesOn_52 : decode cX3_goesOn 52 = .ok (.getfield 168, 3) := dk_180 0 168 (dk_at dksX3_goesOn_2 5 rfl rfl)
theorem dX3_goesOn_55 : decode cX3_goesOn 55 = .ok (.if_icmp .ge 7, 3) := dk_162 0 7 (dk_at dksX3_goesOn_2 8 rfl rfl)
theorem dX3_goesOn_58 : decode cX3_goesOn 58 = .ok (.iconst 1, 1) := dk_4 (dk_at dksX3_goesOn_2 11 rfl rfl)
theorem dX3_goesOn_59 : decode cX3_goesOn 59 = .ok (.goto 4, 3) := dk_167 0 4 (dk_at dksX3_goesOn_2 12 rfl rfl)
theorem dX3_goesOn_62 : decode cX3_goesOn 62 = .ok (.iconst 0, 1) := dk_3 (dk_at dksX3_goesOn_2 15 rfl rfl)
theorem dX3_goesOn_63 : decode cX3_goesOn 63 = .ok (.istore_n 1, 1) := dk_60 (dk_at dksX3_goesOn_2 16 rfl rfl)
theorem dX3_goesOn_64 : decode cX3_goesOn 64 = .ok (.aload_n 0, 1) := dk_42 (dk_at dksX3_goesOn_2 17 rfl rfl)
theorem dX3_goesOn_65 : decode cX3_goesOn 65 = .ok (.dup, 1) := dk_89 (dk_at dksX3_goesOn_2 18 rfl rfl)
theorem dX3_goesOn_66 : decode cX3_goesOn 66 = .ok (.getfield 202, 3) := dk_180 0 202 (dk_at dksX3_goesOn_2 19 rfl rfl)
theorem dX3_goesOn_69 : decode cX3_goesOn 69 = .ok (.iconst 1, 1) := dk_4 (dk_at dksX3_goesOn_2 22 rfl rfl)
theorem dX3_goesOn_70 : decode cX3_goesOn 70 = .ok (.iadd, 1) := dk_96 (dk_at dksX3_goesOn_2 23 rfl rfl)
theorem dX3_goesOn_71 : decode cX3_goesOn 71 = .ok (.putfield 202, 3) := dk_181 0 202 (dk_at dksX3_goesOn_3 0 rfl rfl)
theorem dX3_goesOn_74 : decode cX3_goesOn 74 = .ok (.iload_n 1, 1) := dk_27 (dk_at dksX3_goesOn_3 3 rfl rfl)
theorem dX3_goesOn_75 : decode cX3_goesOn 75 = .ok (.ireturn, 1) := dk_172 (dk_at dksX3_goesOn_3 4 rfl rfl)
abbrev cX3_copies : ByteArray := prog_17_method_39_code
def yX3_copies : MethodName := ⟨RX3, "copies", "([I[I)V"⟩
def dkwX3_copies_0 : List UInt8 := [3, 61, 28, 42, 190, 162, 0, 15, 43, 28, 42, 28, 46, 79, 132, 2, 1, 167, 255, 241, 177]
abbrev dktX3_copies_0 : List UInt8 := dkwX3_copies_0 ++ []
theorem dksX3_copies_0 : cX3_copies.data.toList.drop 0 = dktX3_copies_0 := by decide +kernel
theorem dX3_copies_0 : decode cX3_copies 0 = .ok (.iconst 0, 1) := dk_3 (dk_at dksX3_copies_0 0 rfl rfl)
theorem dX3_copies_1 : decode cX3_copies 1 = .ok (.istore_n 2, 1) := dk_61 (dk_at dksX3_copies_0 1 rfl rfl)
theorem dX3_copies_2 : decode cX3_copies 2 = .ok (.iload_n 2, 1) := dk_28 (dk_at dksX3_copies_0 2 rfl rfl)
theorem dX3_copies_3 : decode cX3_copies 3 = .ok (.aload_n 0, 1) := dk_42 (dk_at dksX3_copies_0 3 rfl rfl)
theorem dX3_copies_4 : decode cX3_copies 4 = .ok (.arraylength, 1) := dk_190 (dk_at dksX3_copies_0 4 rfl rfl)
theorem dX3_copies_5 : decode cX3_copies 5 = .ok (.if_icmp .ge 15, 3) := dk_162 0 15 (dk_at dksX3_copies_0 5 rfl rfl)
theorem dX3_copies_8 : decode cX3_copies 8 = .ok (.aload_n 1, 1) := dk_43 (dk_at dksX3_copies_0 8 rfl rfl)
theorem dX3_copies_9 : decode cX3_copies 9 = .ok (.iload_n 2, 1) := dk_28 (dk_at dksX3_copies_0 9 rfl rfl)
theorem dX3_copies_10 : decode cX3_copies 10 = .ok (.aload_n 0, 1) := dk_42 (dk_at dksX3_copies_0 10 rfl rfl)
theorem dX3_copies_11 : decode cX3_copies 11 = .ok (.iload_n 2, 1) := dk_28 (dk_at dksX3_copies_0 11 rfl rfl)
theorem dX3_copies_12 : decode cX3_copies 12 = .ok (.iaload, 1) := dk_46 (dk_at dksX3_copies_0 12 rfl rfl)
theorem dX3_copies_13 : decode cX3_copies 13 = .ok (.iastore, 1) := dk_79 (dk_at dksX3_copies_0 13 rfl rfl)
theorem dX3_copies_14 : decode cX3_copies 14 = .ok (.iinc 2 1, 3) := dk_132 2 1 (dk_at dksX3_copies_0 14 rfl rfl)
theorem dX3_copies_17 : decode cX3_copies 17 = .ok (.goto (-15), 3) := dk_167 255 241 (dk_at dksX3_copies_0 17 rfl rfl)
theorem dX3_copies_20 : decode cX3_copies 20 = .ok (.return_, 1) := dk_177 (dk_at dksX3_copies_0 20 rfl rfl)
abbrev cX3_begins : ByteArray := prog_17_method_43_code
def yX3_begins : MethodName := ⟨RX3, "begins", "()V"⟩
def dkwX3_begins_4 : List UInt8 := [42, 27, 182, 1, 84, 87, 132, 1, 1, 167, 255, 229, 177]
abbrev dktX3_begins_4 : List UInt8 := dkwX3_begins_4 ++ []
def dkwX3_begins_3 : List UInt8 := [16, 9, 3, 79, 3, 60, 27, 42, 180, 0, 9, 6, 46, 162, 0, 23, 42, 27, 182, 1, 80, 153, 0, 9]
abbrev dktX3_begins_3 : List UInt8 := dkwX3_begins_3 ++ dktX3_begins_4
def dkwX3_begins_2 : List UInt8 := [79, 132, 1, 1, 167, 255, 240, 42, 180, 0, 9, 16, 8, 42, 180, 0, 58, 3, 46, 79, 42, 180, 0, 9]
abbrev dktX3_begins_2 : List UInt8 := dkwX3_begins_2 ++ dktX3_begins_3
def dkwX3_begins_1 : List UInt8 := [180, 0, 55, 42, 180, 0, 22, 184, 1, 76, 3, 60, 27, 16, 80, 162, 0, 16, 42, 180, 0, 37, 27, 2]
abbrev dktX3_begins_1 : List UInt8 := dkwX3_begins_1 ++ dktX3_begins_2
def dkwX3_begins_0 : List UInt8 := [42, 180, 0, 49, 42, 180, 0, 31, 184, 1, 76, 42, 180, 0, 52, 42, 180, 0, 34, 184, 1, 76, 42]
abbrev dktX3_begins_0 : List UInt8 := dkwX3_begins_0 ++ dktX3_begins_1
theorem dksX3_begins_0 : cX3_begins.data.toList.drop 0 = dktX3_begins_0 := by decide +kernel
theorem dksX3_begins_1 : cX3_begins.data.toList.drop 23 = dktX3_begins_1 := dk_seg dksX3_begins_0 23 rfl rfl
theorem dksX3_begins_2 : cX3_begins.data.toList.drop 47 = dktX3_begins_2 := dk_seg dksX3_begins_1 24 rfl rfl
theorem dksX3_begins_3 : cX3_begins.data.toList.drop 71 = dktX3_begins_3 := dk_seg dksX3_begins_2 24 rfl rfl
theorem dksX3_begins_4 : cX3_begins.data.toList.drop 95 = dktX3_begins_4 := dk_seg dksX3_begins_3 24 rfl rfl
theorem dX3_begins_0 : decode cX3_begins 0 = .ok (.aload_n 0, 1) := dk_42 (dk_at dksX3_begins_0 0 rfl rfl)
theorem dX3_begins_1 : decode cX3_begins 1 = .ok (.getfield 49, 3) := dk_180 0 49 (dk_at dksX3_begins_0 1 rfl rfl)
theorem dX3_begins_4 : decode cX3_begins 4 = .ok (.aload_n 0, 1) := dk_42 (dk_at dksX3_begins_0 4 rfl rfl)
theorem dX3_begins_5 : decode cX3_begins 5 = .ok (.getfield 31, 3) := dk_180 0 31 (dk_at dksX3_begins_0 5 rfl rfl)
theorem dX3_begins_8 : decode cX3_begins 8 = .ok (.invokestatic 332, 3) := dk_184 1 76 (dk_at dksX3_begins_0 8 rfl rfl)
theorem dX3_begins_11 : decode cX3_begins 11 = .ok (.aload_n 0, 1) := dk_42 (dk_at dksX3_begins_0 11 rfl rfl)
theorem dX3_begins_12 : decode cX3_begins 12 = .ok (.getfield 52, 3) := dk_180 0 52 (dk_at dksX3_begins_0 12 rfl rfl)
theorem dX3_begins_15 : decode cX3_begins 15 = .ok (.aload_n 0, 1) := dk_42 (dk_at dksX3_begins_0 15 rfl rfl)
theorem dX3_begins_16 : decode cX3_begins 16 = .ok (.getfield 34, 3) := dk_180 0 34 (dk_at dksX3_begins_0 16 rfl rfl)
theorem dX3_begins_19 : decode cX3_begins 19 = .ok (.invokestatic 332, 3) := dk_184 1 76 (dk_at dksX3_begins_0 19 rfl rfl)
theorem dX3_begins_22 : decode cX3_begins 22 = .ok (.aload_n 0, 1) := dk_42 (dk_at dksX3_begins_0 22 rfl rfl)
theorem dX3_begins_23 : decode cX3_begins 23 = .ok (.getfield 55, 3) := dk_180 0 55 (dk_at dksX3_begins_1 0 rfl rfl)
theorem dX3_begins_26 : decode cX3_begins 26 = .ok (.aload_n 0, 1) := dk_42 (dk_at dksX3_begins_1 3 rfl rfl)
theorem dX3_begins_27 : decode cX3_begins 27 = .ok (.getfield 22, 3) := dk_180 0 22 (dk_at dksX3_begins_1 4 rfl rfl)
theorem dX3_begins_30 : decode cX3_begins 30 = .ok (.invokestatic 332, 3) := dk_184 1 76 (dk_at dksX3_begins_1 7 rfl rfl)
theorem dX3_begins_33 : decode cX3_begins 33 = .ok (.iconst 0, 1) := dk_3 (dk_at dksX3_begins_1 10 rfl rfl)
theorem dX3_begins_34 : decode cX3_begins 34 = .ok (.istore_n 1, 1) := dk_60 (dk_at dksX3_begins_1 11 rfl rfl)
theorem dX3_begins_35 : decode cX3_begins 35 = .ok (.iload_n 1, 1) := dk_27 (dk_at dksX3_begins_1 12 rfl rfl)
theorem dX3_begins_36 : decode cX3_begins 36 = .ok (.bipush 80, 2) := dk_16 80 (dk_at dksX3_begins_1 13 rfl rfl)
theorem dX3_begins_38 : decode cX3_begins 38 = .ok (.if_icmp .ge 16, 3) := dk_162 0 16 (dk_at dksX3_begins_1 15 rfl rfl)
theorem dX3_begins_41 : decode cX3_begins 41 = .ok (.aload_n 0, 1) := dk_42 (dk_at dksX3_begins_1 18 rfl rfl)
theorem dX3_begins_42 : decode cX3_begins 42 = .ok (.getfield 37, 3) := dk_180 0 37 (dk_at dksX3_begins_1 19 rfl rfl)
theorem dX3_begins_45 : decode cX3_begins 45 = .ok (.iload_n 1, 1) := dk_27 (dk_at dksX3_begins_1 22 rfl rfl)
theorem dX3_begins_46 : decode cX3_begins 46 = .ok (.iconst (-1), 1) := dk_2 (dk_at dksX3_begins_1 23 rfl rfl)
theorem dX3_begins_47 : decode cX3_begins 47 = .ok (.iastore, 1) := dk_79 (dk_at dksX3_begins_2 0 rfl rfl)
theorem dX3_begins_48 : decode cX3_begins 48 = .ok (.iinc 1 1, 3) := dk_132 1 1 (dk_at dksX3_begins_2 1 rfl rfl)
theorem dX3_begins_51 : decode cX3_begins 51 = .ok (.goto (-16), 3) := dk_167 255 240 (dk_at dksX3_begins_2 4 rfl rfl)
theorem dX3_begins_54 : decode cX3_begins 54 = .ok (.aload_n 0, 1) := dk_42 (dk_at dksX3_begins_2 7 rfl rfl)
theorem dX3_begins_55 : decode cX3_begins 55 = .ok (.getfield 9, 3) := dk_180 0 9 (dk_at dksX3_begins_2 8 rfl rfl)
theorem dX3_begins_58 : decode cX3_begins 58 = .ok (.bipush 8, 2) := dk_16 8 (dk_at dksX3_begins_2 11 rfl rfl)
theorem dX3_begins_60 : decode cX3_begins 60 = .ok (.aload_n 0, 1) := dk_42 (dk_at dksX3_begins_2 13 rfl rfl)
theorem dX3_begins_61 : decode cX3_begins 61 = .ok (.getfield 58, 3) := dk_180 0 58 (dk_at dksX3_begins_2 14 rfl rfl)
theorem dX3_begins_64 : decode cX3_begins 64 = .ok (.iconst 0, 1) := dk_3 (dk_at dksX3_begins_2 17 rfl rfl)
theorem dX3_begins_65 : decode cX3_begins 65 = .ok (.iaload, 1) := dk_46 (dk_at dksX3_begins_2 18 rfl rfl)
theorem dX3_begins_66 : decode cX3_begins 66 = .ok (.iastore, 1) := dk_79 (dk_at dksX3_begins_2 19 rfl rfl)
theorem dX3_begins_67 : decode cX3_begins 67 = .ok (.aload_n 0, 1) := dk_42 (dk_at dksX3_begins_2 20 rfl rfl)
theorem dX3_begins_68 : decode cX3_begins 68 = .ok (.getfield 9, 3) := dk_180 0 9 (dk_at dksX3_begins_2 21 rfl rfl)
theorem dX3_begins_71 : decode cX3_begins 71 = .ok (.bipush 9, 2) := dk_16 9 (dk_at dksX3_begins_3 0 rfl rfl)
theorem dX3_begins_73 : decode cX3_begins 73 = .ok (.iconst 0, 1) := dk_3 (dk_at dksX3_begins_3 2 rfl rfl)
theorem dX3_begins_74 : decode cX3_begins 74 = .ok (.iastore, 1) := dk_79 (dk_at dksX3_begins_3 3 rfl rfl)
theorem dX3_begins_75 : decode cX3_begins 75 = .ok (.iconst 0, 1) := dk_3 (dk_at dksX3_begins_3 4 rfl rfl)
theorem dX3_begins_76 : decode cX3_begins 76 = .ok (.istore_n 1, 1) := dk_60 (dk_at dksX3_begins_3 5 rfl rfl)
theorem dX3_begins_77 : decode cX3_begins 77 = .ok (.iload_n 1, 1) := dk_27 (dk_at dksX3_begins_3 6 rfl rfl)
theorem dX3_begins_78 : decode cX3_begins 78 = .ok (.aload_n 0, 1) := dk_42 (dk_at dksX3_begins_3 7 rfl rfl)
theorem dX3_begins_79 : decode cX3_begins 79 = .ok (.getfield 9, 3) := dk_180 0 9 (dk_at dksX3_begins_3 8 rfl rfl)
theorem dX3_begins_82 : decode cX3_begins 82 = .ok (.iconst 3, 1) := dk_6 (dk_at dksX3_begins_3 11 rfl rfl)
theorem dX3_begins_83 : decode cX3_begins 83 = .ok (.iaload, 1) := dk_46 (dk_at dksX3_begins_3 12 rfl rfl)
theorem dX3_begins_84 : decode cX3_begins 84 = .ok (.if_icmp .ge 23, 3) := dk_162 0 23 (dk_at dksX3_begins_3 13 rfl rfl)
theorem dX3_begins_87 : decode cX3_begins 87 = .ok (.aload_n 0, 1) := dk_42 (dk_at dksX3_begins_3 16 rfl rfl)
theorem dX3_begins_88 : decode cX3_begins 88 = .ok (.iload_n 1, 1) := dk_27 (dk_at dksX3_begins_3 17 rfl rfl)
theorem dX3_begins_89 : decode cX3_begins 89 = .ok (.invokevirtual 336, 3) := dk_182 1 80 (dk_at dksX3_begins_3 18 rfl rfl)
theorem dX3_begins_92 : decode cX3_begins 92 = .ok (.ifCond .eq 9, 3) := dk_153 0 9 (dk_at dksX3_begins_3 21 rfl rfl)
theorem dX3_begins_95 : decode cX3_begins 95 = .ok (.aload_n 0, 1) := dk_42 (dk_at dksX3_begins_4 0 rfl rfl)
theorem dX3_begins_96 : decode cX3_begins 96 = .ok (.iload_n 1, 1) := dk_27 (dk_at dksX3_begins_4 1 rfl rfl)
theorem dX3_begins_97 : decode cX3_begins 97 = .ok (.invokevirtual 340, 3) := dk_182 1 84 (dk_at dksX3_begins_4 2 rfl rfl)
theorem dX3_begins_100 : decode cX3_begins 100 = .ok (.pop, 1) := dk_87 (dk_at dksX3_begins_4 5 rfl rfl)
theorem dX3_begins_101 : decode cX3_begins 101 = .ok (.iinc 1 1, 3) := dk_132 1 1 (dk_at dksX3_begins_4 6 rfl rfl)
theorem dX3_begins_104 : decode cX3_begins 104 = .ok (.goto (-27), 3) := dk_167 255 229 (dk_at dksX3_begins_4 9 rfl rfl)
theorem dX3_begins_107 : decode cX3_begins 107 = .ok (.return_, 1) := dk_177 (dk_at dksX3_begins_4 12 rfl rfl)
abbrev cX3_isBare : ByteArray := prog_17_method_53_code
def yX3_isBare : MethodName := ⟨RX3, "isBare", "(I)Z"⟩
def dkwX3_isBare_0 : List UInt8 := [42, 180, 0, 9, 16, 8, 46, 27, 184, 1, 126, 172]
abbrev dktX3_isBare_0 : List UInt8 := dkwX3_isBare_0 ++ []
theorem dksX3_isBare_0 : cX3_isBare.data.toList.drop 0 = dktX3_isBare_0 := by decide +kernel
theorem dX3_isBare_0 : decode cX3_isBare 0 = .ok (.aload_n 0, 1) := dk_42 (dk_at dksX3_isBare_0 0 rfl rfl)
theorem dX3_isBare_1 : decode cX3_isBare 1 = .ok (.getfield 9, 3) := dk_180 0 9 (dk_at dksX3_isBare_0 1 rfl rfl)
theorem dX3_isBare_4 : decode cX3_isBare 4 = .ok (.bipush 8, 2) := dk_16 8 (dk_at dksX3_isBare_0 4 rfl rfl)
theorem dX3_isBare_6 : decode cX3_isBare 6 = .ok (.iaload, 1) := dk_46 (dk_at dksX3_isBare_0 6 rfl rfl)
theorem dX3_isBare_7 : decode cX3_isBare 7 = .ok (.iload_n 1, 1) := dk_27 (dk_at dksX3_isBare_0 7 rfl rfl)
theorem dX3_isBare_8 : decode cX3_isBare 8 = .ok (.invokestatic 382, 3) := dk_184 1 126 (dk_at dksX3_isBare_0 8 rfl rfl)
theorem dX3_isBare_11 : decode cX3_isBare 11 = .ok (.ireturn, 1) := dk_172 (dk_at dksX3_isBare_0 11 rfl rfl)
abbrev cX3_has : ByteArray := prog_17_method_5_code
def yX3_has : MethodName := ⟨RX3, "has", "(II)Z"⟩
def dkwX3_has_0 : List UInt8 := [26, 27, 122, 4, 126, 4, 160, 0, 7, 4, 167, 0, 4, 3, 172]
abbrev dktX3_has_0 : List UInt8 := dkwX3_has_0 ++ []
theorem dksX3_has_0 : cX3_has.data.toList.drop 0 = dktX3_has_0 := by decide +kernel
theorem dX3_has_0 : decode cX3_has 0 = .ok (.iload_n 0, 1) := dk_26 (dk_at dksX3_has_0 0 rfl rfl)
theorem dX3_has_1 : decode cX3_has 1 = .ok (.iload_n 1, 1) := dk_27 (dk_at dksX3_has_0 1 rfl rfl)
theorem dX3_has_2 : decode cX3_has 2 = .ok (.ishr, 1) := dk_122 (dk_at dksX3_has_0 2 rfl rfl)
theorem dX3_has_3 : decode cX3_has 3 = .ok (.iconst 1, 1) := dk_4 (dk_at dksX3_has_0 3 rfl rfl)
theorem dX3_has_4 : decode cX3_has 4 = .ok (.iand, 1) := dk_126 (dk_at dksX3_has_0 4 rfl rfl)
theorem dX3_has_5 : decode cX3_has 5 = .ok (.iconst 1, 1) := dk_4 (dk_at dksX3_has_0 5 rfl rfl)
theorem dX3_has_6 : decode cX3_has 6 = .ok (.if_icmp .ne 7, 3) := dk_160 0 7 (dk_at dksX3_has_0 6 rfl rfl)
theorem dX3_has_9 : decode cX3_has 9 = .ok (.iconst 1, 1) := dk_4 (dk_at dksX3_has_0 9 rfl rfl)
theorem dX3_has_10 : decode cX3_has 10 = .ok (.goto 4, 3) := dk_167 0 4 (dk_at dksX3_has_0 10 rfl rfl)
theorem dX3_has_13 : decode cX3_has 13 = .ok (.iconst 0, 1) := dk_3 (dk_at dksX3_has_0 13 rfl rfl)
theorem dX3_has_14 : decode cX3_has 14 = .ok (.ireturn, 1) := dk_172 (dk_at dksX3_has_0 14 rfl rfl)
abbrev cX3_barely : ByteArray := prog_17_method_54_code
def yX3_barely : MethodName := ⟨RX3, "barely", "(I)I"⟩
def dkwX3_barely_1 : List UInt8 := [180, 0, 31, 29, 46, 96, 61, 42, 180, 0, 31, 29, 3, 79, 132, 3, 1, 167, 255, 225, 28, 172]
abbrev dktX3_barely_1 : List UInt8 := dkwX3_barely_1 ++ []
def dkwX3_barely_0 : List UInt8 := [3, 61, 42, 180, 0, 13, 27, 46, 62, 29, 42, 180, 0, 13, 27, 4, 96, 46, 162, 0, 25, 28, 42]
abbrev dktX3_barely_0 : List UInt8 := dkwX3_barely_0 ++ dktX3_barely_1
theorem dksX3_barely_0 : cX3_barely.data.toList.drop 0 = dktX3_barely_0 := by decide +kernel
theorem dksX3_barely_1 : cX3_barely.data.toList.drop 23 = dktX3_barely_1 := dk_seg dksX3_barely_0 23 rfl rfl
theorem dX3_barely_0 : decode cX3_barely 0 = .ok (.iconst 0, 1) := dk_3 (dk_at dksX3_barely_0 0 rfl rfl)
theorem dX3_barely_1 : decode cX3_barely 1 = .ok (.istore_n 2, 1) := dk_61 (dk_at dksX3_barely_0 1 rfl rfl)
theorem dX3_barely_2 : decode cX3_barely 2 = .ok (.aload_n 0, 1) := dk_42 (dk_at dksX3_barely_0 2 rfl rfl)
theorem dX3_barely_3 : decode cX3_barely 3 = .ok (.getfield 13, 3) := dk_180 0 13 (dk_at dksX3_barely_0 3 rfl rfl)
theorem dX3_barely_6 : decode cX3_barely 6 = .ok (.iload_n 1, 1) := dk_27 (dk_at dksX3_barely_0 6 rfl rfl)
theorem dX3_barely_7 : decode cX3_barely 7 = .ok (.iaload, 1) := dk_46 (dk_at dksX3_barely_0 7 rfl rfl)
theorem dX3_barely_8 : decode cX3_barely 8 = .ok (.istore_n 3, 1) := dk_62 (dk_at dksX3_barely_0 8 rfl rfl)
theorem dX3_barely_9 : decode cX3_barely 9 = .ok (.iload_n 3, 1) := dk_29 (dk_at dksX3_barely_0 9 rfl rfl)
theorem dX3_barely_10 : decode cX3_barely 10 = .ok (.aload_n 0, 1) := dk_42 (dk_at dksX3_barely_0 10 rfl rfl)
theorem dX3_barely_11 : decode cX3_barely 11 = .ok (.getfield 13, 3) := dk_180 0 13 (dk_at dksX3_barely_0 11 rfl rfl)
theorem dX3_barely_14 : decode cX3_barely 14 = .ok (.iload_n 1, 1) := dk_27 (dk_at dksX3_barely_0 14 rfl rfl)
theorem dX3_barely_15 : decode cX3_barely 15 = .ok (.iconst 1, 1) := dk_4 (dk_at dksX3_barely_0 15 rfl rfl)
theorem dX3_barely_16 : decode cX3_barely 16 = .ok (.iadd, 1) := dk_96 (dk_at dksX3_barely_0 16 rfl rfl)
theorem dX3_barely_17 : decode cX3_barely 17 = .ok (.iaload, 1) := dk_46 (dk_at dksX3_barely_0 17 rfl rfl)
theorem dX3_barely_18 : decode cX3_barely 18 = .ok (.if_icmp .ge 25, 3) := dk_162 0 25 (dk_at dksX3_barely_0 18 rfl rfl)
theorem dX3_barely_21 : decode cX3_barely 21 = .ok (.iload_n 2, 1) := dk_28 (dk_at dksX3_barely_0 21 rfl rfl)
theorem dX3_barely_22 : decode cX3_barely 22 = .ok (.aload_n 0, 1) := dk_42 (dk_at dksX3_barely_0 22 rfl rfl)
theorem dX3_barely_23 : decode cX3_barely 23 = .ok (.getfield 31, 3) := dk_180 0 31 (dk_at dksX3_barely_1 0 rfl rfl)
theorem dX3_barely_26 : decode cX3_barely 26 = .ok (.iload_n 3, 1) := dk_29 (dk_at dksX3_barely_1 3 rfl rfl)
theorem dX3_barely_27 : decode cX3_barely 27 = .ok (.iaload, 1) := dk_46 (dk_at dksX3_barely_1 4 rfl rfl)
theorem dX3_barely_28 : decode cX3_barely 28 = .ok (.iadd, 1) := dk_96 (dk_at dksX3_barely_1 5 rfl rfl)
theorem dX3_barely_29 : decode cX3_barely 29 = .ok (.istore_n 2, 1) := dk_61 (dk_at dksX3_barely_1 6 rfl rfl)
theorem dX3_barely_30 : decode cX3_barely 30 = .ok (.aload_n 0, 1) := dk_42 (dk_at dksX3_barely_1 7 rfl rfl)
theorem dX3_barely_31 : decode cX3_barely 31 = .ok (.getfield 31, 3) := dk_180 0 31 (dk_at dksX3_barely_1 8 rfl rfl)
theorem dX3_barely_34 : decode cX3_barely 34 = .ok (.iload_n 3, 1) := dk_29 (dk_at dksX3_barely_1 11 rfl rfl)
theorem dX3_barely_35 : decode cX3_barely 35 = .ok (.iconst 0, 1) := dk_3 (dk_at dksX3_barely_1 12 rfl rfl)
theorem dX3_barely_36 : decode cX3_barely 36 = .ok (.iastore, 1) := dk_79 (dk_at dksX3_barely_1 13 rfl rfl)
theorem dX3_barely_37 : decode cX3_barely 37 = .ok (.iinc 3 1, 3) := dk_132 3 1 (dk_at dksX3_barely_1 14 rfl rfl)
theorem dX3_barely_40 : decode cX3_barely 40 = .ok (.goto (-31), 3) := dk_167 255 225 (dk_at dksX3_barely_1 17 rfl rfl)
theorem dX3_barely_43 : decode cX3_barely 43 = .ok (.iload_n 2, 1) := dk_28 (dk_at dksX3_barely_1 20 rfl rfl)
theorem dX3_barely_44 : decode cX3_barely 44 = .ok (.ireturn, 1) := dk_172 (dk_at dksX3_barely_1 21 rfl rfl)
abbrev cX3_rule : ByteArray := prog_17_method_46_code
def yX3_rule : MethodName := ⟨RX3, "rule", "()I"⟩
def dkwX3_rule_4 : List UInt8 := [180, 0, 199, 100, 167, 0, 9, 42, 180, 1, 106, 4, 100, 172]
abbrev dktX3_rule_4 : List UInt8 := dkwX3_rule_4 ++ []
def dkwX3_rule_3 : List UInt8 := [154, 0, 7, 4, 167, 0, 4, 3, 96, 181, 1, 106, 42, 180, 0, 199, 158, 0, 13, 16, 254, 42]
abbrev dktX3_rule_3 : List UInt8 := dkwX3_rule_3 ++ dktX3_rule_4
def dkwX3_rule_2 : List UInt8 := [3, 181, 0, 168, 42, 180, 0, 102, 42, 180, 0, 229, 27, 79, 42, 89, 180, 1, 106, 42, 180, 0, 199]
abbrev dktX3_rule_2 : List UInt8 := dkwX3_rule_2 ++ dktX3_rule_3
def dkwX3_rule_1 : List UInt8 := [60, 4, 61, 28, 153, 0, 19, 42, 27, 182, 1, 109, 132, 1, 1, 42, 182, 1, 73, 61, 167, 255, 239, 42]
abbrev dktX3_rule_1 : List UInt8 := dkwX3_rule_1 ++ dktX3_rule_2
def dkwX3_rule_0 : List UInt8 := [42, 180, 1, 106, 16, 6, 160, 0, 5, 2, 172, 42, 42, 180, 1, 106, 181, 0, 229, 42, 182, 1, 67, 3]
abbrev dktX3_rule_0 : List UInt8 := dkwX3_rule_0 ++ dktX3_rule_1
theorem dksX3_rule_0 : cX3_rule.data.toList.drop 0 = dktX3_rule_0 := by decide +kernel
theorem dksX3_rule_1 : cX3_rule.data.toList.drop 24 = dktX3_rule_1 := dk_seg dksX3_rule_0 24 rfl rfl
theorem dksX3_rule_2 : cX3_rule.data.toList.drop 48 = dktX3_rule_2 := dk_seg dksX3_rule_1 24 rfl rfl
theorem dksX3_rule_3 : cX3_rule.data.toList.drop 71 = dktX3_rule_3 := dk_seg dksX3_rule_2 23 rfl rfl
theorem dksX3_rule_4 : cX3_rule.data.toList.drop 93 = dktX3_rule_4 := dk_seg dksX3_rule_3 22 rfl rfl
theorem dX3_rule_0 : decode cX3_rule 0 = .ok (.aload_n 0, 1) := dk_42 (dk_at dksX3_rule_0 0 rfl rfl)
theorem dX3_rule_1 : decode cX3_rule 1 = .ok (.getfield 362, 3) := dk_180 1 106 (dk_at dksX3_rule_0 1 rfl rfl)
theorem dX3_rule_4 : decode cX3_rule 4 = .ok (.bipush 6, 2) := dk_16 6 (dk_at dksX3_rule_0 4 rfl rfl)
theorem dX3_rule_6 : decode cX3_rule 6 = .ok (.if_icmp .ne 5, 3) := dk_160 0 5 (dk_at dksX3_rule_0 6 rfl rfl)
theorem dX3_rule_9 : decode cX3_rule 9 = .ok (.iconst (-1), 1) := dk_2 (dk_at dksX3_rule_0 9 rfl rfl)
theorem dX3_rule_10 : decode cX3_rule 10 = .ok (.ireturn, 1) := dk_172 (dk_at dksX3_rule_0 10 rfl rfl)
theorem dX3_rule_11 : decode cX3_rule 11 = .ok (.aload_n 0, 1) := dk_42 (dk_at dksX3_rule_0 11 rfl rfl)
theorem dX3_rule_12 : decode cX3_rule 12 = .ok (.aload_n 0, 1) := dk_42 (dk_at dksX3_rule_0 12 rfl rfl)
theorem dX3_rule_13 : decode cX3_rule 13 = .ok (.getfield 362, 3) := dk_180 1 106 (dk_at dksX3_rule_0 13 rfl rfl)
theorem dX3_rule_16 : decode cX3_rule 16 = .ok (.putfield 229, 3) := dk_181 0 229 (dk_at dksX3_rule_0 16 rfl rfl)
theorem dX3_rule_19 : decode cX3_rule 19 = .ok (.aload_n 0, 1) := dk_42 (dk_at dksX3_rule_0 19 rfl rfl)
theorem dX3_rule_20 : decode cX3_rule 20 = .ok (.invokevirtual 323, 3) := dk_182 1 67 (dk_at dksX3_rule_0 20 rfl rfl)
theorem dX3_rule_23 : decode cX3_rule 23 = .ok (.iconst 0, 1) := dk_3 (dk_at dksX3_rule_0 23 rfl rfl)
theorem dX3_rule_24 : decode cX3_rule 24 = .ok (.istore_n 1, 1) := dk_60 (dk_at dksX3_rule_1 0 rfl rfl)
theorem dX3_rule_25 : decode cX3_rule 25 = .ok (.iconst 1, 1) := dk_4 (dk_at dksX3_rule_1 1 rfl rfl)
theorem dX3_rule_26 : decode cX3_rule 26 = .ok (.istore_n 2, 1) := dk_61 (dk_at dksX3_rule_1 2 rfl rfl)
theorem dX3_rule_27 : decode cX3_rule 27 = .ok (.iload_n 2, 1) := dk_28 (dk_at dksX3_rule_1 3 rfl rfl)
theorem dX3_rule_28 : decode cX3_rule 28 = .ok (.ifCond .eq 19, 3) := dk_153 0 19 (dk_at dksX3_rule_1 4 rfl rfl)
theorem dX3_rule_31 : decode cX3_rule 31 = .ok (.aload_n 0, 1) := dk_42 (dk_at dksX3_rule_1 7 rfl rfl)
theorem dX3_rule_32 : decode cX3_rule 32 = .ok (.iload_n 1, 1) := dk_27 (dk_at dksX3_rule_1 8 rfl rfl)
theorem dX3_rule_33 : decode cX3_rule 33 = .ok (.invokevirtual 365, 3) := dk_182 1 109 (dk_at dksX3_rule_1 9 rfl rfl)
theorem dX3_rule_36 : decode cX3_rule 36 = .ok (.iinc 1 1, 3) := dk_132 1 1 (dk_at dksX3_rule_1 12 rfl rfl)
theorem dX3_rule_39 : decode cX3_rule 39 = .ok (.aload_n 0, 1) := dk_42 (dk_at dksX3_rule_1 15 rfl rfl)
theorem dX3_rule_40 : decode cX3_rule 40 = .ok (.invokevirtual 329, 3) := dk_182 1 73 (dk_at dksX3_rule_1 16 rfl rfl)
theorem dX3_rule_43 : decode cX3_rule 43 = .ok (.istore_n 2, 1) := dk_61 (dk_at dksX3_rule_1 19 rfl rfl)
theorem dX3_rule_44 : decode cX3_rule 44 = .ok (.goto (-17), 3) := dk_167 255 239 (dk_at dksX3_rule_1 20 rfl rfl)
theorem dX3_rule_47 : decode cX3_rule 47 = .ok (.aload_n 0, 1) := dk_42 (dk_at dksX3_rule_1 23 rfl rfl)
theorem dX3_rule_48 : decode cX3_rule 48 = .ok (.iconst 0, 1) := dk_3 (dk_at dksX3_rule_2 0 rfl rfl)
theorem dX3_rule_49 : decode cX3_rule 49 = .ok (.putfield 168, 3) := dk_181 0 168 (dk_at dksX3_rule_2 1 rfl rfl)
theorem dX3_rule_52 : decode cX3_rule 52 = .ok (.aload_n 0, 1) := dk_42 (dk_at dksX3_rule_2 4 rfl rfl)
theorem dX3_rule_53 : decode cX3_rule 53 = .ok (.getfield 102, 3) := dk_180 0 102 (dk_at dksX3_rule_2 5 rfl rfl)
theorem dX3_rule_56 : decode cX3_rule 56 = .ok (.aload_n 0, 1) := dk_42 (dk_at dksX3_rule_2 8 rfl rfl)
theorem dX3_rule_57 : decode cX3_rule 57 = .ok (.getfield 229, 3) := dk_180 0 229 (dk_at dksX3_rule_2 9 rfl rfl)
theorem dX3_rule_60 : decode cX3_rule 60 = .ok (.iload_n 1, 1) := dk_27 (dk_at dksX3_rule_2 12 rfl rfl)
theorem dX3_rule_61 : decode cX3_rule 61 = .ok (.iastore, 1) := dk_79 (dk_at dksX3_rule_2 13 rfl rfl)
theorem dX3_rule_62 : decode cX3_rule 62 = .ok (.aload_n 0, 1) := dk_42 (dk_at dksX3_rule_2 14 rfl rfl)
theorem dX3_rule_63 : decode cX3_rule 63 = .ok (.dup, 1) := dk_89 (dk_at dksX3_rule_2 15 rfl rfl)
theorem dX3_rule_64 : decode cX3_rule 64 = .ok (.getfield 362, 3) := dk_180 1 106 (dk_at dksX3_rule_2 16 rfl rfl)
theorem dX3_rule_67 : decode cX3_rule 67 = .ok (.aload_n 0, 1) := dk_42 (dk_at dksX3_rule_2 19 rfl rfl)
theorem dX3_rule_68 : decode cX3_rule 68 = .ok (.getfield 199, 3) := dk_180 0 199 (dk_at dksX3_rule_2 20 rfl rfl)
theorem dX3_rule_71 : decode cX3_rule 71 = .ok (.ifCond .ne 7, 3) := dk_154 0 7 (dk_at dksX3_rule_3 0 rfl rfl)
theorem dX3_rule_74 : decode cX3_rule 74 = .ok (.iconst 1, 1) := dk_4 (dk_at dksX3_rule_3 3 rfl rfl)
theorem dX3_rule_75 : decode cX3_rule 75 = .ok (.goto 4, 3) := dk_167 0 4 (dk_at dksX3_rule_3 4 rfl rfl)
theorem dX3_rule_78 : decode cX3_rule 78 = .ok (.iconst 0, 1) := dk_3 (dk_at dksX3_rule_3 7 rfl rfl)
theorem dX3_rule_79 : decode cX3_rule 79 = .ok (.iadd, 1) := dk_96 (dk_at dksX3_rule_3 8 rfl rfl)
theorem dX3_rule_80 : decode cX3_rule 80 = .ok (.putfield 362, 3) := dk_181 1 106 (dk_at dksX3_rule_3 9 rfl rfl)
theorem dX3_rule_83 : decode cX3_rule 83 = .ok (.aload_n 0, 1) := dk_42 (dk_at dksX3_rule_3 12 rfl rfl)
theorem dX3_rule_84 : decode cX3_rule 84 = .ok (.getfield 199, 3) := dk_180 0 199 (dk_at dksX3_rule_3 13 rfl rfl)
theorem dX3_rule_87 : decode cX3_rule 87 = .ok (.ifCond .le 13, 3) := dk_158 0 13 (dk_at dksX3_rule_3 16 rfl rfl)
theorem dX3_rule_90 : decode cX3_rule 90 = .ok (.bipush (-2), 2) := dk_16 254 (dk_at dksX3_rule_3 19 rfl rfl)
theorem dX3_rule_92 : decode cX3_rule 92 = .ok (.aload_n 0, 1) := dk_42 (dk_at dksX3_rule_3 21 rfl rfl)
theorem dX3_rule_93 : decode cX3_rule 93 = .ok (.getfield 199, 3) := dk_180 0 199 (dk_at dksX3_rule_4 0 rfl rfl)
theorem dX3_rule_96 : decode cX3_rule 96 = .ok (.isub, 1) := dk_100 (dk_at dksX3_rule_4 3 rfl rfl)
theorem dX3_rule_97 : decode cX3_rule 97 = .ok (.goto 9, 3) := dk_167 0 9 (dk_at dksX3_rule_4 4 rfl rfl)
theorem dX3_rule_100 : decode cX3_rule 100 = .ok (.aload_n 0, 1) := dk_42 (dk_at dksX3_rule_4 7 rfl rfl)
theorem dX3_rule_101 : decode cX3_rule 101 = .ok (.getfield 362, 3) := dk_180 1 106 (dk_at dksX3_rule_4 8 rfl rfl)
theorem dX3_rule_104 : decode cX3_rule 104 = .ok (.iconst 1, 1) := dk_4 (dk_at dksX3_rule_4 11 rfl rfl)
theorem dX3_rule_105 : decode cX3_rule 105 = .ok (.isub, 1) := dk_100 (dk_at dksX3_rule_4 12 rfl rfl)
theorem dX3_rule_106 : decode cX3_rule 106 = .ok (.ireturn, 1) := dk_172 (dk_at dksX3_rule_4 13 rfl rfl)
abbrev cX3_ruleClause : ByteArray := prog_17_method_45_code
def yX3_ruleClause : MethodName := ⟨RX3, "ruleClause", "(I)V"⟩
def dkwX3_ruleClause_4 : List UInt8 := [182, 1, 100, 153, 0, 7, 42, 182, 1, 103, 42, 180, 0, 111, 29, 42, 180, 0, 232, 79, 177]
abbrev dktX3_ruleClause_4 : List UInt8 := dkwX3_ruleClause_4 ++ []
def dkwX3_ruleClause_3 : List UInt8 := [182, 1, 10, 42, 180, 0, 108, 29, 42, 180, 0, 232, 79, 42, 180, 0, 199, 154, 0, 17, 42, 19, 1, 98]
abbrev dktX3_ruleClause_3 : List UInt8 := dkwX3_ruleClause_3 ++ dktX3_ruleClause_4
def dkwX3_ruleClause_2 : List UInt8 := [181, 0, 202, 16, 12, 42, 180, 0, 229, 104, 27, 96, 62, 42, 180, 0, 105, 29, 42, 180, 0, 232, 79, 42]
abbrev dktX3_ruleClause_2 : List UInt8 := dkwX3_ruleClause_2 ++ dktX3_ruleClause_3
def dkwX3_ruleClause_1 : List UInt8 := [182, 0, 238, 177, 27, 16, 12, 160, 0, 10, 42, 7, 28, 182, 0, 238, 177, 42, 89, 180, 0, 202, 8, 96]
abbrev dktX3_ruleClause_1 : List UInt8 := dkwX3_ruleClause_1 ++ dktX3_ruleClause_2
def dkwX3_ruleClause_0 : List UInt8 := [42, 182, 0, 222, 42, 180, 0, 202, 61, 42, 19, 1, 96, 182, 0, 225, 154, 0, 10, 42, 3, 28]
abbrev dktX3_ruleClause_0 : List UInt8 := dkwX3_ruleClause_0 ++ dktX3_ruleClause_1
theorem dksX3_ruleClause_0 : cX3_ruleClause.data.toList.drop 0 = dktX3_ruleClause_0 := by decide +kernel
theorem dksX3_ruleClause_1 : cX3_ruleClause.data.toList.drop 22 = dktX3_ruleClause_1 := dk_seg dksX3_ruleClause_0 22 rfl rfl
theorem dksX3_ruleClause_2 : cX3_ruleClause.data.toList.drop 46 = dktX3_ruleClause_2 := dk_seg dksX3_ruleClause_1 24 rfl rfl
theorem dksX3_ruleClause_3 : cX3_ruleClause.data.toList.drop 70 = dktX3_ruleClause_3 := dk_seg dksX3_ruleClause_2 24 rfl rfl
theorem dksX3_ruleClause_4 : cX3_ruleClause.data.toList.drop 94 = dktX3_ruleClause_4 := dk_seg dksX3_ruleClause_3 24 rfl rfl
theorem dX3_ruleClause_0 : decode cX3_ruleClause 0 = .ok (.aload_n 0, 1) := dk_42 (dk_at dksX3_ruleClause_0 0 rfl rfl)
theorem dX3_ruleClause_1 : decode cX3_ruleClause 1 = .ok (.invokevirtual 222, 3) := dk_182 0 222 (dk_at dksX3_ruleClause_0 1 rfl rfl)
theorem dX3_ruleClause_4 : decode cX3_ruleClause 4 = .ok (.aload_n 0, 1) := dk_42 (dk_at dksX3_ruleClause_0 4 rfl rfl)
theorem dX3_ruleClause_5 : decode cX3_ruleClause 5 = .ok (.getfield 202, 3) := dk_180 0 202 (dk_at dksX3_ruleClause_0 5 rfl rfl)
theorem dX3_ruleClause_8 : decode cX3_ruleClause 8 = .ok (.istore_n 2, 1) := dk_61 (dk_at dksX3_ruleClause_0 8 rfl rfl)
theorem dX3_ruleClause_9 : decode cX3_ruleClause 9 = .ok (.aload_n 0, 1) := dk_42 (dk_at dksX3_ruleClause_0 9 rfl rfl)
theorem dX3_ruleClause_10 : decode cX3_ruleClause 10 = .ok (.ldc_w 352, 3) := dk_19 1 96 (dk_at dksX3_ruleClause_0 10 rfl rfl)
theorem dX3_ruleClause_13 : decode cX3_ruleClause 13 = .ok (.invokevirtual 225, 3) := dk_182 0 225 (dk_at dksX3_ruleClause_0 13 rfl rfl)
theorem dX3_ruleClause_16 : decode cX3_ruleClause 16 = .ok (.ifCond .ne 10, 3) := dk_154 0 10 (dk_at dksX3_ruleClause_0 16 rfl rfl)
theorem dX3_ruleClause_19 : decode cX3_ruleClause 19 = .ok (.aload_n 0, 1) := dk_42 (dk_at dksX3_ruleClause_0 19 rfl rfl)
theorem dX3_ruleClause_20 : decode cX3_ruleClause 20 = .ok (.iconst 0, 1) := dk_3 (dk_at dksX3_ruleClause_0 20 rfl rfl)
theorem dX3_ruleClause_21 : decode cX3_ruleClause 21 = .ok (.iload_n 2, 1) := dk_28 (dk_at dksX3_ruleClause_0 21 rfl rfl)
theorem dX3_ruleClause_22 : decode cX3_ruleClause 22 = .ok (.invokevirtual 238, 3) := dk_182 0 238 (dk_at dksX3_ruleClause_1 0 rfl rfl)
theorem dX3_ruleClause_25 : decode cX3_ruleClause 25 = .ok (.return_, 1) := dk_177 (dk_at dksX3_ruleClause_1 3 rfl rfl)
theorem dX3_ruleClause_26 : decode cX3_ruleClause 26 = .ok (.iload_n 1, 1) := dk_27 (dk_at dksX3_ruleClause_1 4 rfl rfl)
theorem dX3_ruleClause_27 : decode cX3_ruleClause 27 = .ok (.bipush 12, 2) := dk_16 12 (dk_at dksX3_ruleClause_1 5 rfl rfl)
theorem dX3_ruleClause_29 : decode cX3_ruleClause 29 = .ok (.if_icmp .ne 10, 3) := dk_160 0 10 (dk_at dksX3_ruleClause_1 7 rfl rfl)
theorem dX3_ruleClause_32 : decode cX3_ruleClause 32 = .ok (.aload_n 0, 1) := dk_42 (dk_at dksX3_ruleClause_1 10 rfl rfl)
theorem dX3_ruleClause_33 : decode cX3_ruleClause 33 = .ok (.iconst 4, 1) := dk_7 (dk_at dksX3_ruleClause_1 11 rfl rfl)
theorem dX3_ruleClause_34 : decode cX3_ruleClause 34 = .ok (.iload_n 2, 1) := dk_28 (dk_at dksX3_ruleClause_1 12 rfl rfl)
theorem dX3_ruleClause_35 : decode cX3_ruleClause 35 = .ok (.invokevirtual 238, 3) := dk_182 0 238 (dk_at dksX3_ruleClause_1 13 rfl rfl)
theorem dX3_ruleClause_38 : decode cX3_ruleClause 38 = .ok (.return_, 1) := dk_177 (dk_at dksX3_ruleClause_1 16 rfl rfl)
theorem dX3_ruleClause_39 : decode cX3_ruleClause 39 = .ok (.aload_n 0, 1) := dk_42 (dk_at dksX3_ruleClause_1 17 rfl rfl)
theorem dX3_ruleClause_40 : decode cX3_ruleClause 40 = .ok (.dup, 1) := dk_89 (dk_at dksX3_ruleClause_1 18 rfl rfl)
theorem dX3_ruleClause_41 : decode cX3_ruleClause 41 = .ok (.getfield 202, 3) := dk_180 0 202 (dk_at dksX3_ruleClause_1 19 rfl rfl)
theorem dX3_ruleClause_44 : decode cX3_ruleClause 44 = .ok (.iconst 5, 1) := dk_8 (dk_at dksX3_ruleClause_1 22 rfl rfl)
theorem dX3_ruleClause_45 : decode cX3_ruleClause 45 = .ok (.iadd, 1) := dk_96 (dk_at dksX3_ruleClause_1 23 rfl rfl)
theorem dX3_ruleClause_46 : decode cX3_ruleClause 46 = .ok (.putfield 202, 3) := dk_181 0 202 (dk_at dksX3_ruleClause_2 0 rfl rfl)
theorem dX3_ruleClause_49 : decode cX3_ruleClause 49 = .ok (.bipush 12, 2) := dk_16 12 (dk_at dksX3_ruleClause_2 3 rfl rfl)
theorem dX3_ruleClause_51 : decode cX3_ruleClause 51 = .ok (.aload_n 0, 1) := dk_42 (dk_at dksX3_ruleClause_2 5 rfl rfl)
theorem dX3_ruleClause_52 : decode cX3_ruleClause 52 = .ok (.getfield 229, 3) := dk_180 0 229 (dk_at dksX3_ruleClause_2 6 rfl rfl)
theorem dX3_ruleClause_55 : decode cX3_ruleClause 55 = .ok (.imul, 1) := dk_104 (dk_at dksX3_ruleClause_2 9 rfl rfl)
theorem dX3_ruleClause_56 : decode cX3_ruleClause 56 = .ok (.iload_n 1, 1) := dk_27 (dk_at dksX3_ruleClause_2 10 rfl rfl)
theorem dX3_ruleClause_57 : decode cX3_ruleClause 57 = .ok (.iadd, 1) := dk_96 (dk_at dksX3_ruleClause_2 11 rfl rfl)
theorem dX3_ruleClause_58 : decode cX3_ruleClause 58 = .ok (.istore_n 3, 1) := dk_62 (dk_at dksX3_ruleClause_2 12 rfl rfl)
theorem dX3_ruleClause_59 : decode cX3_ruleClause 59 = .ok (.aload_n 0, 1) := dk_42 (dk_at dksX3_ruleClause_2 13 rfl rfl)
theorem dX3_ruleClause_60 : decode cX3_ruleClause 60 = .ok (.getfield 105, 3) := dk_180 0 105 (dk_at dksX3_ruleClause_2 14 rfl rfl)
theorem dX3_ruleClause_63 : decode cX3_ruleClause 63 = .ok (.iload_n 3, 1) := dk_29 (dk_at dksX3_ruleClause_2 17 rfl rfl)
theorem dX3_ruleClause_64 : decode cX3_ruleClause 64 = .ok (.aload_n 0, 1) := dk_42 (dk_at dksX3_ruleClause_2 18 rfl rfl)
theorem dX3_ruleClause_65 : decode cX3_ruleClause 65 = .ok (.getfield 232, 3) := dk_180 0 232 (dk_at dksX3_ruleClause_2 19 rfl rfl)
theorem dX3_ruleClause_68 : decode cX3_ruleClause 68 = .ok (.iastore, 1) := dk_79 (dk_at dksX3_ruleClause_2 22 rfl rfl)
theorem dX3_ruleClause_69 : decode cX3_ruleClause 69 = .ok (.aload_n 0, 1) := dk_42 (dk_at dksX3_ruleClause_2 23 rfl rfl)
theorem dX3_ruleClause_70 : decode cX3_ruleClause 70 = .ok (.invokevirtual 266, 3) := dk_182 1 10 (dk_at dksX3_ruleClause_3 0 rfl rfl)
theorem dX3_ruleClause_73 : decode cX3_ruleClause 73 = .ok (.aload_n 0, 1) := dk_42 (dk_at dksX3_ruleClause_3 3 rfl rfl)
theorem dX3_ruleClause_74 : decode cX3_ruleClause 74 = .ok (.getfield 108, 3) := dk_180 0 108 (dk_at dksX3_ruleClause_3 4 rfl rfl)
theorem dX3_ruleClause_77 : decode cX3_ruleClause 77 = .ok (.iload_n 3, 1) := dk_29 (dk_at dksX3_ruleClause_3 7 rfl rfl)
theorem dX3_ruleClause_78 : decode cX3_ruleClause 78 = .ok (.aload_n 0, 1) := dk_42 (dk_at dksX3_ruleClause_3 8 rfl rfl)
theorem dX3_ruleClause_79 : decode cX3_ruleClause 79 = .ok (.getfield 232, 3) := dk_180 0 232 (dk_at dksX3_ruleClause_3 9 rfl rfl)
theorem dX3_ruleClause_82 : decode cX3_ruleClause 82 = .ok (.iastore, 1) := dk_79 (dk_at dksX3_ruleClause_3 12 rfl rfl)
theorem dX3_ruleClause_83 : decode cX3_ruleClause 83 = .ok (.aload_n 0, 1) := dk_42 (dk_at dksX3_ruleClause_3 13 rfl rfl)
theorem dX3_ruleClause_84 : decode cX3_ruleClause 84 = .ok (.getfield 199, 3) := dk_180 0 199 (dk_at dksX3_ruleClause_3 14 rfl rfl)
theorem dX3_ruleClause_87 : decode cX3_ruleClause 87 = .ok (.ifCond .ne 17, 3) := dk_154 0 17 (dk_at dksX3_ruleClause_3 17 rfl rfl)
theorem dX3_ruleClause_90 : decode cX3_ruleClause 90 = .ok (.aload_n 0, 1) := dk_42 (dk_at dksX3_ruleClause_3 20 rfl rfl)
theorem dX3_ruleClause_91 : decode cX3_ruleClause 91 = .ok (.ldc_w 354, 3) := dk_19 1 98 (dk_at dksX3_ruleClause_3 21 rfl rfl)
theorem dX3_ruleClause_94 : decode cX3_ruleClause 94 = .ok (.invokevirtual 356, 3) := dk_182 1 100 (dk_at dksX3_ruleClause_4 0 rfl rfl)
theorem dX3_ruleClause_97 : decode cX3_ruleClause 97 = .ok (.ifCond .eq 7, 3) := dk_153 0 7 (dk_at dksX3_ruleClause_4 3 rfl rfl)
theorem dX3_ruleClause_100 : decode cX3_ruleClause 100 = .ok (.aload_n 0, 1) := dk_42 (dk_at dksX3_ruleClause_4 6 rfl rfl)
theorem dX3_ruleClause_101 : decode cX3_ruleClause 101 = .ok (.invokevirtual 359, 3) := dk_182 1 103 (dk_at dksX3_ruleClause_4 7 rfl rfl)
theorem dX3_ruleClause_104 : decode cX3_ruleClause 104 = .ok (.aload_n 0, 1) := dk_42 (dk_at dksX3_ruleClause_4 10 rfl rfl)
theorem dX3_ruleClause_105 : decode cX3_ruleClause 105 = .ok (.getfield 111, 3) := dk_180 0 111 (dk_at dksX3_ruleClause_4 11 rfl rfl)
theorem dX3_ruleClause_108 : decode cX3_ruleClause 108 = .ok (.iload_n 3, 1) := dk_29 (dk_at dksX3_ruleClause_4 14 rfl rfl)
theorem dX3_ruleClause_109 : decode cX3_ruleClause 109 = .ok (.aload_n 0, 1) := dk_42 (dk_at dksX3_ruleClause_4 15 rfl rfl)
theorem dX3_ruleClause_110 : decode cX3_ruleClause 110 = .ok (.getfield 232, 3) := dk_180 0 232 (dk_at dksX3_ruleClause_4 16 rfl rfl)
theorem dX3_ruleClause_113 : decode cX3_ruleClause 113 = .ok (.iastore, 1) := dk_79 (dk_at dksX3_ruleClause_4 19 rfl rfl)
theorem dX3_ruleClause_114 : decode cX3_ruleClause 114 = .ok (.return_, 1) := dk_177 (dk_at dksX3_ruleClause_4 20 rfl rfl)
abbrev cX3_sum : ByteArray := prog_17_method_25_code
def yX3_sum : MethodName := ⟨RX3, "sum", "()V"⟩
def dkwX3_sum_2 : List UInt8 := [180, 0, 202, 4, 96, 181, 0, 202, 42, 182, 1, 7, 42, 27, 3, 182, 0, 254, 167, 255, 196, 177]
abbrev dktX3_sum_2 : List UInt8 := dkwX3_sum_2 ++ []
def dkwX3_sum_1 : List UInt8 := [16, 45, 160, 0, 41, 42, 182, 0, 205, 16, 43, 160, 0, 7, 5, 167, 0, 4, 6, 60, 42, 89]
abbrev dktX3_sum_1 : List UInt8 := dkwX3_sum_1 ++ dktX3_sum_2
def dkwX3_sum_0 : List UInt8 := [42, 182, 1, 7, 42, 180, 0, 199, 154, 0, 59, 42, 182, 0, 205, 16, 43, 159, 0, 12, 42, 182, 0, 205]
abbrev dktX3_sum_0 : List UInt8 := dkwX3_sum_0 ++ dktX3_sum_1
theorem dksX3_sum_0 : cX3_sum.data.toList.drop 0 = dktX3_sum_0 := by decide +kernel
theorem dksX3_sum_1 : cX3_sum.data.toList.drop 24 = dktX3_sum_1 := dk_seg dksX3_sum_0 24 rfl rfl
theorem dksX3_sum_2 : cX3_sum.data.toList.drop 46 = dktX3_sum_2 := dk_seg dksX3_sum_1 22 rfl rfl
theorem dX3_sum_0 : decode cX3_sum 0 = .ok (.aload_n 0, 1) := dk_42 (dk_at dksX3_sum_0 0 rfl rfl)
theorem dX3_sum_1 : decode cX3_sum 1 = .ok (.invokevirtual 263, 3) := dk_182 1 7 (dk_at dksX3_sum_0 1 rfl rfl)
theorem dX3_sum_4 : decode cX3_sum 4 = .ok (.aload_n 0, 1) := dk_42 (dk_at dksX3_sum_0 4 rfl rfl)
theorem dX3_sum_5 : decode cX3_sum 5 = .ok (.getfield 199, 3) := dk_180 0 199 (dk_at dksX3_sum_0 5 rfl rfl)
theorem dX3_sum_8 : decode cX3_sum 8 = .ok (.ifCond .ne 59, 3) := dk_154 0 59 (dk_at dksX3_sum_0 8 rfl rfl)
theorem dX3_sum_11 : decode cX3_sum 11 = .ok (.aload_n 0, 1) := dk_42 (dk_at dksX3_sum_0 11 rfl rfl)
theorem dX3_sum_12 : decode cX3_sum 12 = .ok (.invokevirtual 205, 3) := dk_182 0 205 (dk_at dksX3_sum_0 12 rfl rfl)
theorem dX3_sum_15 : decode cX3_sum 15 = .ok (.bipush 43, 2) := dk_16 43 (dk_at dksX3_sum_0 15 rfl rfl)
theorem dX3_sum_17 : decode cX3_sum 17 = .ok (.if_icmp .eq 12, 3) := dk_159 0 12 (dk_at dksX3_sum_0 17 rfl rfl)
theorem dX3_sum_20 : decode cX3_sum 20 = .ok (.aload_n 0, 1) := dk_42 (dk_at dksX3_sum_0 20 rfl rfl)
theorem dX3_sum_21 : decode cX3_sum 21 = .ok (.invokevirtual 205, 3) := dk_182 0 205 (dk_at dksX3_sum_0 21 rfl rfl)
theorem dX3_sum_24 : decode cX3_sum 24 = .ok (.bipush 45, 2) := dk_16 45 (dk_at dksX3_sum_1 0 rfl rfl)
theorem dX3_sum_26 : decode cX3_sum 26 = .ok (.if_icmp .ne 41, 3) := dk_160 0 41 (dk_at dksX3_sum_1 2 rfl rfl)
theorem dX3_sum_29 : decode cX3_sum 29 = .ok (.aload_n 0, 1) := dk_42 (dk_at dksX3_sum_1 5 rfl rfl)
theorem dX3_sum_30 : decode cX3_sum 30 = .ok (.invokevirtual 205, 3) := dk_182 0 205 (dk_at dksX3_sum_1 6 rfl rfl)
theorem dX3_sum_33 : decode cX3_sum 33 = .ok (.bipush 43, 2) := dk_16 43 (dk_at dksX3_sum_1 9 rfl rfl)
theorem dX3_sum_35 : decode cX3_sum 35 = .ok (.if_icmp .ne 7, 3) := dk_160 0 7 (dk_at dksX3_sum_1 11 rfl rfl)
theorem dX3_sum_38 : decode cX3_sum 38 = .ok (.iconst 2, 1) := dk_5 (dk_at dksX3_sum_1 14 rfl rfl)
theorem dX3_sum_39 : decode cX3_sum 39 = .ok (.goto 4, 3) := dk_167 0 4 (dk_at dksX3_sum_1 15 rfl rfl)
theorem dX3_sum_42 : decode cX3_sum 42 = .ok (.iconst 3, 1) := dk_6 (dk_at dksX3_sum_1 18 rfl rfl)
theorem dX3_sum_43 : decode cX3_sum 43 = .ok (.istore_n 1, 1) := dk_60 (dk_at dksX3_sum_1 19 rfl rfl)
theorem dX3_sum_44 : decode cX3_sum 44 = .ok (.aload_n 0, 1) := dk_42 (dk_at dksX3_sum_1 20 rfl rfl)
theorem dX3_sum_45 : decode cX3_sum 45 = .ok (.dup, 1) := dk_89 (dk_at dksX3_sum_1 21 rfl rfl)
theorem dX3_sum_46 : decode cX3_sum 46 = .ok (.getfield 202, 3) := dk_180 0 202 (dk_at dksX3_sum_2 0 rfl rfl)
theorem dX3_sum_49 : decode cX3_sum 49 = .ok (.iconst 1, 1) := dk_4 (dk_at dksX3_sum_2 3 rfl rfl)
theorem dX3_sum_50 : decode cX3_sum 50 = .ok (.iadd, 1) := dk_96 (dk_at dksX3_sum_2 4 rfl rfl)
theorem dX3_sum_51 : decode cX3_sum 51 = .ok (.putfield 202, 3) := dk_181 0 202 (dk_at dksX3_sum_2 5 rfl rfl)
theorem dX3_sum_54 : decode cX3_sum 54 = .ok (.aload_n 0, 1) := dk_42 (dk_at dksX3_sum_2 8 rfl rfl)
theorem dX3_sum_55 : decode cX3_sum 55 = .ok (.invokevirtual 263, 3) := dk_182 1 7 (dk_at dksX3_sum_2 9 rfl rfl)
theorem dX3_sum_58 : decode cX3_sum 58 = .ok (.aload_n 0, 1) := dk_42 (dk_at dksX3_sum_2 12 rfl rfl)
theorem dX3_sum_59 : decode cX3_sum 59 = .ok (.iload_n 1, 1) := dk_27 (dk_at dksX3_sum_2 13 rfl rfl)
theorem dX3_sum_60 : decode cX3_sum 60 = .ok (.iconst 0, 1) := dk_3 (dk_at dksX3_sum_2 14 rfl rfl)
theorem dX3_sum_61 : decode cX3_sum 61 = .ok (.invokevirtual 254, 3) := dk_182 0 254 (dk_at dksX3_sum_2 15 rfl rfl)
theorem dX3_sum_64 : decode cX3_sum 64 = .ok (.goto (-60), 3) := dk_167 255 196 (dk_at dksX3_sum_2 18 rfl rfl)
theorem dX3_sum_67 : decode cX3_sum 67 = .ok (.return_, 1) := dk_177 (dk_at dksX3_sum_2 21 rfl rfl)
abbrev cX3_term : ByteArray := prog_17_method_24_code
def yX3_term : MethodName := ⟨RX3, "term", "()V"⟩
def dkwX3_term_4 : List UInt8 := [182, 0, 222, 167, 255, 167, 177]
abbrev dktX3_term_4 : List UInt8 := dkwX3_term_4 ++ []
def dkwX3_term_3 : List UInt8 := [60, 42, 89, 180, 0, 202, 4, 96, 181, 0, 202, 42, 182, 1, 5, 42, 27, 3, 182, 0, 254, 42]
abbrev dktX3_term_3 : List UInt8 := dkwX3_term_3 ++ dktX3_term_4
def dkwX3_term_2 : List UInt8 := [160, 0, 8, 16, 13, 167, 0, 19, 42, 182, 0, 205, 16, 47, 160, 0, 8, 16, 14, 167, 0, 5, 16, 15]
abbrev dktX3_term_2 : List UInt8 := dkwX3_term_2 ++ dktX3_term_3
def dkwX3_term_1 : List UInt8 := [42, 182, 0, 205, 16, 47, 159, 0, 12, 42, 182, 0, 205, 16, 37, 160, 0, 61, 42, 182, 0, 205, 16, 42]
abbrev dktX3_term_1 : List UInt8 := dkwX3_term_1 ++ dktX3_term_2
def dkwX3_term_0 : List UInt8 := [42, 182, 1, 5, 42, 182, 0, 222, 42, 180, 0, 199, 154, 0, 88, 42, 182, 0, 205, 16, 42, 159, 0, 21]
abbrev dktX3_term_0 : List UInt8 := dkwX3_term_0 ++ dktX3_term_1
theorem dksX3_term_0 : cX3_term.data.toList.drop 0 = dktX3_term_0 := by decide +kernel
theorem dksX3_term_1 : cX3_term.data.toList.drop 24 = dktX3_term_1 := dk_seg dksX3_term_0 24 rfl rfl
theorem dksX3_term_2 : cX3_term.data.toList.drop 48 = dktX3_term_2 := dk_seg dksX3_term_1 24 rfl rfl
theorem dksX3_term_3 : cX3_term.data.toList.drop 72 = dktX3_term_3 := dk_seg dksX3_term_2 24 rfl rfl
theorem dksX3_term_4 : cX3_term.data.toList.drop 94 = dktX3_term_4 := dk_seg dksX3_term_3 22 rfl rfl
theorem dX3_term_0 : decode cX3_term 0 = .ok (.aload_n 0, 1) := dk_42 (dk_at dksX3_term_0 0 rfl rfl)
theorem dX3_term_1 : decode cX3_term 1 = .ok (.invokevirtual 261, 3) := dk_182 1 5 (dk_at dksX3_term_0 1 rfl rfl)
theorem dX3_term_4 : decode cX3_term 4 = .ok (.aload_n 0, 1) := dk_42 (dk_at dksX3_term_0 4 rfl rfl)
theorem dX3_term_5 : decode cX3_term 5 = .ok (.invokevirtual 222, 3) := dk_182 0 222 (dk_at dksX3_term_0 5 rfl rfl)
theorem dX3_term_8 : decode cX3_term 8 = .ok (.aload_n 0, 1) := dk_42 (dk_at dksX3_term_0 8 rfl rfl)
theorem dX3_term_9 : decode cX3_term 9 = .ok (.getfield 199, 3) := dk_180 0 199 (dk_at dksX3_term_0 9 rfl rfl)
theorem dX3_term_12 : decode cX3_term 12 = .ok (.ifCond .ne 88, 3) := dk_154 0 88 (dk_at dksX3_term_0 12 rfl rfl)
theorem dX3_term_15 : decode cX3_term 15 = .ok (.aload_n 0, 1) := dk_42 (dk_at dksX3_term_0 15 rfl rfl)
theorem dX3_term_16 : decode cX3_term 16 = .ok (.invokevirtual 205, 3) := dk_182 0 205 (dk_at dksX3_term_0 16 rfl rfl)
theorem dX3_term_19 : decode cX3_term 19 = .ok (.bipush 42, 2) := dk_16 42 (dk_at dksX3_term_0 19 rfl rfl)
theorem dX3_term_21 : decode cX3_term 21 = .ok (.if_icmp .eq 21, 3) := dk_159 0 21 (dk_at dksX3_term_0 21 rfl rfl)
theorem dX3_term_24 : decode cX3_term 24 = .ok (.aload_n 0, 1) := dk_42 (dk_at dksX3_term_1 0 rfl rfl)
theorem dX3_term_25 : decode cX3_term 25 = .ok (.invokevirtual 205, 3) := dk_182 0 205 (dk_at dksX3_term_1 1 rfl rfl)
theorem dX3_term_28 : decode cX3_term 28 = .ok (.bipush 47, 2) := dk_16 47 (dk_at dksX3_term_1 4 rfl rfl)
theorem dX3_term_30 : decode cX3_term 30 = .ok (.if_icmp .eq 12, 3) := dk_159 0 12 (dk_at dksX3_term_1 6 rfl rfl)
theorem dX3_term_33 : decode cX3_term 33 = .ok (.aload_n 0, 1) := dk_42 (dk_at dksX3_term_1 9 rfl rfl)
theorem dX3_term_34 : decode cX3_term 34 = .ok (.invokevirtual 205, 3) := dk_182 0 205 (dk_at dksX3_term_1 10 rfl rfl)
theorem dX3_term_37 : decode cX3_term 37 = .ok (.bipush 37, 2) := dk_16 37 (dk_at dksX3_term_1 13 rfl rfl)
theorem dX3_term_39 : decode cX3_term 39 = .ok (.if_icmp .ne 61, 3) := dk_160 0 61 (dk_at dksX3_term_1 15 rfl rfl)
theorem dX3_term_42 : decode cX3_term 42 = .ok (.aload_n 0, 1) := dk_42 (dk_at dksX3_term_1 18 rfl rfl)
theorem dX3_term_43 : decode cX3_term 43 = .ok (.invokevirtual 205, 3) := dk_182 0 205 (dk_at dksX3_term_1 19 rfl rfl)
theorem dX3_term_46 : decode cX3_term 46 = .ok (.bipush 42, 2) := dk_16 42 (dk_at dksX3_term_1 22 rfl rfl)
theorem dX3_term_48 : decode cX3_term 48 = .ok (.if_icmp .ne 8, 3) := dk_160 0 8 (dk_at dksX3_term_2 0 rfl rfl)
theorem dX3_term_51 : decode cX3_term 51 = .ok (.bipush 13, 2) := dk_16 13 (dk_at dksX3_term_2 3 rfl rfl)
theorem dX3_term_53 : decode cX3_term 53 = .ok (.goto 19, 3) := dk_167 0 19 (dk_at dksX3_term_2 5 rfl rfl)
theorem dX3_term_56 : decode cX3_term 56 = .ok (.aload_n 0, 1) := dk_42 (dk_at dksX3_term_2 8 rfl rfl)
theorem dX3_term_57 : decode cX3_term 57 = .ok (.invokevirtual 205, 3) := dk_182 0 205 (dk_at dksX3_term_2 9 rfl rfl)
theorem dX3_term_60 : decode cX3_term 60 = .ok (.bipush 47, 2) := dk_16 47 (dk_at dksX3_term_2 12 rfl rfl)
theorem dX3_term_62 : decode cX3_term 62 = .ok (.if_icmp .ne 8, 3) := dk_160 0 8 (dk_at dksX3_term_2 14 rfl rfl)
theorem dX3_term_65 : decode cX3_term 65 = .ok (.bipush 14, 2) := dk_16 14 (dk_at dksX3_term_2 17 rfl rfl)
theorem dX3_term_67 : decode cX3_term 67 = .ok (.goto 5, 3) := dk_167 0 5 (dk_at dksX3_term_2 19 rfl rfl)
theorem dX3_term_70 : decode cX3_term 70 = .ok (.bipush 15, 2) := dk_16 15 (dk_at dksX3_term_2 22 rfl rfl)
theorem dX3_term_72 : decode cX3_term 72 = .ok (.istore_n 1, 1) := dk_60 (dk_at dksX3_term_3 0 rfl rfl)
theorem dX3_term_73 : decode cX3_term 73 = .ok (.aload_n 0, 1) := dk_42 (dk_at dksX3_term_3 1 rfl rfl)
theorem dX3_term_74 : decode cX3_term 74 = .ok (.dup, 1) := dk_89 (dk_at dksX3_term_3 2 rfl rfl)
theorem dX3_term_75 : decode cX3_term 75 = .ok (.getfield 202, 3) := dk_180 0 202 (dk_at dksX3_term_3 3 rfl rfl)
theorem dX3_term_78 : decode cX3_term 78 = .ok (.iconst 1, 1) := dk_4 (dk_at dksX3_term_3 6 rfl rfl)
theorem dX3_term_79 : decode cX3_term 79 = .ok (.iadd, 1) := dk_96 (dk_at dksX3_term_3 7 rfl rfl)
theorem dX3_term_80 : decode cX3_term 80 = .ok (.putfield 202, 3) := dk_181 0 202 (dk_at dksX3_term_3 8 rfl rfl)
theorem dX3_term_83 : decode cX3_term 83 = .ok (.aload_n 0, 1) := dk_42 (dk_at dksX3_term_3 11 rfl rfl)
theorem dX3_term_84 : decode cX3_term 84 = .ok (.invokevirtual 261, 3) := dk_182 1 5 (dk_at dksX3_term_3 12 rfl rfl)
theorem dX3_term_87 : decode cX3_term 87 = .ok (.aload_n 0, 1) := dk_42 (dk_at dksX3_term_3 15 rfl rfl)
theorem dX3_term_88 : decode cX3_term 88 = .ok (.iload_n 1, 1) := dk_27 (dk_at dksX3_term_3 16 rfl rfl)
theorem dX3_term_89 : decode cX3_term 89 = .ok (.iconst 0, 1) := dk_3 (dk_at dksX3_term_3 17 rfl rfl)
theorem dX3_term_90 : decode cX3_term 90 = .ok (.invokevirtual 254, 3) := dk_182 0 254 (dk_at dksX3_term_3 18 rfl rfl)
theorem dX3_term_93 : decode cX3_term 93 = .ok (.aload_n 0, 1) := dk_42 (dk_at dksX3_term_3 21 rfl rfl)
theorem dX3_term_94 : decode cX3_term 94 = .ok (.invokevirtual 222, 3) := dk_182 0 222 (dk_at dksX3_term_4 0 rfl rfl)
theorem dX3_term_97 : decode cX3_term 97 = .ok (.goto (-89), 3) := dk_167 255 167 (dk_at dksX3_term_4 3 rfl rfl)
theorem dX3_term_100 : decode cX3_term 100 = .ok (.return_, 1) := dk_177 (dk_at dksX3_term_4 6 rfl rfl)
abbrev cX3_value : ByteArray := prog_17_method_23_code
def yX3_value : MethodName := ⟨RX3, "value", "()V"⟩
def dkwX3_value_4 : List UInt8 := [181, 0, 202, 42, 4, 28, 182, 0, 254, 177]
abbrev dktX3_value_4 : List UInt8 := dkwX3_value_4 ++ []
def dkwX3_value_3 : List UInt8 := [3, 27, 182, 0, 238, 177, 42, 27, 182, 0, 251, 42, 89, 180, 0, 202, 28, 184, 1, 1, 182, 0, 213, 96]
abbrev dktX3_value_3 : List UInt8 := dkwX3_value_3 ++ dktX3_value_4
def dkwX3_value_2 : List UInt8 := [184, 1, 1, 182, 0, 225, 154, 0, 9, 132, 2, 1, 167, 255, 234, 28, 42, 180, 0, 88, 160, 0, 10, 42]
abbrev dktX3_value_2 : List UInt8 := dkwX3_value_2 ++ dktX3_value_3
def dkwX3_value_1 : List UInt8 := [27, 182, 0, 251, 42, 3, 28, 182, 0, 254, 177, 3, 61, 28, 42, 180, 0, 88, 162, 0, 20, 42, 28]
abbrev dktX3_value_1 : List UInt8 := dkwX3_value_1 ++ dktX3_value_2
def dkwX3_value_0 : List UInt8 := [42, 182, 0, 222, 42, 180, 0, 202, 60, 42, 182, 0, 242, 153, 0, 22, 42, 18, 246, 182, 0, 247, 61, 42]
abbrev dktX3_value_0 : List UInt8 := dkwX3_value_0 ++ dktX3_value_1
theorem dksX3_value_0 : cX3_value.data.toList.drop 0 = dktX3_value_0 := by decide +kernel
theorem dksX3_value_1 : cX3_value.data.toList.drop 24 = dktX3_value_1 := dk_seg dksX3_value_0 24 rfl rfl
theorem dksX3_value_2 : cX3_value.data.toList.drop 47 = dktX3_value_2 := dk_seg dksX3_value_1 23 rfl rfl
theorem dksX3_value_3 : cX3_value.data.toList.drop 71 = dktX3_value_3 := dk_seg dksX3_value_2 24 rfl rfl
theorem dksX3_value_4 : cX3_value.data.toList.drop 95 = dktX3_value_4 := dk_seg dksX3_value_3 24 rfl rfl
theorem dX3_value_0 : decode cX3_value 0 = .ok (.aload_n 0, 1) := dk_42 (dk_at dksX3_value_0 0 rfl rfl)
theorem dX3_value_1 : decode cX3_value 1 = .ok (.invokevirtual 222, 3) := dk_182 0 222 (dk_at dksX3_value_0 1 rfl rfl)
theorem dX3_value_4 : decode cX3_value 4 = .ok (.aload_n 0, 1) := dk_42 (dk_at dksX3_value_0 4 rfl rfl)
theorem dX3_value_5 : decode cX3_value 5 = .ok (.getfield 202, 3) := dk_180 0 202 (dk_at dksX3_value_0 5 rfl rfl)
theorem dX3_value_8 : decode cX3_value 8 = .ok (.istore_n 1, 1) := dk_60 (dk_at dksX3_value_0 8 rfl rfl)
theorem dX3_value_9 : decode cX3_value 9 = .ok (.aload_n 0, 1) := dk_42 (dk_at dksX3_value_0 9 rfl rfl)
theorem dX3_value_10 : decode cX3_value 10 = .ok (.invokevirtual 242, 3) := dk_182 0 242 (dk_at dksX3_value_0 10 rfl rfl)
theorem dX3_value_13 : decode cX3_value 13 = .ok (.ifCond .eq 22, 3) := dk_153 0 22 (dk_at dksX3_value_0 13 rfl rfl)
theorem dX3_value_16 : decode cX3_value 16 = .ok (.aload_n 0, 1) := dk_42 (dk_at dksX3_value_0 16 rfl rfl)
theorem dX3_value_17 : decode cX3_value 17 = .ok (.ldc 246, 2) := dk_18 246 (dk_at dksX3_value_0 17 rfl rfl)
theorem dX3_value_19 : decode cX3_value 19 = .ok (.invokevirtual 247, 3) := dk_182 0 247 (dk_at dksX3_value_0 19 rfl rfl)
theorem dX3_value_22 : decode cX3_value 22 = .ok (.istore_n 2, 1) := dk_61 (dk_at dksX3_value_0 22 rfl rfl)
theorem dX3_value_23 : decode cX3_value 23 = .ok (.aload_n 0, 1) := dk_42 (dk_at dksX3_value_0 23 rfl rfl)
theorem dX3_value_24 : decode cX3_value 24 = .ok (.iload_n 1, 1) := dk_27 (dk_at dksX3_value_1 0 rfl rfl)
theorem dX3_value_25 : decode cX3_value 25 = .ok (.invokevirtual 251, 3) := dk_182 0 251 (dk_at dksX3_value_1 1 rfl rfl)
theorem dX3_value_28 : decode cX3_value 28 = .ok (.aload_n 0, 1) := dk_42 (dk_at dksX3_value_1 4 rfl rfl)
theorem dX3_value_29 : decode cX3_value 29 = .ok (.iconst 0, 1) := dk_3 (dk_at dksX3_value_1 5 rfl rfl)
theorem dX3_value_30 : decode cX3_value 30 = .ok (.iload_n 2, 1) := dk_28 (dk_at dksX3_value_1 6 rfl rfl)
theorem dX3_value_31 : decode cX3_value 31 = .ok (.invokevirtual 254, 3) := dk_182 0 254 (dk_at dksX3_value_1 7 rfl rfl)
theorem dX3_value_34 : decode cX3_value 34 = .ok (.return_, 1) := dk_177 (dk_at dksX3_value_1 10 rfl rfl)
theorem dX3_value_35 : decode cX3_value 35 = .ok (.iconst 0, 1) := dk_3 (dk_at dksX3_value_1 11 rfl rfl)
theorem dX3_value_36 : decode cX3_value 36 = .ok (.istore_n 2, 1) := dk_61 (dk_at dksX3_value_1 12 rfl rfl)
theorem dX3_value_37 : decode cX3_value 37 = .ok (.iload_n 2, 1) := dk_28 (dk_at dksX3_value_1 13 rfl rfl)
theorem dX3_value_38 : decode cX3_value 38 = .ok (.aload_n 0, 1) := dk_42 (dk_at dksX3_value_1 14 rfl rfl)
theorem dX3_value_39 : decode cX3_value 39 = .ok (.getfield 88, 3) := dk_180 0 88 (dk_at dksX3_value_1 15 rfl rfl)
theorem dX3_value_42 : decode cX3_value 42 = .ok (.if_icmp .ge 20, 3) := dk_162 0 20 (dk_at dksX3_value_1 18 rfl rfl)
theorem dX3_value_45 : decode cX3_value 45 = .ok (.aload_n 0, 1) := dk_42 (dk_at dksX3_value_1 21 rfl rfl)
theorem dX3_value_46 : decode cX3_value 46 = .ok (.iload_n 2, 1) := dk_28 (dk_at dksX3_value_1 22 rfl rfl)
theorem dX3_value_47 : decode cX3_value 47 = .ok (.invokestatic 257, 3) := dk_184 1 1 (dk_at dksX3_value_2 0 rfl rfl)
theorem dX3_value_50 : decode cX3_value 50 = .ok (.invokevirtual 225, 3) := dk_182 0 225 (dk_at dksX3_value_2 3 rfl rfl)
theorem dX3_value_53 : decode cX3_value 53 = .ok (.ifCond .ne 9, 3) := dk_154 0 9 (dk_at dksX3_value_2 6 rfl rfl)
theorem dX3_value_56 : decode cX3_value 56 = .ok (.iinc 2 1, 3) := dk_132 2 1 (dk_at dksX3_value_2 9 rfl rfl)
theorem dX3_value_59 : decode cX3_value 59 = .ok (.goto (-22), 3) := dk_167 255 234 (dk_at dksX3_value_2 12 rfl rfl)
theorem dX3_value_62 : decode cX3_value 62 = .ok (.iload_n 2, 1) := dk_28 (dk_at dksX3_value_2 15 rfl rfl)
theorem dX3_value_63 : decode cX3_value 63 = .ok (.aload_n 0, 1) := dk_42 (dk_at dksX3_value_2 16 rfl rfl)
theorem dX3_value_64 : decode cX3_value 64 = .ok (.getfield 88, 3) := dk_180 0 88 (dk_at dksX3_value_2 17 rfl rfl)
theorem dX3_value_67 : decode cX3_value 67 = .ok (.if_icmp .ne 10, 3) := dk_160 0 10 (dk_at dksX3_value_2 20 rfl rfl)
theorem dX3_value_70 : decode cX3_value 70 = .ok (.aload_n 0, 1) := dk_42 (dk_at dksX3_value_2 23 rfl rfl)
theorem dX3_value_71 : decode cX3_value 71 = .ok (.iconst 0, 1) := dk_3 (dk_at dksX3_value_3 0 rfl rfl)
theorem dX3_value_72 : decode cX3_value 72 = .ok (.iload_n 1, 1) := dk_27 (dk_at dksX3_value_3 1 rfl rfl)
theorem dX3_value_73 : decode cX3_value 73 = .ok (.invokevirtual 238, 3) := dk_182 0 238 (dk_at dksX3_value_3 2 rfl rfl)
theorem dX3_value_76 : decode cX3_value 76 = .ok (.return_, 1) := dk_177 (dk_at dksX3_value_3 5 rfl rfl)
theorem dX3_value_77 : decode cX3_value 77 = .ok (.aload_n 0, 1) := dk_42 (dk_at dksX3_value_3 6 rfl rfl)
theorem dX3_value_78 : decode cX3_value 78 = .ok (.iload_n 1, 1) := dk_27 (dk_at dksX3_value_3 7 rfl rfl)
theorem dX3_value_79 : decode cX3_value 79 = .ok (.invokevirtual 251, 3) := dk_182 0 251 (dk_at dksX3_value_3 8 rfl rfl)
theorem dX3_value_82 : decode cX3_value 82 = .ok (.aload_n 0, 1) := dk_42 (dk_at dksX3_value_3 11 rfl rfl)
theorem dX3_value_83 : decode cX3_value 83 = .ok (.dup, 1) := dk_89 (dk_at dksX3_value_3 12 rfl rfl)
theorem dX3_value_84 : decode cX3_value 84 = .ok (.getfield 202, 3) := dk_180 0 202 (dk_at dksX3_value_3 13 rfl rfl)
theorem dX3_value_87 : decode cX3_value 87 = .ok (.iload_n 2, 1) := dk_28 (dk_at dksX3_value_3 16 rfl rfl)
theorem dX3_value_88 : decode cX3_value 88 = .ok (.invokestatic 257, 3) := dk_184 1 1 (dk_at dksX3_value_3 17 rfl rfl)
theorem dX3_value_91 : decode cX3_value 91 = .ok (.invokevirtual 213, 3) := dk_182 0 213 (dk_at dksX3_value_3 20 rfl rfl)
theorem dX3_value_94 : decode cX3_value 94 = .ok (.iadd, 1) := dk_96 (dk_at dksX3_value_3 23 rfl rfl)
theorem dX3_value_95 : decode cX3_value 95 = .ok (.putfield 202, 3) := dk_181 0 202 (dk_at dksX3_value_4 0 rfl rfl)
theorem dX3_value_98 : decode cX3_value 98 = .ok (.aload_n 0, 1) := dk_42 (dk_at dksX3_value_4 3 rfl rfl)
theorem dX3_value_99 : decode cX3_value 99 = .ok (.iconst 1, 1) := dk_4 (dk_at dksX3_value_4 4 rfl rfl)
theorem dX3_value_100 : decode cX3_value 100 = .ok (.iload_n 2, 1) := dk_28 (dk_at dksX3_value_4 5 rfl rfl)
theorem dX3_value_101 : decode cX3_value 101 = .ok (.invokevirtual 254, 3) := dk_182 0 254 (dk_at dksX3_value_4 6 rfl rfl)
theorem dX3_value_104 : decode cX3_value 104 = .ok (.return_, 1) := dk_177 (dk_at dksX3_value_4 9 rfl rfl)
abbrev cX3_isCounted : ByteArray := prog_17_method_21_code
def yX3_isCounted : MethodName := ⟨RX3, "isCounted", "(I)V"⟩
def dkwX3_isCounted_1 : List UInt8 := [181, 0, 235, 177]
abbrev dktX3_isCounted_1 : List UInt8 := dkwX3_isCounted_1 ++ []
def dkwX3_isCounted_0 : List UInt8 := [42, 180, 0, 235, 16, 60, 160, 0, 9, 42, 6, 27, 182, 0, 238, 42, 89, 180, 0, 235, 4, 96]
abbrev dktX3_isCounted_0 : List UInt8 := dkwX3_isCounted_0 ++ dktX3_isCounted_1
theorem dksX3_isCounted_0 : cX3_isCounted.data.toList.drop 0 = dktX3_isCounted_0 := by decide +kernel
theorem dksX3_isCounted_1 : cX3_isCounted.data.toList.drop 22 = dktX3_isCounted_1 := dk_seg dksX3_isCounted_0 22 rfl rfl
theorem dX3_isCounted_0 : decode cX3_isCounted 0 = .ok (.aload_n 0, 1) := dk_42 (dk_at dksX3_isCounted_0 0 rfl rfl)
theorem dX3_isCounted_1 : decode cX3_isCounted 1 = .ok (.getfield 235, 3) := dk_180 0 235 (dk_at dksX3_isCounted_0 1 rfl rfl)
theorem dX3_isCounted_4 : decode cX3_isCounted 4 = .ok (.bipush 60, 2) := dk_16 60 (dk_at dksX3_isCounted_0 4 rfl rfl)
theorem dX3_isCounted_6 : decode cX3_isCounted 6 = .ok (.if_icmp .ne 9, 3) := dk_160 0 9 (dk_at dksX3_isCounted_0 6 rfl rfl)
theorem dX3_isCounted_9 : decode cX3_isCounted 9 = .ok (.aload_n 0, 1) := dk_42 (dk_at dksX3_isCounted_0 9 rfl rfl)
theorem dX3_isCounted_10 : decode cX3_isCounted 10 = .ok (.iconst 3, 1) := dk_6 (dk_at dksX3_isCounted_0 10 rfl rfl)
theorem dX3_isCounted_11 : decode cX3_isCounted 11 = .ok (.iload_n 1, 1) := dk_27 (dk_at dksX3_isCounted_0 11 rfl rfl)
theorem dX3_isCounted_12 : decode cX3_isCounted 12 = .ok (.invokevirtual 238, 3) := dk_182 0 238 (dk_at dksX3_isCounted_0 12 rfl rfl)
theorem dX3_isCounted_15 : decode cX3_isCounted 15 = .ok (.aload_n 0, 1) := dk_42 (dk_at dksX3_isCounted_0 15 rfl rfl)
theorem dX3_isCounted_16 : decode cX3_isCounted 16 = .ok (.dup, 1) := dk_89 (dk_at dksX3_isCounted_0 16 rfl rfl)
theorem dX3_isCounted_17 : decode cX3_isCounted 17 = .ok (.getfield 235, 3) := dk_180 0 235 (dk_at dksX3_isCounted_0 17 rfl rfl)
theorem dX3_isCounted_20 : decode cX3_isCounted 20 = .ok (.iconst 1, 1) := dk_4 (dk_at dksX3_isCounted_0 20 rfl rfl)
theorem dX3_isCounted_21 : decode cX3_isCounted 21 = .ok (.iadd, 1) := dk_96 (dk_at dksX3_isCounted_0 21 rfl rfl)
theorem dX3_isCounted_22 : decode cX3_isCounted 22 = .ok (.putfield 235, 3) := dk_181 0 235 (dk_at dksX3_isCounted_1 0 rfl rfl)
theorem dX3_isCounted_25 : decode cX3_isCounted 25 = .ok (.return_, 1) := dk_177 (dk_at dksX3_isCounted_1 3 rfl rfl)
abbrev cX3_entry : ByteArray := prog_17_method_20_code
def yX3_entry : MethodName := ⟨RX3, "entry", "(II)V"⟩
def dkwX3_entry_2 : List UInt8 := [180, 0, 232, 4, 96, 181, 0, 232, 177]
abbrev dktX3_entry_2 : List UInt8 := dkwX3_entry_2 ++ []
def dkwX3_entry_1 : List UInt8 := [27, 79, 42, 180, 0, 99, 17, 1, 44, 42, 180, 0, 229, 104, 42, 180, 0, 232, 96, 28, 79, 42, 89]
abbrev dktX3_entry_1 : List UInt8 := dkwX3_entry_1 ++ dktX3_entry_2
def dkwX3_entry_0 : List UInt8 := [42, 180, 0, 199, 154, 0, 51, 42, 180, 0, 96, 17, 1, 44, 42, 180, 0, 229, 104, 42, 180, 0, 232, 96]
abbrev dktX3_entry_0 : List UInt8 := dkwX3_entry_0 ++ dktX3_entry_1
theorem dksX3_entry_0 : cX3_entry.data.toList.drop 0 = dktX3_entry_0 := by decide +kernel
theorem dksX3_entry_1 : cX3_entry.data.toList.drop 24 = dktX3_entry_1 := dk_seg dksX3_entry_0 24 rfl rfl
theorem dksX3_entry_2 : cX3_entry.data.toList.drop 47 = dktX3_entry_2 := dk_seg dksX3_entry_1 23 rfl rfl
theorem dX3_entry_0 : decode cX3_entry 0 = .ok (.aload_n 0, 1) := dk_42 (dk_at dksX3_entry_0 0 rfl rfl)
theorem dX3_entry_1 : decode cX3_entry 1 = .ok (.getfield 199, 3) := dk_180 0 199 (dk_at dksX3_entry_0 1 rfl rfl)
theorem dX3_entry_4 : decode cX3_entry 4 = .ok (.ifCond .ne 51, 3) := dk_154 0 51 (dk_at dksX3_entry_0 4 rfl rfl)
theorem dX3_entry_7 : decode cX3_entry 7 = .ok (.aload_n 0, 1) := dk_42 (dk_at dksX3_entry_0 7 rfl rfl)
theorem dX3_entry_8 : decode cX3_entry 8 = .ok (.getfield 96, 3) := dk_180 0 96 (dk_at dksX3_entry_0 8 rfl rfl)
theorem dX3_entry_11 : decode cX3_entry 11 = .ok (.sipush 300, 3) := dk_17 1 44 (dk_at dksX3_entry_0 11 rfl rfl)
theorem dX3_entry_14 : decode cX3_entry 14 = .ok (.aload_n 0, 1) := dk_42 (dk_at dksX3_entry_0 14 rfl rfl)
theorem dX3_entry_15 : decode cX3_entry 15 = .ok (.getfield 229, 3) := dk_180 0 229 (dk_at dksX3_entry_0 15 rfl rfl)
theorem dX3_entry_18 : decode cX3_entry 18 = .ok (.imul, 1) := dk_104 (dk_at dksX3_entry_0 18 rfl rfl)
theorem dX3_entry_19 : decode cX3_entry 19 = .ok (.aload_n 0, 1) := dk_42 (dk_at dksX3_entry_0 19 rfl rfl)
theorem dX3_entry_20 : decode cX3_entry 20 = .ok (.getfield 232, 3) := dk_180 0 232 (dk_at dksX3_entry_0 20 rfl rfl)
theorem dX3_entry_23 : decode cX3_entry 23 = .ok (.iadd, 1) := dk_96 (dk_at dksX3_entry_0 23 rfl rfl)
theorem dX3_entry_24 : decode cX3_entry 24 = .ok (.iload_n 1, 1) := dk_27 (dk_at dksX3_entry_1 0 rfl rfl)
theorem dX3_entry_25 : decode cX3_entry 25 = .ok (.iastore, 1) := dk_79 (dk_at dksX3_entry_1 1 rfl rfl)
theorem dX3_entry_26 : decode cX3_entry 26 = .ok (.aload_n 0, 1) := dk_42 (dk_at dksX3_entry_1 2 rfl rfl)
theorem dX3_entry_27 : decode cX3_entry 27 = .ok (.getfield 99, 3) := dk_180 0 99 (dk_at dksX3_entry_1 3 rfl rfl)
theorem dX3_entry_30 : decode cX3_entry 30 = .ok (.sipush 300, 3) := dk_17 1 44 (dk_at dksX3_entry_1 6 rfl rfl)
theorem dX3_entry_33 : decode cX3_entry 33 = .ok (.aload_n 0, 1) := dk_42 (dk_at dksX3_entry_1 9 rfl rfl)
theorem dX3_entry_34 : decode cX3_entry 34 = .ok (.getfield 229, 3) := dk_180 0 229 (dk_at dksX3_entry_1 10 rfl rfl)
theorem dX3_entry_37 : decode cX3_entry 37 = .ok (.imul, 1) := dk_104 (dk_at dksX3_entry_1 13 rfl rfl)
theorem dX3_entry_38 : decode cX3_entry 38 = .ok (.aload_n 0, 1) := dk_42 (dk_at dksX3_entry_1 14 rfl rfl)
theorem dX3_entry_39 : decode cX3_entry 39 = .ok (.getfield 232, 3) := dk_180 0 232 (dk_at dksX3_entry_1 15 rfl rfl)
theorem dX3_entry_42 : decode cX3_entry 42 = .ok (.iadd, 1) := dk_96 (dk_at dksX3_entry_1 18 rfl rfl)
theorem dX3_entry_43 : decode cX3_entry 43 = .ok (.iload_n 2, 1) := dk_28 (dk_at dksX3_entry_1 19 rfl rfl)
theorem dX3_entry_44 : decode cX3_entry 44 = .ok (.iastore, 1) := dk_79 (dk_at dksX3_entry_1 20 rfl rfl)
theorem dX3_entry_45 : decode cX3_entry 45 = .ok (.aload_n 0, 1) := dk_42 (dk_at dksX3_entry_1 21 rfl rfl)
theorem dX3_entry_46 : decode cX3_entry 46 = .ok (.dup, 1) := dk_89 (dk_at dksX3_entry_1 22 rfl rfl)
theorem dX3_entry_47 : decode cX3_entry 47 = .ok (.getfield 232, 3) := dk_180 0 232 (dk_at dksX3_entry_2 0 rfl rfl)
theorem dX3_entry_50 : decode cX3_entry 50 = .ok (.iconst 1, 1) := dk_4 (dk_at dksX3_entry_2 3 rfl rfl)
theorem dX3_entry_51 : decode cX3_entry 51 = .ok (.iadd, 1) := dk_96 (dk_at dksX3_entry_2 4 rfl rfl)
theorem dX3_entry_52 : decode cX3_entry 52 = .ok (.putfield 232, 3) := dk_181 0 232 (dk_at dksX3_entry_2 5 rfl rfl)
theorem dX3_entry_55 : decode cX3_entry 55 = .ok (.return_, 1) := dk_177 (dk_at dksX3_entry_2 8 rfl rfl)
abbrev cX3_wordOf : ByteArray := prog_17_method_13_code
def yX3_wordOf : MethodName := ⟨RX3, "wordOf", "(I)Ljava/lang/String;"⟩
def dkwX3_wordOf_3 : List UInt8 := [18, 190, 176, 18, 192, 176, 18, 194, 176, 18, 195, 176, 18, 197, 176]
abbrev dktX3_wordOf_3 : List UInt8 := dkwX3_wordOf_3 ++ []
def dkwX3_wordOf_2 : List UInt8 := [18, 175, 176, 18, 177, 176, 18, 179, 176, 18, 181, 176, 18, 182, 176, 18, 184, 176, 18, 186, 176, 18, 188, 176]
abbrev dktX3_wordOf_2 : List UInt8 := dkwX3_wordOf_2 ++ dktX3_wordOf_3
def dkwX3_wordOf_1 : List UInt8 := [170, 0, 0, 0, 0, 0, 99, 0, 0, 0, 0, 0, 0, 0, 11, 0, 0, 0, 63, 0, 0, 0, 66, 0, 0, 0, 69, 0, 0, 0, 72, 0, 0, 0, 75, 0, 0, 0, 78, 0, 0, 0, 81, 0, 0, 0, 84, 0, 0, 0, 87, 0, 0, 0, 90, 0, 0, 0, 93, 0, 0, 0, 96]
abbrev dktX3_wordOf_1 : List UInt8 := dkwX3_wordOf_1 ++ dktX3_wordOf_2
def dkwX3_wordOf_0 : List UInt8 := [26]
abbrev dktX3_wordOf_0 : List UInt8 := dkwX3_wordOf_0 ++ dktX3_wordOf_1
theorem dksX3_wordOf_0 : cX3_wordOf.data.toList.drop 0 = dktX3_wordOf_0 := by decide +kernel
theorem dksX3_wordOf_1 : cX3_wordOf.data.toList.drop 1 = dktX3_wordOf_1 := dk_seg dksX3_wordOf_0 1 rfl rfl
theorem dksX3_wordOf_2 : cX3_wordOf.data.toList.drop 64 = dktX3_wordOf_2 := dk_seg dksX3_wordOf_1 63 rfl rfl
theorem dksX3_wordOf_3 : cX3_wordOf.data.toList.drop 88 = dktX3_wordOf_3 := dk_seg dksX3_wordOf_2 24 rfl rfl
theorem dX3_wordOf_0 : decode cX3_wordOf 0 = .ok (.iload_n 0, 1) := dk_26 (dk_at dksX3_wordOf_0 0 rfl rfl)
theorem dX3_wordOf_1 : decode cX3_wordOf 1 = .ok (.tableswitch 99 0 11 #[63, 66, 69, 72, 75, 78, 81, 84, 87, 90, 93, 96], 63) := by decide +kernel
theorem dX3_wordOf_64 : decode cX3_wordOf 64 = .ok (.ldc 175, 2) := dk_18 175 (dk_at dksX3_wordOf_2 0 rfl rfl)
theorem dX3_wordOf_66 : decode cX3_wordOf 66 = .ok (.areturn, 1) := dk_176 (dk_at dksX3_wordOf_2 2 rfl rfl)
theorem dX3_wordOf_67 : decode cX3_wordOf 67 = .ok (.ldc 177, 2) := dk_18 177 (dk_at dksX3_wordOf_2 3 rfl rfl)
theorem dX3_wordOf_69 : decode cX3_wordOf 69 = .ok (.areturn, 1) := dk_176 (dk_at dksX3_wordOf_2 5 rfl rfl)
theorem dX3_wordOf_70 : decode cX3_wordOf 70 = .ok (.ldc 179, 2) := dk_18 179 (dk_at dksX3_wordOf_2 6 rfl rfl)
theorem dX3_wordOf_72 : decode cX3_wordOf 72 = .ok (.areturn, 1) := dk_176 (dk_at dksX3_wordOf_2 8 rfl rfl)
theorem dX3_wordOf_73 : decode cX3_wordOf 73 = .ok (.ldc 181, 2) := dk_18 181 (dk_at dksX3_wordOf_2 9 rfl rfl)
theorem dX3_wordOf_75 : decode cX3_wordOf 75 = .ok (.areturn, 1) := dk_176 (dk_at dksX3_wordOf_2 11 rfl rfl)
theorem dX3_wordOf_76 : decode cX3_wordOf 76 = .ok (.ldc 182, 2) := dk_18 182 (dk_at dksX3_wordOf_2 12 rfl rfl)
theorem dX3_wordOf_78 : decode cX3_wordOf 78 = .ok (.areturn, 1) := dk_176 (dk_at dksX3_wordOf_2 14 rfl rfl)
theorem dX3_wordOf_79 : decode cX3_wordOf 79 = .ok (.ldc 184, 2) := dk_18 184 (dk_at dksX3_wordOf_2 15 rfl rfl)
theorem dX3_wordOf_81 : decode cX3_wordOf 81 = .ok (.areturn, 1) := dk_176 (dk_at dksX3_wordOf_2 17 rfl rfl)
theorem dX3_wordOf_82 : decode cX3_wordOf 82 = .ok (.ldc 186, 2) := dk_18 186 (dk_at dksX3_wordOf_2 18 rfl rfl)
theorem dX3_wordOf_84 : decode cX3_wordOf 84 = .ok (.areturn, 1) := dk_176 (dk_at dksX3_wordOf_2 20 rfl rfl)
theorem dX3_wordOf_85 : decode cX3_wordOf 85 = .ok (.ldc 188, 2) := dk_18 188 (dk_at dksX3_wordOf_2 21 rfl rfl)
theorem dX3_wordOf_87 : decode cX3_wordOf 87 = .ok (.areturn, 1) := dk_176 (dk_at dksX3_wordOf_2 23 rfl rfl)
theorem dX3_wordOf_88 : decode cX3_wordOf 88 = .ok (.ldc 190, 2) := dk_18 190 (dk_at dksX3_wordOf_3 0 rfl rfl)
theorem dX3_wordOf_90 : decode cX3_wordOf 90 = .ok (.areturn, 1) := dk_176 (dk_at dksX3_wordOf_3 2 rfl rfl)
theorem dX3_wordOf_91 : decode cX3_wordOf 91 = .ok (.ldc 192, 2) := dk_18 192 (dk_at dksX3_wordOf_3 3 rfl rfl)
theorem dX3_wordOf_93 : decode cX3_wordOf 93 = .ok (.areturn, 1) := dk_176 (dk_at dksX3_wordOf_3 5 rfl rfl)
theorem dX3_wordOf_94 : decode cX3_wordOf 94 = .ok (.ldc 194, 2) := dk_18 194 (dk_at dksX3_wordOf_3 6 rfl rfl)
theorem dX3_wordOf_96 : decode cX3_wordOf 96 = .ok (.areturn, 1) := dk_176 (dk_at dksX3_wordOf_3 8 rfl rfl)
theorem dX3_wordOf_97 : decode cX3_wordOf 97 = .ok (.ldc 195, 2) := dk_18 195 (dk_at dksX3_wordOf_3 9 rfl rfl)
theorem dX3_wordOf_99 : decode cX3_wordOf 99 = .ok (.areturn, 1) := dk_176 (dk_at dksX3_wordOf_3 11 rfl rfl)
theorem dX3_wordOf_100 : decode cX3_wordOf 100 = .ok (.ldc 197, 2) := dk_18 197 (dk_at dksX3_wordOf_3 12 rfl rfl)
theorem dX3_wordOf_102 : decode cX3_wordOf 102 = .ok (.areturn, 1) := dk_176 (dk_at dksX3_wordOf_3 14 rfl rfl)
abbrev cX3_takes : ByteArray := prog_17_method_19_code
def yX3_takes : MethodName := ⟨RX3, "takes", "(Ljava/lang/String;)Z"⟩
def dkwX3_takes_1 : List UInt8 := [167, 0, 4, 3, 96, 181, 0, 202, 28, 172]
abbrev dktX3_takes_1 : List UInt8 := dkwX3_takes_1 ++ []
def dkwX3_takes_0 : List UInt8 := [42, 182, 0, 222, 42, 43, 182, 0, 225, 61, 42, 89, 180, 0, 202, 28, 153, 0, 10, 43, 182, 0, 213]
abbrev dktX3_takes_0 : List UInt8 := dkwX3_takes_0 ++ dktX3_takes_1
theorem dksX3_takes_0 : cX3_takes.data.toList.drop 0 = dktX3_takes_0 := by decide +kernel
theorem dksX3_takes_1 : cX3_takes.data.toList.drop 23 = dktX3_takes_1 := dk_seg dksX3_takes_0 23 rfl rfl
theorem dX3_takes_0 : decode cX3_takes 0 = .ok (.aload_n 0, 1) := dk_42 (dk_at dksX3_takes_0 0 rfl rfl)
theorem dX3_takes_1 : decode cX3_takes 1 = .ok (.invokevirtual 222, 3) := dk_182 0 222 (dk_at dksX3_takes_0 1 rfl rfl)
theorem dX3_takes_4 : decode cX3_takes 4 = .ok (.aload_n 0, 1) := dk_42 (dk_at dksX3_takes_0 4 rfl rfl)
theorem dX3_takes_5 : decode cX3_takes 5 = .ok (.aload_n 1, 1) := dk_43 (dk_at dksX3_takes_0 5 rfl rfl)
theorem dX3_takes_6 : decode cX3_takes 6 = .ok (.invokevirtual 225, 3) := dk_182 0 225 (dk_at dksX3_takes_0 6 rfl rfl)
theorem dX3_takes_9 : decode cX3_takes 9 = .ok (.istore_n 2, 1) := dk_61 (dk_at dksX3_takes_0 9 rfl rfl)
theorem dX3_takes_10 : decode cX3_takes 10 = .ok (.aload_n 0, 1) := dk_42 (dk_at dksX3_takes_0 10 rfl rfl)
theorem dX3_takes_11 : decode cX3_takes 11 = .ok (.dup, 1) := dk_89 (dk_at dksX3_takes_0 11 rfl rfl)
theorem dX3_takes_12 : decode cX3_takes 12 = .ok (.getfield 202, 3) := dk_180 0 202 (dk_at dksX3_takes_0 12 rfl rfl)
theorem dX3_takes_15 : decode cX3_takes 15 = .ok (.iload_n 2, 1) := dk_28 (dk_at dksX3_takes_0 15 rfl rfl)
theorem dX3_takes_16 : decode cX3_takes 16 = .ok (.ifCond .eq 10, 3) := dk_153 0 10 (dk_at dksX3_takes_0 16 rfl rfl)
theorem dX3_takes_19 : decode cX3_takes 19 = .ok (.aload_n 1, 1) := dk_43 (dk_at dksX3_takes_0 19 rfl rfl)
theorem dX3_takes_20 : decode cX3_takes 20 = .ok (.invokevirtual 213, 3) := dk_182 0 213 (dk_at dksX3_takes_0 20 rfl rfl)
theorem dX3_takes_23 : decode cX3_takes 23 = .ok (.goto 4, 3) := dk_167 0 4 (dk_at dksX3_takes_1 0 rfl rfl)
theorem dX3_takes_26 : decode cX3_takes 26 = .ok (.iconst 0, 1) := dk_3 (dk_at dksX3_takes_1 3 rfl rfl)
theorem dX3_takes_27 : decode cX3_takes 27 = .ok (.iadd, 1) := dk_96 (dk_at dksX3_takes_1 4 rfl rfl)
theorem dX3_takes_28 : decode cX3_takes 28 = .ok (.putfield 202, 3) := dk_181 0 202 (dk_at dksX3_takes_1 5 rfl rfl)
theorem dX3_takes_31 : decode cX3_takes 31 = .ok (.iload_n 2, 1) := dk_28 (dk_at dksX3_takes_1 8 rfl rfl)
theorem dX3_takes_32 : decode cX3_takes 32 = .ok (.ireturn, 1) := dk_172 (dk_at dksX3_takes_1 9 rfl rfl)
abbrev cX3_test : ByteArray := prog_17_method_31_code
def yX3_test : MethodName := ⟨RX3, "test", "()V"⟩
def dkwX3_test_8 : List UInt8 := [4, 100, 181, 1, 16, 167, 0, 5, 3, 61, 167, 255, 66, 177]
abbrev dktX3_test_8 : List UInt8 := dkwX3_test_8 ++ []
def dkwX3_test_7 : List UInt8 := [89, 180, 0, 202, 4, 96, 181, 0, 202, 42, 89, 180, 1, 13, 4, 100, 181, 1, 13, 42, 89, 180, 1, 16]
abbrev dktX3_test_7 : List UInt8 := dkwX3_test_7 ++ dktX3_test_8
def dkwX3_test_6 : List UInt8 := [16, 12, 160, 0, 54, 42, 182, 0, 205, 16, 93, 159, 0, 12, 42, 3, 42, 180, 0, 202, 182, 0, 238, 42]
abbrev dktX3_test_6 : List UInt8 := dkwX3_test_6 ++ dktX3_test_7
def dkwX3_test_5 : List UInt8 := [167, 0, 4, 5, 96, 181, 0, 202, 4, 60, 167, 0, 71, 42, 16, 11, 182, 1, 32, 42, 182, 1, 19]
abbrev dktX3_test_5 : List UInt8 := dkwX3_test_5 ++ dktX3_test_6
def dkwX3_test_4 : List UInt8 := [29, 153, 0, 8, 16, 10, 167, 0, 5, 16, 11, 182, 1, 23, 42, 89, 180, 0, 202, 29, 153, 0, 7, 6]
abbrev dktX3_test_4 : List UInt8 := dkwX3_test_4 ++ dktX3_test_5
def dkwX3_test_3 : List UInt8 := [182, 1, 32, 29, 154, 0, 8, 21, 4, 153, 0, 52, 21, 4, 153, 0, 9, 42, 16, 11, 182, 1, 32, 42]
abbrev dktX3_test_3 : List UInt8 := dkwX3_test_3 ++ dktX3_test_4
def dkwX3_test_2 : List UInt8 := [182, 0, 222, 42, 19, 1, 35, 182, 0, 225, 62, 42, 19, 1, 37, 182, 0, 225, 54, 4, 42, 16, 10]
abbrev dktX3_test_2 : List UInt8 := dkwX3_test_2 ++ dktX3_test_3
def dkwX3_test_1 : List UInt8 := [42, 182, 1, 29, 154, 0, 7, 4, 167, 0, 4, 3, 60, 167, 255, 228, 42, 16, 9, 182, 1, 32, 42]
abbrev dktX3_test_1 : List UInt8 := dkwX3_test_1 ++ dktX3_test_2
def dkwX3_test_0 : List UInt8 := [42, 3, 181, 1, 13, 4, 60, 4, 61, 28, 153, 0, 192, 42, 180, 0, 199, 154, 0, 185, 27, 153, 0, 19]
abbrev dktX3_test_0 : List UInt8 := dkwX3_test_0 ++ dktX3_test_1
theorem dksX3_test_0 : cX3_test.data.toList.drop 0 = dktX3_test_0 := by decide +kernel
theorem dksX3_test_1 : cX3_test.data.toList.drop 24 = dktX3_test_1 := dk_seg dksX3_test_0 24 rfl rfl
theorem dksX3_test_2 : cX3_test.data.toList.drop 47 = dktX3_test_2 := dk_seg dksX3_test_1 23 rfl rfl
theorem dksX3_test_3 : cX3_test.data.toList.drop 70 = dktX3_test_3 := dk_seg dksX3_test_2 23 rfl rfl
theorem dksX3_test_4 : cX3_test.data.toList.drop 94 = dktX3_test_4 := dk_seg dksX3_test_3 24 rfl rfl
theorem dksX3_test_5 : cX3_test.data.toList.drop 118 = dktX3_test_5 := dk_seg dksX3_test_4 24 rfl rfl
theorem dksX3_test_6 : cX3_test.data.toList.drop 141 = dktX3_test_6 := dk_seg dksX3_test_5 23 rfl rfl
theorem dksX3_test_7 : cX3_test.data.toList.drop 165 = dktX3_test_7 := dk_seg dksX3_test_6 24 rfl rfl
theorem dksX3_test_8 : cX3_test.data.toList.drop 189 = dktX3_test_8 := dk_seg dksX3_test_7 24 rfl rfl
theorem dX3_test_0 : decode cX3_test 0 = .ok (.aload_n 0, 1) := dk_42 (dk_at dksX3_test_0 0 rfl rfl)
theorem dX3_test_1 : decode cX3_test 1 = .ok (.iconst 0, 1) := dk_3 (dk_at dksX3_test_0 1 rfl rfl)
theorem dX3_test_2 : decode cX3_test 2 = .ok (.putfield 269, 3) := dk_181 1 13 (dk_at dksX3_test_0 2 rfl rfl)
theorem dX3_test_5 : decode cX3_test 5 = .ok (.iconst 1, 1) := dk_4 (dk_at dksX3_test_0 5 rfl rfl)
theorem dX3_test_6 : decode cX3_test 6 = .ok (.istore_n 1, 1) := dk_60 (dk_at dksX3_test_0 6 rfl rfl)
theorem dX3_test_7 : decode cX3_test 7 = .ok (.iconst 1, 1) := dk_4 (dk_at dksX3_test_0 7 rfl rfl)
theorem dX3_test_8 : decode cX3_test 8 = .ok (.istore_n 2, 1) := dk_61 (dk_at dksX3_test_0 8 rfl rfl)
theorem dX3_test_9 : decode cX3_test 9 = .ok (.iload_n 2, 1) := dk_28 (dk_at dksX3_test_0 9 rfl rfl)
theorem dX3_test_10 : decode cX3_test 10 = .ok (.ifCond .eq 192, 3) := dk_153 0 192 (dk_at dksX3_test_0 10 rfl rfl)
theorem dX3_test_13 : decode cX3_test 13 = .ok (.aload_n 0, 1) := dk_42 (dk_at dksX3_test_0 13 rfl rfl)
theorem dX3_test_14 : decode cX3_test 14 = .ok (.getfield 199, 3) := dk_180 0 199 (dk_at dksX3_test_0 14 rfl rfl)
theorem dX3_test_17 : decode cX3_test 17 = .ok (.ifCond .ne 185, 3) := dk_154 0 185 (dk_at dksX3_test_0 17 rfl rfl)
theorem dX3_test_20 : decode cX3_test 20 = .ok (.iload_n 1, 1) := dk_27 (dk_at dksX3_test_0 20 rfl rfl)
theorem dX3_test_21 : decode cX3_test 21 = .ok (.ifCond .eq 19, 3) := dk_153 0 19 (dk_at dksX3_test_0 21 rfl rfl)
theorem dX3_test_24 : decode cX3_test 24 = .ok (.aload_n 0, 1) := dk_42 (dk_at dksX3_test_1 0 rfl rfl)
theorem dX3_test_25 : decode cX3_test 25 = .ok (.invokevirtual 285, 3) := dk_182 1 29 (dk_at dksX3_test_1 1 rfl rfl)
theorem dX3_test_28 : decode cX3_test 28 = .ok (.ifCond .ne 7, 3) := dk_154 0 7 (dk_at dksX3_test_1 4 rfl rfl)
theorem dX3_test_31 : decode cX3_test 31 = .ok (.iconst 1, 1) := dk_4 (dk_at dksX3_test_1 7 rfl rfl)
theorem dX3_test_32 : decode cX3_test 32 = .ok (.goto 4, 3) := dk_167 0 4 (dk_at dksX3_test_1 8 rfl rfl)
theorem dX3_test_35 : decode cX3_test 35 = .ok (.iconst 0, 1) := dk_3 (dk_at dksX3_test_1 11 rfl rfl)
theorem dX3_test_36 : decode cX3_test 36 = .ok (.istore_n 1, 1) := dk_60 (dk_at dksX3_test_1 12 rfl rfl)
theorem dX3_test_37 : decode cX3_test 37 = .ok (.goto (-28), 3) := dk_167 255 228 (dk_at dksX3_test_1 13 rfl rfl)
theorem dX3_test_40 : decode cX3_test 40 = .ok (.aload_n 0, 1) := dk_42 (dk_at dksX3_test_1 16 rfl rfl)
theorem dX3_test_41 : decode cX3_test 41 = .ok (.bipush 9, 2) := dk_16 9 (dk_at dksX3_test_1 17 rfl rfl)
theorem dX3_test_43 : decode cX3_test 43 = .ok (.invokevirtual 288, 3) := dk_182 1 32 (dk_at dksX3_test_1 19 rfl rfl)
theorem dX3_test_46 : decode cX3_test 46 = .ok (.aload_n 0, 1) := dk_42 (dk_at dksX3_test_1 22 rfl rfl)
theorem dX3_test_47 : decode cX3_test 47 = .ok (.invokevirtual 222, 3) := dk_182 0 222 (dk_at dksX3_test_2 0 rfl rfl)
theorem dX3_test_50 : decode cX3_test 50 = .ok (.aload_n 0, 1) := dk_42 (dk_at dksX3_test_2 3 rfl rfl)
theorem dX3_test_51 : decode cX3_test 51 = .ok (.ldc_w 291, 3) := dk_19 1 35 (dk_at dksX3_test_2 4 rfl rfl)
theorem dX3_test_54 : decode cX3_test 54 = .ok (.invokevirtual 225, 3) := dk_182 0 225 (dk_at dksX3_test_2 7 rfl rfl)
theorem dX3_test_57 : decode cX3_test 57 = .ok (.istore_n 3, 1) := dk_62 (dk_at dksX3_test_2 10 rfl rfl)
theorem dX3_test_58 : decode cX3_test 58 = .ok (.aload_n 0, 1) := dk_42 (dk_at dksX3_test_2 11 rfl rfl)
theorem dX3_test_59 : decode cX3_test 59 = .ok (.ldc_w 293, 3) := dk_19 1 37 (dk_at dksX3_test_2 12 rfl rfl)
theorem dX3_test_62 : decode cX3_test 62 = .ok (.invokevirtual 225, 3) := dk_182 0 225 (dk_at dksX3_test_2 15 rfl rfl)
theorem dX3_test_65 : decode cX3_test 65 = .ok (.istore 4, 2) := dk_54 4 (dk_at dksX3_test_2 18 rfl rfl)
theorem dX3_test_67 : decode cX3_test 67 = .ok (.aload_n 0, 1) := dk_42 (dk_at dksX3_test_2 20 rfl rfl)
theorem dX3_test_68 : decode cX3_test 68 = .ok (.bipush 10, 2) := dk_16 10 (dk_at dksX3_test_2 21 rfl rfl)
theorem dX3_test_70 : decode cX3_test 70 = .ok (.invokevirtual 288, 3) := dk_182 1 32 (dk_at dksX3_test_3 0 rfl rfl)
theorem dX3_test_73 : decode cX3_test 73 = .ok (.iload_n 3, 1) := dk_29 (dk_at dksX3_test_3 3 rfl rfl)
theorem dX3_test_74 : decode cX3_test 74 = .ok (.ifCond .ne 8, 3) := dk_154 0 8 (dk_at dksX3_test_3 4 rfl rfl)
theorem dX3_test_77 : decode cX3_test 77 = .ok (.iload 4, 2) := dk_21 4 (dk_at dksX3_test_3 7 rfl rfl)
theorem dX3_test_79 : decode cX3_test 79 = .ok (.ifCond .eq 52, 3) := dk_153 0 52 (dk_at dksX3_test_3 9 rfl rfl)
theorem dX3_test_82 : decode cX3_test 82 = .ok (.iload 4, 2) := dk_21 4 (dk_at dksX3_test_3 12 rfl rfl)
theorem dX3_test_84 : decode cX3_test 84 = .ok (.ifCond .eq 9, 3) := dk_153 0 9 (dk_at dksX3_test_3 14 rfl rfl)
theorem dX3_test_87 : decode cX3_test 87 = .ok (.aload_n 0, 1) := dk_42 (dk_at dksX3_test_3 17 rfl rfl)
theorem dX3_test_88 : decode cX3_test 88 = .ok (.bipush 11, 2) := dk_16 11 (dk_at dksX3_test_3 18 rfl rfl)
theorem dX3_test_90 : decode cX3_test 90 = .ok (.invokevirtual 288, 3) := dk_182 1 32 (dk_at dksX3_test_3 20 rfl rfl)
theorem dX3_test_93 : decode cX3_test 93 = .ok (.aload_n 0, 1) := dk_42 (dk_at dksX3_test_3 23 rfl rfl)
theorem dX3_test_94 : decode cX3_test 94 = .ok (.iload_n 3, 1) := dk_29 (dk_at dksX3_test_4 0 rfl rfl)
theorem dX3_test_95 : decode cX3_test 95 = .ok (.ifCond .eq 8, 3) := dk_153 0 8 (dk_at dksX3_test_4 1 rfl rfl)
theorem dX3_test_98 : decode cX3_test 98 = .ok (.bipush 10, 2) := dk_16 10 (dk_at dksX3_test_4 4 rfl rfl)
theorem dX3_test_100 : decode cX3_test 100 = .ok (.goto 5, 3) := dk_167 0 5 (dk_at dksX3_test_4 6 rfl rfl)
theorem dX3_test_103 : decode cX3_test 103 = .ok (.bipush 11, 2) := dk_16 11 (dk_at dksX3_test_4 9 rfl rfl)
theorem dX3_test_105 : decode cX3_test 105 = .ok (.invokevirtual 279, 3) := dk_182 1 23 (dk_at dksX3_test_4 11 rfl rfl)
theorem dX3_test_108 : decode cX3_test 108 = .ok (.aload_n 0, 1) := dk_42 (dk_at dksX3_test_4 14 rfl rfl)
theorem dX3_test_109 : decode cX3_test 109 = .ok (.dup, 1) := dk_89 (dk_at dksX3_test_4 15 rfl rfl)
theorem dX3_test_110 : decode cX3_test 110 = .ok (.getfield 202, 3) := dk_180 0 202 (dk_at dksX3_test_4 16 rfl rfl)
theorem dX3_test_113 : decode cX3_test 113 = .ok (.iload_n 3, 1) := dk_29 (dk_at dksX3_test_4 19 rfl rfl)
theorem dX3_test_114 : decode cX3_test 114 = .ok (.ifCond .eq 7, 3) := dk_153 0 7 (dk_at dksX3_test_4 20 rfl rfl)
theorem dX3_test_117 : decode cX3_test 117 = .ok (.iconst 3, 1) := dk_6 (dk_at dksX3_test_4 23 rfl rfl)
theorem dX3_test_118 : decode cX3_test 118 = .ok (.goto 4, 3) := dk_167 0 4 (dk_at dksX3_test_5 0 rfl rfl)
theorem dX3_test_121 : decode cX3_test 121 = .ok (.iconst 2, 1) := dk_5 (dk_at dksX3_test_5 3 rfl rfl)
theorem dX3_test_122 : decode cX3_test 122 = .ok (.iadd, 1) := dk_96 (dk_at dksX3_test_5 4 rfl rfl)
theorem dX3_test_123 : decode cX3_test 123 = .ok (.putfield 202, 3) := dk_181 0 202 (dk_at dksX3_test_5 5 rfl rfl)
theorem dX3_test_126 : decode cX3_test 126 = .ok (.iconst 1, 1) := dk_4 (dk_at dksX3_test_5 8 rfl rfl)
theorem dX3_test_127 : decode cX3_test 127 = .ok (.istore_n 1, 1) := dk_60 (dk_at dksX3_test_5 9 rfl rfl)
theorem dX3_test_128 : decode cX3_test 128 = .ok (.goto 71, 3) := dk_167 0 71 (dk_at dksX3_test_5 10 rfl rfl)
theorem dX3_test_131 : decode cX3_test 131 = .ok (.aload_n 0, 1) := dk_42 (dk_at dksX3_test_5 13 rfl rfl)
theorem dX3_test_132 : decode cX3_test 132 = .ok (.bipush 11, 2) := dk_16 11 (dk_at dksX3_test_5 14 rfl rfl)
theorem dX3_test_134 : decode cX3_test 134 = .ok (.invokevirtual 288, 3) := dk_182 1 32 (dk_at dksX3_test_5 16 rfl rfl)
theorem dX3_test_137 : decode cX3_test 137 = .ok (.aload_n 0, 1) := dk_42 (dk_at dksX3_test_5 19 rfl rfl)
theorem dX3_test_138 : decode cX3_test 138 = .ok (.invokevirtual 275, 3) := dk_182 1 19 (dk_at dksX3_test_5 20 rfl rfl)
theorem dX3_test_141 : decode cX3_test 141 = .ok (.bipush 12, 2) := dk_16 12 (dk_at dksX3_test_6 0 rfl rfl)
theorem dX3_test_143 : decode cX3_test 143 = .ok (.if_icmp .ne 54, 3) := dk_160 0 54 (dk_at dksX3_test_6 2 rfl rfl)
theorem dX3_test_146 : decode cX3_test 146 = .ok (.aload_n 0, 1) := dk_42 (dk_at dksX3_test_6 5 rfl rfl)
theorem dX3_test_147 : decode cX3_test 147 = .ok (.invokevirtual 205, 3) := dk_182 0 205 (dk_at dksX3_test_6 6 rfl rfl)
theorem dX3_test_150 : decode cX3_test 150 = .ok (.bipush 93, 2) := dk_16 93 (dk_at dksX3_test_6 9 rfl rfl)
theorem dX3_test_152 : decode cX3_test 152 = .ok (.if_icmp .eq 12, 3) := dk_159 0 12 (dk_at dksX3_test_6 11 rfl rfl)
theorem dX3_test_155 : decode cX3_test 155 = .ok (.aload_n 0, 1) := dk_42 (dk_at dksX3_test_6 14 rfl rfl)
theorem dX3_test_156 : decode cX3_test 156 = .ok (.iconst 0, 1) := dk_3 (dk_at dksX3_test_6 15 rfl rfl)
theorem dX3_test_157 : decode cX3_test 157 = .ok (.aload_n 0, 1) := dk_42 (dk_at dksX3_test_6 16 rfl rfl)
theorem dX3_test_158 : decode cX3_test 158 = .ok (.getfield 202, 3) := dk_180 0 202 (dk_at dksX3_test_6 17 rfl rfl)
theorem dX3_test_161 : decode cX3_test 161 = .ok (.invokevirtual 238, 3) := dk_182 0 238 (dk_at dksX3_test_6 20 rfl rfl)
theorem dX3_test_164 : decode cX3_test 164 = .ok (.aload_n 0, 1) := dk_42 (dk_at dksX3_test_6 23 rfl rfl)
theorem dX3_test_165 : decode cX3_test 165 = .ok (.dup, 1) := dk_89 (dk_at dksX3_test_7 0 rfl rfl)
theorem dX3_test_166 : decode cX3_test 166 = .ok (.getfield 202, 3) := dk_180 0 202 (dk_at dksX3_test_7 1 rfl rfl)
theorem dX3_test_169 : decode cX3_test 169 = .ok (.iconst 1, 1) := dk_4 (dk_at dksX3_test_7 4 rfl rfl)
theorem dX3_test_170 : decode cX3_test 170 = .ok (.iadd, 1) := dk_96 (dk_at dksX3_test_7 5 rfl rfl)
theorem dX3_test_171 : decode cX3_test 171 = .ok (.putfield 202, 3) := dk_181 0 202 (dk_at dksX3_test_7 6 rfl rfl)
theorem dX3_test_174 : decode cX3_test 174 = .ok (.aload_n 0, 1) := dk_42 (dk_at dksX3_test_7 9 rfl rfl)
theorem dX3_test_175 : decode cX3_test 175 = .ok (.dup, 1) := dk_89 (dk_at dksX3_test_7 10 rfl rfl)
theorem dX3_test_176 : decode cX3_test 176 = .ok (.getfield 269, 3) := dk_180 1 13 (dk_at dksX3_test_7 11 rfl rfl)
theorem dX3_test_179 : decode cX3_test 179 = .ok (.iconst 1, 1) := dk_4 (dk_at dksX3_test_7 14 rfl rfl)
theorem dX3_test_180 : decode cX3_test 180 = .ok (.isub, 1) := dk_100 (dk_at dksX3_test_7 15 rfl rfl)
theorem dX3_test_181 : decode cX3_test 181 = .ok (.putfield 269, 3) := dk_181 1 13 (dk_at dksX3_test_7 16 rfl rfl)
theorem dX3_test_184 : decode cX3_test 184 = .ok (.aload_n 0, 1) := dk_42 (dk_at dksX3_test_7 19 rfl rfl)
theorem dX3_test_185 : decode cX3_test 185 = .ok (.dup, 1) := dk_89 (dk_at dksX3_test_7 20 rfl rfl)
theorem dX3_test_186 : decode cX3_test 186 = .ok (.getfield 272, 3) := dk_180 1 16 (dk_at dksX3_test_7 21 rfl rfl)
theorem dX3_test_189 : decode cX3_test 189 = .ok (.iconst 1, 1) := dk_4 (dk_at dksX3_test_8 0 rfl rfl)
theorem dX3_test_190 : decode cX3_test 190 = .ok (.isub, 1) := dk_100 (dk_at dksX3_test_8 1 rfl rfl)
theorem dX3_test_191 : decode cX3_test 191 = .ok (.putfield 272, 3) := dk_181 1 16 (dk_at dksX3_test_8 2 rfl rfl)
theorem dX3_test_194 : decode cX3_test 194 = .ok (.goto 5, 3) := dk_167 0 5 (dk_at dksX3_test_8 5 rfl rfl)
theorem dX3_test_197 : decode cX3_test 197 = .ok (.iconst 0, 1) := dk_3 (dk_at dksX3_test_8 8 rfl rfl)
theorem dX3_test_198 : decode cX3_test 198 = .ok (.istore_n 2, 1) := dk_61 (dk_at dksX3_test_8 9 rfl rfl)
theorem dX3_test_199 : decode cX3_test 199 = .ok (.goto (-190), 3) := dk_167 255 66 (dk_at dksX3_test_8 10 rfl rfl)
theorem dX3_test_202 : decode cX3_test 202 = .ok (.return_, 1) := dk_177 (dk_at dksX3_test_8 13 rfl rfl)
abbrev cX3_fact : ByteArray := prog_17_method_30_code
def yX3_fact : MethodName := ⟨RX3, "fact", "()Z"⟩
def dkwX3_fact_2 : List UInt8 := [182, 1, 23, 42, 89, 180, 0, 202, 4, 96, 181, 0, 202, 3, 172, 42, 182, 1, 26, 4, 172]
abbrev dktX3_fact_2 : List UInt8 := dkwX3_fact_2 ++ []
def dkwX3_fact_1 : List UInt8 := [180, 0, 202, 6, 96, 181, 0, 202, 3, 172, 42, 182, 0, 205, 16, 91, 160, 0, 21, 42, 16, 12]
abbrev dktX3_fact_1 : List UInt8 := dkwX3_fact_1 ++ dktX3_fact_2
def dkwX3_fact_0 : List UInt8 := [42, 182, 0, 222, 42, 19, 1, 21, 182, 0, 225, 153, 0, 21, 42, 16, 9, 182, 1, 23, 42, 89]
abbrev dktX3_fact_0 : List UInt8 := dkwX3_fact_0 ++ dktX3_fact_1
theorem dksX3_fact_0 : cX3_fact.data.toList.drop 0 = dktX3_fact_0 := by decide +kernel
theorem dksX3_fact_1 : cX3_fact.data.toList.drop 22 = dktX3_fact_1 := dk_seg dksX3_fact_0 22 rfl rfl
theorem dksX3_fact_2 : cX3_fact.data.toList.drop 44 = dktX3_fact_2 := dk_seg dksX3_fact_1 22 rfl rfl
theorem dX3_fact_0 : decode cX3_fact 0 = .ok (.aload_n 0, 1) := dk_42 (dk_at dksX3_fact_0 0 rfl rfl)
theorem dX3_fact_1 : decode cX3_fact 1 = .ok (.invokevirtual 222, 3) := dk_182 0 222 (dk_at dksX3_fact_0 1 rfl rfl)
theorem dX3_fact_4 : decode cX3_fact 4 = .ok (.aload_n 0, 1) := dk_42 (dk_at dksX3_fact_0 4 rfl rfl)
theorem dX3_fact_5 : decode cX3_fact 5 = .ok (.ldc_w 277, 3) := dk_19 1 21 (dk_at dksX3_fact_0 5 rfl rfl)
theorem dX3_fact_8 : decode cX3_fact 8 = .ok (.invokevirtual 225, 3) := dk_182 0 225 (dk_at dksX3_fact_0 8 rfl rfl)
theorem dX3_fact_11 : decode cX3_fact 11 = .ok (.ifCond .eq 21, 3) := dk_153 0 21 (dk_at dksX3_fact_0 11 rfl rfl)
theorem dX3_fact_14 : decode cX3_fact 14 = .ok (.aload_n 0, 1) := dk_42 (dk_at dksX3_fact_0 14 rfl rfl)
theorem dX3_fact_15 : decode cX3_fact 15 = .ok (.bipush 9, 2) := dk_16 9 (dk_at dksX3_fact_0 15 rfl rfl)
theorem dX3_fact_17 : decode cX3_fact 17 = .ok (.invokevirtual 279, 3) := dk_182 1 23 (dk_at dksX3_fact_0 17 rfl rfl)
theorem dX3_fact_20 : decode cX3_fact 20 = .ok (.aload_n 0, 1) := dk_42 (dk_at dksX3_fact_0 20 rfl rfl)
theorem dX3_fact_21 : decode cX3_fact 21 = .ok (.dup, 1) := dk_89 (dk_at dksX3_fact_0 21 rfl rfl)
theorem dX3_fact_22 : decode cX3_fact 22 = .ok (.getfield 202, 3) := dk_180 0 202 (dk_at dksX3_fact_1 0 rfl rfl)
theorem dX3_fact_25 : decode cX3_fact 25 = .ok (.iconst 3, 1) := dk_6 (dk_at dksX3_fact_1 3 rfl rfl)
theorem dX3_fact_26 : decode cX3_fact 26 = .ok (.iadd, 1) := dk_96 (dk_at dksX3_fact_1 4 rfl rfl)
theorem dX3_fact_27 : decode cX3_fact 27 = .ok (.putfield 202, 3) := dk_181 0 202 (dk_at dksX3_fact_1 5 rfl rfl)
theorem dX3_fact_30 : decode cX3_fact 30 = .ok (.iconst 0, 1) := dk_3 (dk_at dksX3_fact_1 8 rfl rfl)
theorem dX3_fact_31 : decode cX3_fact 31 = .ok (.ireturn, 1) := dk_172 (dk_at dksX3_fact_1 9 rfl rfl)
theorem dX3_fact_32 : decode cX3_fact 32 = .ok (.aload_n 0, 1) := dk_42 (dk_at dksX3_fact_1 10 rfl rfl)
theorem dX3_fact_33 : decode cX3_fact 33 = .ok (.invokevirtual 205, 3) := dk_182 0 205 (dk_at dksX3_fact_1 11 rfl rfl)
theorem dX3_fact_36 : decode cX3_fact 36 = .ok (.bipush 91, 2) := dk_16 91 (dk_at dksX3_fact_1 14 rfl rfl)
theorem dX3_fact_38 : decode cX3_fact 38 = .ok (.if_icmp .ne 21, 3) := dk_160 0 21 (dk_at dksX3_fact_1 16 rfl rfl)
theorem dX3_fact_41 : decode cX3_fact 41 = .ok (.aload_n 0, 1) := dk_42 (dk_at dksX3_fact_1 19 rfl rfl)
theorem dX3_fact_42 : decode cX3_fact 42 = .ok (.bipush 12, 2) := dk_16 12 (dk_at dksX3_fact_1 20 rfl rfl)
theorem dX3_fact_44 : decode cX3_fact 44 = .ok (.invokevirtual 279, 3) := dk_182 1 23 (dk_at dksX3_fact_2 0 rfl rfl)
theorem dX3_fact_47 : decode cX3_fact 47 = .ok (.aload_n 0, 1) := dk_42 (dk_at dksX3_fact_2 3 rfl rfl)
theorem dX3_fact_48 : decode cX3_fact 48 = .ok (.dup, 1) := dk_89 (dk_at dksX3_fact_2 4 rfl rfl)
theorem dX3_fact_49 : decode cX3_fact 49 = .ok (.getfield 202, 3) := dk_180 0 202 (dk_at dksX3_fact_2 5 rfl rfl)
theorem dX3_fact_52 : decode cX3_fact 52 = .ok (.iconst 1, 1) := dk_4 (dk_at dksX3_fact_2 8 rfl rfl)
theorem dX3_fact_53 : decode cX3_fact 53 = .ok (.iadd, 1) := dk_96 (dk_at dksX3_fact_2 9 rfl rfl)
theorem dX3_fact_54 : decode cX3_fact 54 = .ok (.putfield 202, 3) := dk_181 0 202 (dk_at dksX3_fact_2 10 rfl rfl)
theorem dX3_fact_57 : decode cX3_fact 57 = .ok (.iconst 0, 1) := dk_3 (dk_at dksX3_fact_2 13 rfl rfl)
theorem dX3_fact_58 : decode cX3_fact 58 = .ok (.ireturn, 1) := dk_172 (dk_at dksX3_fact_2 14 rfl rfl)
theorem dX3_fact_59 : decode cX3_fact 59 = .ok (.aload_n 0, 1) := dk_42 (dk_at dksX3_fact_2 15 rfl rfl)
theorem dX3_fact_60 : decode cX3_fact 60 = .ok (.invokevirtual 282, 3) := dk_182 1 26 (dk_at dksX3_fact_2 16 rfl rfl)
theorem dX3_fact_63 : decode cX3_fact 63 = .ok (.iconst 1, 1) := dk_4 (dk_at dksX3_fact_2 19 rfl rfl)
theorem dX3_fact_64 : decode cX3_fact 64 = .ok (.ireturn, 1) := dk_172 (dk_at dksX3_fact_2 20 rfl rfl)
abbrev cX3_opens : ByteArray := prog_17_method_28_code
def yX3_opens : MethodName := ⟨RX3, "opens", "(I)V"⟩
def dkwX3_opens_2 : List UInt8 := [27, 79, 42, 89, 180, 1, 13, 4, 96, 181, 1, 13, 177]
abbrev dktX3_opens_2 : List UInt8 := dkwX3_opens_2 ++ []
def dkwX3_opens_1 : List UInt8 := [180, 0, 202, 182, 0, 238, 42, 89, 180, 1, 16, 4, 96, 181, 1, 16, 42, 180, 0, 114, 42, 180, 1, 13]
abbrev dktX3_opens_1 : List UInt8 := dkwX3_opens_1 ++ dktX3_opens_2
def dkwX3_opens_0 : List UInt8 := [27, 16, 9, 159, 0, 9, 27, 16, 12, 160, 0, 31, 42, 180, 1, 16, 16, 10, 160, 0, 12, 42, 5, 42]
abbrev dktX3_opens_0 : List UInt8 := dkwX3_opens_0 ++ dktX3_opens_1
theorem dksX3_opens_0 : cX3_opens.data.toList.drop 0 = dktX3_opens_0 := by decide +kernel
theorem dksX3_opens_1 : cX3_opens.data.toList.drop 24 = dktX3_opens_1 := dk_seg dksX3_opens_0 24 rfl rfl
theorem dksX3_opens_2 : cX3_opens.data.toList.drop 48 = dktX3_opens_2 := dk_seg dksX3_opens_1 24 rfl rfl
theorem dX3_opens_0 : decode cX3_opens 0 = .ok (.iload_n 1, 1) := dk_27 (dk_at dksX3_opens_0 0 rfl rfl)
theorem dX3_opens_1 : decode cX3_opens 1 = .ok (.bipush 9, 2) := dk_16 9 (dk_at dksX3_opens_0 1 rfl rfl)
theorem dX3_opens_3 : decode cX3_opens 3 = .ok (.if_icmp .eq 9, 3) := dk_159 0 9 (dk_at dksX3_opens_0 3 rfl rfl)
theorem dX3_opens_6 : decode cX3_opens 6 = .ok (.iload_n 1, 1) := dk_27 (dk_at dksX3_opens_0 6 rfl rfl)
theorem dX3_opens_7 : decode cX3_opens 7 = .ok (.bipush 12, 2) := dk_16 12 (dk_at dksX3_opens_0 7 rfl rfl)
theorem dX3_opens_9 : decode cX3_opens 9 = .ok (.if_icmp .ne 31, 3) := dk_160 0 31 (dk_at dksX3_opens_0 9 rfl rfl)
theorem dX3_opens_12 : decode cX3_opens 12 = .ok (.aload_n 0, 1) := dk_42 (dk_at dksX3_opens_0 12 rfl rfl)
theorem dX3_opens_13 : decode cX3_opens 13 = .ok (.getfield 272, 3) := dk_180 1 16 (dk_at dksX3_opens_0 13 rfl rfl)
theorem dX3_opens_16 : decode cX3_opens 16 = .ok (.bipush 10, 2) := dk_16 10 (dk_at dksX3_opens_0 16 rfl rfl)
theorem dX3_opens_18 : decode cX3_opens 18 = .ok (.if_icmp .ne 12, 3) := dk_160 0 12 (dk_at dksX3_opens_0 18 rfl rfl)
theorem dX3_opens_21 : decode cX3_opens 21 = .ok (.aload_n 0, 1) := dk_42 (dk_at dksX3_opens_0 21 rfl rfl)
theorem dX3_opens_22 : decode cX3_opens 22 = .ok (.iconst 2, 1) := dk_5 (dk_at dksX3_opens_0 22 rfl rfl)
theorem dX3_opens_23 : decode cX3_opens 23 = .ok (.aload_n 0, 1) := dk_42 (dk_at dksX3_opens_0 23 rfl rfl)
theorem dX3_opens_24 : decode cX3_opens 24 = .ok (.getfield 202, 3) := dk_180 0 202 (dk_at dksX3_opens_1 0 rfl rfl)
theorem dX3_opens_27 : decode cX3_opens 27 = .ok (.invokevirtual 238, 3) := dk_182 0 238 (dk_at dksX3_opens_1 3 rfl rfl)
theorem dX3_opens_30 : decode cX3_opens 30 = .ok (.aload_n 0, 1) := dk_42 (dk_at dksX3_opens_1 6 rfl rfl)
theorem dX3_opens_31 : decode cX3_opens 31 = .ok (.dup, 1) := dk_89 (dk_at dksX3_opens_1 7 rfl rfl)
theorem dX3_opens_32 : decode cX3_opens 32 = .ok (.getfield 272, 3) := dk_180 1 16 (dk_at dksX3_opens_1 8 rfl rfl)
theorem dX3_opens_35 : decode cX3_opens 35 = .ok (.iconst 1, 1) := dk_4 (dk_at dksX3_opens_1 11 rfl rfl)
theorem dX3_opens_36 : decode cX3_opens 36 = .ok (.iadd, 1) := dk_96 (dk_at dksX3_opens_1 12 rfl rfl)
theorem dX3_opens_37 : decode cX3_opens 37 = .ok (.putfield 272, 3) := dk_181 1 16 (dk_at dksX3_opens_1 13 rfl rfl)
theorem dX3_opens_40 : decode cX3_opens 40 = .ok (.aload_n 0, 1) := dk_42 (dk_at dksX3_opens_1 16 rfl rfl)
theorem dX3_opens_41 : decode cX3_opens 41 = .ok (.getfield 114, 3) := dk_180 0 114 (dk_at dksX3_opens_1 17 rfl rfl)
theorem dX3_opens_44 : decode cX3_opens 44 = .ok (.aload_n 0, 1) := dk_42 (dk_at dksX3_opens_1 20 rfl rfl)
theorem dX3_opens_45 : decode cX3_opens 45 = .ok (.getfield 269, 3) := dk_180 1 13 (dk_at dksX3_opens_1 21 rfl rfl)
theorem dX3_opens_48 : decode cX3_opens 48 = .ok (.iload_n 1, 1) := dk_27 (dk_at dksX3_opens_2 0 rfl rfl)
theorem dX3_opens_49 : decode cX3_opens 49 = .ok (.iastore, 1) := dk_79 (dk_at dksX3_opens_2 1 rfl rfl)
theorem dX3_opens_50 : decode cX3_opens 50 = .ok (.aload_n 0, 1) := dk_42 (dk_at dksX3_opens_2 2 rfl rfl)
theorem dX3_opens_51 : decode cX3_opens 51 = .ok (.dup, 1) := dk_89 (dk_at dksX3_opens_2 3 rfl rfl)
theorem dX3_opens_52 : decode cX3_opens 52 = .ok (.getfield 269, 3) := dk_180 1 13 (dk_at dksX3_opens_2 4 rfl rfl)
theorem dX3_opens_55 : decode cX3_opens 55 = .ok (.iconst 1, 1) := dk_4 (dk_at dksX3_opens_2 7 rfl rfl)
theorem dX3_opens_56 : decode cX3_opens 56 = .ok (.iadd, 1) := dk_96 (dk_at dksX3_opens_2 8 rfl rfl)
theorem dX3_opens_57 : decode cX3_opens 57 = .ok (.putfield 269, 3) := dk_181 1 13 (dk_at dksX3_opens_2 9 rfl rfl)
theorem dX3_opens_60 : decode cX3_opens 60 = .ok (.return_, 1) := dk_177 (dk_at dksX3_opens_2 12 rfl rfl)
abbrev cX3_compared : ByteArray := prog_17_method_26_code
def yX3_compared : MethodName := ⟨RX3, "compared", "()V"⟩
def dkwX3_compared_6 : List UInt8 := [182, 0, 254, 177]
abbrev dktX3_compared_6 : List UInt8 := dkwX3_compared_6 ++ []
def dkwX3_compared_5 : List UInt8 := [153, 0, 7, 8, 167, 0, 18, 7, 167, 0, 14, 28, 153, 0, 8, 16, 7, 167, 0, 5, 16, 8, 3]
abbrev dktX3_compared_5 : List UInt8 := dkwX3_compared_5 ++ dktX3_compared_6
def dkwX3_compared_4 : List UInt8 := [182, 1, 10, 42, 27, 16, 61, 160, 0, 8, 16, 6, 167, 0, 32, 27, 16, 60, 160, 0, 15, 28]
abbrev dktX3_compared_4 : List UInt8 := dkwX3_compared_4 ++ dktX3_compared_5
def dkwX3_compared_3 : List UInt8 := [167, 0, 4, 3, 61, 42, 89, 180, 0, 202, 28, 153, 0, 7, 4, 167, 0, 4, 3, 96, 181, 0, 202, 42]
abbrev dktX3_compared_3 : List UInt8 := dkwX3_compared_3 ++ dktX3_compared_4
def dkwX3_compared_2 : List UInt8 := [180, 0, 202, 4, 96, 181, 0, 202, 27, 16, 61, 159, 0, 16, 42, 182, 0, 205, 16, 61, 160, 0, 7, 4]
abbrev dktX3_compared_2 : List UInt8 := dkwX3_compared_2 ++ dktX3_compared_3
def dkwX3_compared_1 : List UInt8 := [159, 0, 13, 42, 3, 42, 180, 0, 202, 182, 0, 238, 177, 42, 42, 180, 0, 202, 182, 0, 251, 42, 89]
abbrev dktX3_compared_1 : List UInt8 := dkwX3_compared_1 ++ dktX3_compared_2
def dkwX3_compared_0 : List UInt8 := [42, 182, 1, 10, 42, 182, 0, 205, 60, 27, 16, 60, 159, 0, 25, 27, 16, 61, 159, 0, 19, 27, 16, 62]
abbrev dktX3_compared_0 : List UInt8 := dkwX3_compared_0 ++ dktX3_compared_1
theorem dksX3_compared_0 : cX3_compared.data.toList.drop 0 = dktX3_compared_0 := by decide +kernel
theorem dksX3_compared_1 : cX3_compared.data.toList.drop 24 = dktX3_compared_1 := dk_seg dksX3_compared_0 24 rfl rfl
theorem dksX3_compared_2 : cX3_compared.data.toList.drop 47 = dktX3_compared_2 := dk_seg dksX3_compared_1 23 rfl rfl
theorem dksX3_compared_3 : cX3_compared.data.toList.drop 71 = dktX3_compared_3 := dk_seg dksX3_compared_2 24 rfl rfl
theorem dksX3_compared_4 : cX3_compared.data.toList.drop 95 = dktX3_compared_4 := dk_seg dksX3_compared_3 24 rfl rfl
theorem dksX3_compared_5 : cX3_compared.data.toList.drop 117 = dktX3_compared_5 := dk_seg dksX3_compared_4 22 rfl rfl
theorem dksX3_compared_6 : cX3_compared.data.toList.drop 140 = dktX3_compared_6 := dk_seg dksX3_compared_5 23 rfl rfl
theorem dX3_compared_0 : decode cX3_compared 0 = .ok (.aload_n 0, 1) := dk_42 (dk_at dksX3_compared_0 0 rfl rfl)
theorem dX3_compared_1 : decode cX3_compared 1 = .ok (.invokevirtual 266, 3) := dk_182 1 10 (dk_at dksX3_compared_0 1 rfl rfl)
theorem dX3_compared_4 : decode cX3_compared 4 = .ok (.aload_n 0, 1) := dk_42 (dk_at dksX3_compared_0 4 rfl rfl)
theorem dX3_compared_5 : decode cX3_compared 5 = .ok (.invokevirtual 205, 3) := dk_182 0 205 (dk_at dksX3_compared_0 5 rfl rfl)
theorem dX3_compared_8 : decode cX3_compared 8 = .ok (.istore_n 1, 1) := dk_60 (dk_at dksX3_compared_0 8 rfl rfl)
theorem dX3_compared_9 : decode cX3_compared 9 = .ok (.iload_n 1, 1) := dk_27 (dk_at dksX3_compared_0 9 rfl rfl)
theorem dX3_compared_10 : decode cX3_compared 10 = .ok (.bipush 60, 2) := dk_16 60 (dk_at dksX3_compared_0 10 rfl rfl)
theorem dX3_compared_12 : decode cX3_compared 12 = .ok (.if_icmp .eq 25, 3) := dk_159 0 25 (dk_at dksX3_compared_0 12 rfl rfl)
theorem dX3_compared_15 : decode cX3_compared 15 = .ok (.iload_n 1, 1) := dk_27 (dk_at dksX3_compared_0 15 rfl rfl)
theorem dX3_compared_16 : decode cX3_compared 16 = .ok (.bipush 61, 2) := dk_16 61 (dk_at dksX3_compared_0 16 rfl rfl)
theorem dX3_compared_18 : decode cX3_compared 18 = .ok (.if_icmp .eq 19, 3) := dk_159 0 19 (dk_at dksX3_compared_0 18 rfl rfl)
theorem dX3_compared_21 : decode cX3_compared 21 = .ok (.iload_n 1, 1) := dk_27 (dk_at dksX3_compared_0 21 rfl rfl)
theorem dX3_compared_22 : decode cX3_compared 22 = .ok (.bipush 62, 2) := dk_16 62 (dk_at dksX3_compared_0 22 rfl rfl)
theorem dX3_compared_24 : decode cX3_compared 24 = .ok (.if_icmp .eq 13, 3) := dk_159 0 13 (dk_at dksX3_compared_1 0 rfl rfl)
theorem dX3_compared_27 : decode cX3_compared 27 = .ok (.aload_n 0, 1) := dk_42 (dk_at dksX3_compared_1 3 rfl rfl)
theorem dX3_compared_28 : decode cX3_compared 28 = .ok (.iconst 0, 1) := dk_3 (dk_at dksX3_compared_1 4 rfl rfl)
theorem dX3_compared_29 : decode cX3_compared 29 = .ok (.aload_n 0, 1) := dk_42 (dk_at dksX3_compared_1 5 rfl rfl)
theorem dX3_compared_30 : decode cX3_compared 30 = .ok (.getfield 202, 3) := dk_180 0 202 (dk_at dksX3_compared_1 6 rfl rfl)
theorem dX3_compared_33 : decode cX3_compared 33 = .ok (.invokevirtual 238, 3) := dk_182 0 238 (dk_at dksX3_compared_1 9 rfl rfl)
theorem dX3_compared_36 : decode cX3_compared 36 = .ok (.return_, 1) := dk_177 (dk_at dksX3_compared_1 12 rfl rfl)
theorem dX3_compared_37 : decode cX3_compared 37 = .ok (.aload_n 0, 1) := dk_42 (dk_at dksX3_compared_1 13 rfl rfl)
theorem dX3_compared_38 : decode cX3_compared 38 = .ok (.aload_n 0, 1) := dk_42 (dk_at dksX3_compared_1 14 rfl rfl)
theorem dX3_compared_39 : decode cX3_compared 39 = .ok (.getfield 202, 3) := dk_180 0 202 (dk_at dksX3_compared_1 15 rfl rfl)
theorem dX3_compared_42 : decode cX3_compared 42 = .ok (.invokevirtual 251, 3) := dk_182 0 251 (dk_at dksX3_compared_1 18 rfl rfl)
theorem dX3_compared_45 : decode cX3_compared 45 = .ok (.aload_n 0, 1) := dk_42 (dk_at dksX3_compared_1 21 rfl rfl)
theorem dX3_compared_46 : decode cX3_compared 46 = .ok (.dup, 1) := dk_89 (dk_at dksX3_compared_1 22 rfl rfl)
theorem dX3_compared_47 : decode cX3_compared 47 = .ok (.getfield 202, 3) := dk_180 0 202 (dk_at dksX3_compared_2 0 rfl rfl)
theorem dX3_compared_50 : decode cX3_compared 50 = .ok (.iconst 1, 1) := dk_4 (dk_at dksX3_compared_2 3 rfl rfl)
theorem dX3_compared_51 : decode cX3_compared 51 = .ok (.iadd, 1) := dk_96 (dk_at dksX3_compared_2 4 rfl rfl)
theorem dX3_compared_52 : decode cX3_compared 52 = .ok (.putfield 202, 3) := dk_181 0 202 (dk_at dksX3_compared_2 5 rfl rfl)
theorem dX3_compared_55 : decode cX3_compared 55 = .ok (.iload_n 1, 1) := dk_27 (dk_at dksX3_compared_2 8 rfl rfl)
theorem dX3_compared_56 : decode cX3_compared 56 = .ok (.bipush 61, 2) := dk_16 61 (dk_at dksX3_compared_2 9 rfl rfl)
theorem dX3_compared_58 : decode cX3_compared 58 = .ok (.if_icmp .eq 16, 3) := dk_159 0 16 (dk_at dksX3_compared_2 11 rfl rfl)
theorem dX3_compared_61 : decode cX3_compared 61 = .ok (.aload_n 0, 1) := dk_42 (dk_at dksX3_compared_2 14 rfl rfl)
theorem dX3_compared_62 : decode cX3_compared 62 = .ok (.invokevirtual 205, 3) := dk_182 0 205 (dk_at dksX3_compared_2 15 rfl rfl)
theorem dX3_compared_65 : decode cX3_compared 65 = .ok (.bipush 61, 2) := dk_16 61 (dk_at dksX3_compared_2 18 rfl rfl)
theorem dX3_compared_67 : decode cX3_compared 67 = .ok (.if_icmp .ne 7, 3) := dk_160 0 7 (dk_at dksX3_compared_2 20 rfl rfl)
theorem dX3_compared_70 : decode cX3_compared 70 = .ok (.iconst 1, 1) := dk_4 (dk_at dksX3_compared_2 23 rfl rfl)
theorem dX3_compared_71 : decode cX3_compared 71 = .ok (.goto 4, 3) := dk_167 0 4 (dk_at dksX3_compared_3 0 rfl rfl)
theorem dX3_compared_74 : decode cX3_compared 74 = .ok (.iconst 0, 1) := dk_3 (dk_at dksX3_compared_3 3 rfl rfl)
theorem dX3_compared_75 : decode cX3_compared 75 = .ok (.istore_n 2, 1) := dk_61 (dk_at dksX3_compared_3 4 rfl rfl)
theorem dX3_compared_76 : decode cX3_compared 76 = .ok (.aload_n 0, 1) := dk_42 (dk_at dksX3_compared_3 5 rfl rfl)
theorem dX3_compared_77 : decode cX3_compared 77 = .ok (.dup, 1) := dk_89 (dk_at dksX3_compared_3 6 rfl rfl)
theorem dX3_compared_78 : decode cX3_compared 78 = .ok (.getfield 202, 3) := dk_180 0 202 (dk_at dksX3_compared_3 7 rfl rfl)
theorem dX3_compared_81 : decode cX3_compared 81 = .ok (.iload_n 2, 1) := dk_28 (dk_at dksX3_compared_3 10 rfl rfl)
theorem dX3_compared_82 : decode cX3_compared 82 = .ok (.ifCond .eq 7, 3) := dk_153 0 7 (dk_at dksX3_compared_3 11 rfl rfl)
theorem dX3_compared_85 : decode cX3_compared 85 = .ok (.iconst 1, 1) := dk_4 (dk_at dksX3_compared_3 14 rfl rfl)
theorem dX3_compared_86 : decode cX3_compared 86 = .ok (.goto 4, 3) := dk_167 0 4 (dk_at dksX3_compared_3 15 rfl rfl)
theorem dX3_compared_89 : decode cX3_compared 89 = .ok (.iconst 0, 1) := dk_3 (dk_at dksX3_compared_3 18 rfl rfl)
theorem dX3_compared_90 : decode cX3_compared 90 = .ok (.iadd, 1) := dk_96 (dk_at dksX3_compared_3 19 rfl rfl)
theorem dX3_compared_91 : decode cX3_compared 91 = .ok (.putfield 202, 3) := dk_181 0 202 (dk_at dksX3_compared_3 20 rfl rfl)
theorem dX3_compared_94 : decode cX3_compared 94 = .ok (.aload_n 0, 1) := dk_42 (dk_at dksX3_compared_3 23 rfl rfl)
theorem dX3_compared_95 : decode cX3_compared 95 = .ok (.invokevirtual 266, 3) := dk_182 1 10 (dk_at dksX3_compared_4 0 rfl rfl)
theorem dX3_compared_98 : decode cX3_compared 98 = .ok (.aload_n 0, 1) := dk_42 (dk_at dksX3_compared_4 3 rfl rfl)
theorem dX3_compared_99 : decode cX3_compared 99 = .ok (.iload_n 1, 1) := dk_27 (dk_at dksX3_compared_4 4 rfl rfl)
theorem dX3_compared_100 : decode cX3_compared 100 = .ok (.bipush 61, 2) := dk_16 61 (dk_at dksX3_compared_4 5 rfl rfl)
theorem dX3_compared_102 : decode cX3_compared 102 = .ok (.if_icmp .ne 8, 3) := dk_160 0 8 (dk_at dksX3_compared_4 7 rfl rfl)
theorem dX3_compared_105 : decode cX3_compared 105 = .ok (.bipush 6, 2) := dk_16 6 (dk_at dksX3_compared_4 10 rfl rfl)
theorem dX3_compared_107 : decode cX3_compared 107 = .ok (.goto 32, 3) := dk_167 0 32 (dk_at dksX3_compared_4 12 rfl rfl)
theorem dX3_compared_110 : decode cX3_compared 110 = .ok (.iload_n 1, 1) := dk_27 (dk_at dksX3_compared_4 15 rfl rfl)
theorem dX3_compared_111 : decode cX3_compared 111 = .ok (.bipush 60, 2) := dk_16 60 (dk_at dksX3_compared_4 16 rfl rfl)
theorem dX3_compared_113 : decode cX3_compared 113 = .ok (.if_icmp .ne 15, 3) := dk_160 0 15 (dk_at dksX3_compared_4 18 rfl rfl)
theorem dX3_compared_116 : decode cX3_compared 116 = .ok (.iload_n 2, 1) := dk_28 (dk_at dksX3_compared_4 21 rfl rfl)
theorem dX3_compared_117 : decode cX3_compared 117 = .ok (.ifCond .eq 7, 3) := dk_153 0 7 (dk_at dksX3_compared_5 0 rfl rfl)
theorem dX3_compared_120 : decode cX3_compared 120 = .ok (.iconst 5, 1) := dk_8 (dk_at dksX3_compared_5 3 rfl rfl)
theorem dX3_compared_121 : decode cX3_compared 121 = .ok (.goto 18, 3) := dk_167 0 18 (dk_at dksX3_compared_5 4 rfl rfl)
theorem dX3_compared_124 : decode cX3_compared 124 = .ok (.iconst 4, 1) := dk_7 (dk_at dksX3_compared_5 7 rfl rfl)
theorem dX3_compared_125 : decode cX3_compared 125 = .ok (.goto 14, 3) := dk_167 0 14 (dk_at dksX3_compared_5 8 rfl rfl)
theorem dX3_compared_128 : decode cX3_compared 128 = .ok (.iload_n 2, 1) := dk_28 (dk_at dksX3_compared_5 11 rfl rfl)
theorem dX3_compared_129 : decode cX3_compared 129 = .ok (.ifCond .eq 8, 3) := dk_153 0 8 (dk_at dksX3_compared_5 12 rfl rfl)
theorem dX3_compared_132 : decode cX3_compared 132 = .ok (.bipush 7, 2) := dk_16 7 (dk_at dksX3_compared_5 15 rfl rfl)
theorem dX3_compared_134 : decode cX3_compared 134 = .ok (.goto 5, 3) := dk_167 0 5 (dk_at dksX3_compared_5 17 rfl rfl)
theorem dX3_compared_137 : decode cX3_compared 137 = .ok (.bipush 8, 2) := dk_16 8 (dk_at dksX3_compared_5 20 rfl rfl)
theorem dX3_compared_139 : decode cX3_compared 139 = .ok (.iconst 0, 1) := dk_3 (dk_at dksX3_compared_5 22 rfl rfl)
theorem dX3_compared_140 : decode cX3_compared 140 = .ok (.invokevirtual 254, 3) := dk_182 0 254 (dk_at dksX3_compared_6 0 rfl rfl)
theorem dX3_compared_143 : decode cX3_compared 143 = .ok (.return_, 1) := dk_177 (dk_at dksX3_compared_6 3 rfl rfl)
abbrev cX3_answers : ByteArray := prog_17_method_29_code
def yX3_answers : MethodName := ⟨RX3, "answers", "(I)V"⟩
def dkwX3_answers_2 : List UInt8 := [100, 181, 1, 16, 167, 255, 205, 177]
abbrev dktX3_answers_2 : List UInt8 := dkwX3_answers_2 ++ []
def dkwX3_answers_1 : List UInt8 := [180, 1, 13, 4, 100, 181, 1, 13, 42, 89, 180, 1, 16, 27, 16, 9, 160, 0, 7, 4, 167, 0, 4, 3]
abbrev dktX3_answers_1 : List UInt8 := dkwX3_answers_1 ++ dktX3_answers_2
def dkwX3_answers_0 : List UInt8 := [42, 182, 1, 19, 27, 160, 0, 49, 42, 180, 0, 199, 154, 0, 42, 42, 27, 3, 182, 0, 254, 42, 89]
abbrev dktX3_answers_0 : List UInt8 := dkwX3_answers_0 ++ dktX3_answers_1
theorem dksX3_answers_0 : cX3_answers.data.toList.drop 0 = dktX3_answers_0 := by decide +kernel
theorem dksX3_answers_1 : cX3_answers.data.toList.drop 23 = dktX3_answers_1 := dk_seg dksX3_answers_0 23 rfl rfl
theorem dksX3_answers_2 : cX3_answers.data.toList.drop 47 = dktX3_answers_2 := dk_seg dksX3_answers_1 24 rfl rfl
theorem dX3_answers_0 : decode cX3_answers 0 = .ok (.aload_n 0, 1) := dk_42 (dk_at dksX3_answers_0 0 rfl rfl)
theorem dX3_answers_1 : decode cX3_answers 1 = .ok (.invokevirtual 275, 3) := dk_182 1 19 (dk_at dksX3_answers_0 1 rfl rfl)
theorem dX3_answers_4 : decode cX3_answers 4 = .ok (.iload_n 1, 1) := dk_27 (dk_at dksX3_answers_0 4 rfl rfl)
theorem dX3_answers_5 : decode cX3_answers 5 = .ok (.if_icmp .ne 49, 3) := dk_160 0 49 (dk_at dksX3_answers_0 5 rfl rfl)
theorem dX3_answers_8 : decode cX3_answers 8 = .ok (.aload_n 0, 1) := dk_42 (dk_at dksX3_answers_0 8 rfl rfl)
theorem dX3_answers_9 : decode cX3_answers 9 = .ok (.getfield 199, 3) := dk_180 0 199 (dk_at dksX3_answers_0 9 rfl rfl)
theorem dX3_answers_12 : decode cX3_answers 12 = .ok (.ifCond .ne 42, 3) := dk_154 0 42 (dk_at dksX3_answers_0 12 rfl rfl)
theorem dX3_answers_15 : decode cX3_answers 15 = .ok (.aload_n 0, 1) := dk_42 (dk_at dksX3_answers_0 15 rfl rfl)
theorem dX3_answers_16 : decode cX3_answers 16 = .ok (.iload_n 1, 1) := dk_27 (dk_at dksX3_answers_0 16 rfl rfl)
theorem dX3_answers_17 : decode cX3_answers 17 = .ok (.iconst 0, 1) := dk_3 (dk_at dksX3_answers_0 17 rfl rfl)
theorem dX3_answers_18 : decode cX3_answers 18 = .ok (.invokevirtual 254, 3) := dk_182 0 254 (dk_at dksX3_answers_0 18 rfl rfl)
theorem dX3_answers_21 : decode cX3_answers 21 = .ok (.aload_n 0, 1) := dk_42 (dk_at dksX3_answers_0 21 rfl rfl)
theorem dX3_answers_22 : decode cX3_answers 22 = .ok (.dup, 1) := dk_89 (dk_at dksX3_answers_0 22 rfl rfl)
theorem dX3_answers_23 : decode cX3_answers 23 = .ok (.getfield 269, 3) := dk_180 1 13 (dk_at dksX3_answers_1 0 rfl rfl)
theorem dX3_answers_26 : decode cX3_answers 26 = .ok (.iconst 1, 1) := dk_4 (dk_at dksX3_answers_1 3 rfl rfl)
theorem dX3_answers_27 : decode cX3_answers 27 = .ok (.isub, 1) := dk_100 (dk_at dksX3_answers_1 4 rfl rfl)
theorem dX3_answers_28 : decode cX3_answers 28 = .ok (.putfield 269, 3) := dk_181 1 13 (dk_at dksX3_answers_1 5 rfl rfl)
theorem dX3_answers_31 : decode cX3_answers 31 = .ok (.aload_n 0, 1) := dk_42 (dk_at dksX3_answers_1 8 rfl rfl)
theorem dX3_answers_32 : decode cX3_answers 32 = .ok (.dup, 1) := dk_89 (dk_at dksX3_answers_1 9 rfl rfl)
theorem dX3_answers_33 : decode cX3_answers 33 = .ok (.getfield 272, 3) := dk_180 1 16 (dk_at dksX3_answers_1 10 rfl rfl)
theorem dX3_answers_36 : decode cX3_answers 36 = .ok (.iload_n 1, 1) := dk_27 (dk_at dksX3_answers_1 13 rfl rfl)
theorem dX3_answers_37 : decode cX3_answers 37 = .ok (.bipush 9, 2) := dk_16 9 (dk_at dksX3_answers_1 14 rfl rfl)
theorem dX3_answers_39 : decode cX3_answers 39 = .ok (.if_icmp .ne 7, 3) := dk_160 0 7 (dk_at dksX3_answers_1 16 rfl rfl)
theorem dX3_answers_42 : decode cX3_answers 42 = .ok (.iconst 1, 1) := dk_4 (dk_at dksX3_answers_1 19 rfl rfl)
theorem dX3_answers_43 : decode cX3_answers 43 = .ok (.goto 4, 3) := dk_167 0 4 (dk_at dksX3_answers_1 20 rfl rfl)
theorem dX3_answers_46 : decode cX3_answers 46 = .ok (.iconst 0, 1) := dk_3 (dk_at dksX3_answers_1 23 rfl rfl)
theorem dX3_answers_47 : decode cX3_answers 47 = .ok (.isub, 1) := dk_100 (dk_at dksX3_answers_2 0 rfl rfl)
theorem dX3_answers_48 : decode cX3_answers 48 = .ok (.putfield 272, 3) := dk_181 1 16 (dk_at dksX3_answers_2 1 rfl rfl)
theorem dX3_answers_51 : decode cX3_answers 51 = .ok (.goto (-51), 3) := dk_167 255 205 (dk_at dksX3_answers_2 4 rfl rfl)
theorem dX3_answers_54 : decode cX3_answers 54 = .ok (.return_, 1) := dk_177 (dk_at dksX3_answers_2 7 rfl rfl)
abbrev cX3_top : ByteArray := prog_17_method_27_code
def yX3_top : MethodName := ⟨RX3, "top", "()I"⟩
def dkwX3_top_0 : List UInt8 := [42, 180, 1, 13, 154, 0, 7, 2, 167, 0, 14, 42, 180, 0, 114, 42, 180, 1, 13, 4, 100, 46, 172]
abbrev dktX3_top_0 : List UInt8 := dkwX3_top_0 ++ []
theorem dksX3_top_0 : cX3_top.data.toList.drop 0 = dktX3_top_0 := by decide +kernel
theorem dX3_top_0 : decode cX3_top 0 = .ok (.aload_n 0, 1) := dk_42 (dk_at dksX3_top_0 0 rfl rfl)
theorem dX3_top_1 : decode cX3_top 1 = .ok (.getfield 269, 3) := dk_180 1 13 (dk_at dksX3_top_0 1 rfl rfl)
theorem dX3_top_4 : decode cX3_top 4 = .ok (.ifCond .ne 7, 3) := dk_154 0 7 (dk_at dksX3_top_0 4 rfl rfl)
theorem dX3_top_7 : decode cX3_top 7 = .ok (.iconst (-1), 1) := dk_2 (dk_at dksX3_top_0 7 rfl rfl)
theorem dX3_top_8 : decode cX3_top 8 = .ok (.goto 14, 3) := dk_167 0 14 (dk_at dksX3_top_0 8 rfl rfl)
theorem dX3_top_11 : decode cX3_top 11 = .ok (.aload_n 0, 1) := dk_42 (dk_at dksX3_top_0 11 rfl rfl)
theorem dX3_top_12 : decode cX3_top 12 = .ok (.getfield 114, 3) := dk_180 0 114 (dk_at dksX3_top_0 12 rfl rfl)
theorem dX3_top_15 : decode cX3_top 15 = .ok (.aload_n 0, 1) := dk_42 (dk_at dksX3_top_0 15 rfl rfl)
theorem dX3_top_16 : decode cX3_top 16 = .ok (.getfield 269, 3) := dk_180 1 13 (dk_at dksX3_top_0 16 rfl rfl)
theorem dX3_top_19 : decode cX3_top 19 = .ok (.iconst 1, 1) := dk_4 (dk_at dksX3_top_0 19 rfl rfl)
theorem dX3_top_20 : decode cX3_top 20 = .ok (.isub, 1) := dk_100 (dk_at dksX3_top_0 20 rfl rfl)
theorem dX3_top_21 : decode cX3_top 21 = .ok (.iaload, 1) := dk_46 (dk_at dksX3_top_0 21 rfl rfl)
theorem dX3_top_22 : decode cX3_top 22 = .ok (.ireturn, 1) := dk_172 (dk_at dksX3_top_0 22 rfl rfl)
abbrev cX3_force : ByteArray := prog_17_method_47_code
def yX3_force : MethodName := ⟨RX3, "force", "(I)I"⟩
def dkwX3_force_1 : List UInt8 := [180, 0, 9, 16, 12, 46, 61, 42, 180, 0, 9, 16, 12, 27, 79, 28, 172]
abbrev dktX3_force_1 : List UInt8 := dkwX3_force_1 ++ []
def dkwX3_force_0 : List UInt8 := [27, 133, 20, 1, 112, 42, 180, 1, 106, 4, 100, 133, 184, 0, 164, 154, 0, 6, 16, 254, 172, 42]
abbrev dktX3_force_0 : List UInt8 := dkwX3_force_0 ++ dktX3_force_1
theorem dksX3_force_0 : cX3_force.data.toList.drop 0 = dktX3_force_0 := by decide +kernel
theorem dksX3_force_1 : cX3_force.data.toList.drop 22 = dktX3_force_1 := dk_seg dksX3_force_0 22 rfl rfl
theorem dX3_force_0 : decode cX3_force 0 = .ok (.iload_n 1, 1) := dk_27 (dk_at dksX3_force_0 0 rfl rfl)
theorem dX3_force_1 : decode cX3_force 1 = .ok (.i2l, 1) := dk_133 (dk_at dksX3_force_0 1 rfl rfl)
theorem dX3_force_2 : decode cX3_force 2 = .ok (.ldc2_w 368, 3) := dk_20 1 112 (dk_at dksX3_force_0 2 rfl rfl)
theorem dX3_force_5 : decode cX3_force 5 = .ok (.aload_n 0, 1) := dk_42 (dk_at dksX3_force_0 5 rfl rfl)
theorem dX3_force_6 : decode cX3_force 6 = .ok (.getfield 362, 3) := dk_180 1 106 (dk_at dksX3_force_0 6 rfl rfl)
theorem dX3_force_9 : decode cX3_force 9 = .ok (.iconst 1, 1) := dk_4 (dk_at dksX3_force_0 9 rfl rfl)
theorem dX3_force_10 : decode cX3_force 10 = .ok (.isub, 1) := dk_100 (dk_at dksX3_force_0 10 rfl rfl)
theorem dX3_force_11 : decode cX3_force 11 = .ok (.i2l, 1) := dk_133 (dk_at dksX3_force_0 11 rfl rfl)
theorem dX3_force_12 : decode cX3_force 12 = .ok (.invokestatic 164, 3) := dk_184 0 164 (dk_at dksX3_force_0 12 rfl rfl)
theorem dX3_force_15 : decode cX3_force 15 = .ok (.ifCond .ne 6, 3) := dk_154 0 6 (dk_at dksX3_force_0 15 rfl rfl)
theorem dX3_force_18 : decode cX3_force 18 = .ok (.bipush (-2), 2) := dk_16 254 (dk_at dksX3_force_0 18 rfl rfl)
theorem dX3_force_20 : decode cX3_force 20 = .ok (.ireturn, 1) := dk_172 (dk_at dksX3_force_0 20 rfl rfl)
theorem dX3_force_21 : decode cX3_force 21 = .ok (.aload_n 0, 1) := dk_42 (dk_at dksX3_force_0 21 rfl rfl)
theorem dX3_force_22 : decode cX3_force 22 = .ok (.getfield 9, 3) := dk_180 0 9 (dk_at dksX3_force_1 0 rfl rfl)
theorem dX3_force_25 : decode cX3_force 25 = .ok (.bipush 12, 2) := dk_16 12 (dk_at dksX3_force_1 3 rfl rfl)
theorem dX3_force_27 : decode cX3_force 27 = .ok (.iaload, 1) := dk_46 (dk_at dksX3_force_1 5 rfl rfl)
theorem dX3_force_28 : decode cX3_force 28 = .ok (.istore_n 2, 1) := dk_61 (dk_at dksX3_force_1 6 rfl rfl)
theorem dX3_force_29 : decode cX3_force 29 = .ok (.aload_n 0, 1) := dk_42 (dk_at dksX3_force_1 7 rfl rfl)
theorem dX3_force_30 : decode cX3_force 30 = .ok (.getfield 9, 3) := dk_180 0 9 (dk_at dksX3_force_1 8 rfl rfl)
theorem dX3_force_33 : decode cX3_force 33 = .ok (.bipush 12, 2) := dk_16 12 (dk_at dksX3_force_1 11 rfl rfl)
theorem dX3_force_35 : decode cX3_force 35 = .ok (.iload_n 1, 1) := dk_27 (dk_at dksX3_force_1 13 rfl rfl)
theorem dX3_force_36 : decode cX3_force 36 = .ok (.iastore, 1) := dk_79 (dk_at dksX3_force_1 14 rfl rfl)
theorem dX3_force_37 : decode cX3_force 37 = .ok (.iload_n 2, 1) := dk_28 (dk_at dksX3_force_1 15 rfl rfl)
theorem dX3_force_38 : decode cX3_force 38 = .ok (.ireturn, 1) := dk_172 (dk_at dksX3_force_1 16 rfl rfl)
abbrev cX3_cell : ByteArray := prog_17_method_65_code
def yX3_cell : MethodName := ⟨RX3, "cell", "(II)I"⟩
def dkwX3_cell_3 : List UInt8 := [172, 42, 27, 182, 1, 158, 153, 0, 7, 4, 167, 0, 4, 3, 172, 16, 254, 172]
abbrev dktX3_cell_3 : List UInt8 := dkwX3_cell_3 ++ []
def dkwX3_cell_2 : List UInt8 := [42, 27, 182, 1, 152, 172, 42, 180, 0, 31, 27, 46, 172, 42, 27, 182, 1, 146, 172, 42, 27, 182, 1, 155]
abbrev dktX3_cell_2 : List UInt8 := dkwX3_cell_2 ++ dktX3_cell_3
def dkwX3_cell_1 : List UInt8 := [170, 0, 0, 0, 0, 0, 0, 75, 0, 0, 0, 0, 0, 0, 0, 4, 0, 0, 0, 36, 0, 0, 0, 42, 0, 0, 0, 49, 0, 0, 0, 55, 0, 0, 0, 61]
abbrev dktX3_cell_1 : List UInt8 := dkwX3_cell_1 ++ dktX3_cell_2
def dkwX3_cell_0 : List UInt8 := [42, 27, 182, 1, 149, 154, 0, 6, 16, 254, 172, 28]
abbrev dktX3_cell_0 : List UInt8 := dkwX3_cell_0 ++ dktX3_cell_1
theorem dksX3_cell_0 : cX3_cell.data.toList.drop 0 = dktX3_cell_0 := by decide +kernel
theorem dksX3_cell_1 : cX3_cell.data.toList.drop 12 = dktX3_cell_1 := dk_seg dksX3_cell_0 12 rfl rfl
theorem dksX3_cell_2 : cX3_cell.data.toList.drop 48 = dktX3_cell_2 := dk_seg dksX3_cell_1 36 rfl rfl
theorem dksX3_cell_3 : cX3_cell.data.toList.drop 72 = dktX3_cell_3 := dk_seg dksX3_cell_2 24 rfl rfl
theorem dX3_cell_0 : decode cX3_cell 0 = .ok (.aload_n 0, 1) := dk_42 (dk_at dksX3_cell_0 0 rfl rfl)
theorem dX3_cell_1 : decode cX3_cell 1 = .ok (.iload_n 1, 1) := dk_27 (dk_at dksX3_cell_0 1 rfl rfl)
theorem dX3_cell_2 : decode cX3_cell 2 = .ok (.invokevirtual 405, 3) := dk_182 1 149 (dk_at dksX3_cell_0 2 rfl rfl)
theorem dX3_cell_5 : decode cX3_cell 5 = .ok (.ifCond .ne 6, 3) := dk_154 0 6 (dk_at dksX3_cell_0 5 rfl rfl)
theorem dX3_cell_8 : decode cX3_cell 8 = .ok (.bipush (-2), 2) := dk_16 254 (dk_at dksX3_cell_0 8 rfl rfl)
theorem dX3_cell_10 : decode cX3_cell 10 = .ok (.ireturn, 1) := dk_172 (dk_at dksX3_cell_0 10 rfl rfl)
theorem dX3_cell_11 : decode cX3_cell 11 = .ok (.iload_n 2, 1) := dk_28 (dk_at dksX3_cell_0 11 rfl rfl)
theorem dX3_cell_12 : decode cX3_cell 12 = .ok (.tableswitch 75 0 4 #[36, 42, 49, 55, 61], 36) := by decide +kernel
theorem dX3_cell_48 : decode cX3_cell 48 = .ok (.aload_n 0, 1) := dk_42 (dk_at dksX3_cell_2 0 rfl rfl)
theorem dX3_cell_49 : decode cX3_cell 49 = .ok (.iload_n 1, 1) := dk_27 (dk_at dksX3_cell_2 1 rfl rfl)
theorem dX3_cell_50 : decode cX3_cell 50 = .ok (.invokevirtual 408, 3) := dk_182 1 152 (dk_at dksX3_cell_2 2 rfl rfl)
theorem dX3_cell_53 : decode cX3_cell 53 = .ok (.ireturn, 1) := dk_172 (dk_at dksX3_cell_2 5 rfl rfl)
theorem dX3_cell_54 : decode cX3_cell 54 = .ok (.aload_n 0, 1) := dk_42 (dk_at dksX3_cell_2 6 rfl rfl)
theorem dX3_cell_55 : decode cX3_cell 55 = .ok (.getfield 31, 3) := dk_180 0 31 (dk_at dksX3_cell_2 7 rfl rfl)
theorem dX3_cell_58 : decode cX3_cell 58 = .ok (.iload_n 1, 1) := dk_27 (dk_at dksX3_cell_2 10 rfl rfl)
theorem dX3_cell_59 : decode cX3_cell 59 = .ok (.iaload, 1) := dk_46 (dk_at dksX3_cell_2 11 rfl rfl)
theorem dX3_cell_60 : decode cX3_cell 60 = .ok (.ireturn, 1) := dk_172 (dk_at dksX3_cell_2 12 rfl rfl)
theorem dX3_cell_61 : decode cX3_cell 61 = .ok (.aload_n 0, 1) := dk_42 (dk_at dksX3_cell_2 13 rfl rfl)
theorem dX3_cell_62 : decode cX3_cell 62 = .ok (.iload_n 1, 1) := dk_27 (dk_at dksX3_cell_2 14 rfl rfl)
theorem dX3_cell_63 : decode cX3_cell 63 = .ok (.invokevirtual 402, 3) := dk_182 1 146 (dk_at dksX3_cell_2 15 rfl rfl)
theorem dX3_cell_66 : decode cX3_cell 66 = .ok (.ireturn, 1) := dk_172 (dk_at dksX3_cell_2 18 rfl rfl)
theorem dX3_cell_67 : decode cX3_cell 67 = .ok (.aload_n 0, 1) := dk_42 (dk_at dksX3_cell_2 19 rfl rfl)
theorem dX3_cell_68 : decode cX3_cell 68 = .ok (.iload_n 1, 1) := dk_27 (dk_at dksX3_cell_2 20 rfl rfl)
theorem dX3_cell_69 : decode cX3_cell 69 = .ok (.invokevirtual 411, 3) := dk_182 1 155 (dk_at dksX3_cell_2 21 rfl rfl)
theorem dX3_cell_72 : decode cX3_cell 72 = .ok (.ireturn, 1) := dk_172 (dk_at dksX3_cell_3 0 rfl rfl)
theorem dX3_cell_73 : decode cX3_cell 73 = .ok (.aload_n 0, 1) := dk_42 (dk_at dksX3_cell_3 1 rfl rfl)
theorem dX3_cell_74 : decode cX3_cell 74 = .ok (.iload_n 1, 1) := dk_27 (dk_at dksX3_cell_3 2 rfl rfl)
theorem dX3_cell_75 : decode cX3_cell 75 = .ok (.invokevirtual 414, 3) := dk_182 1 158 (dk_at dksX3_cell_3 3 rfl rfl)
theorem dX3_cell_78 : decode cX3_cell 78 = .ok (.ifCond .eq 7, 3) := dk_153 0 7 (dk_at dksX3_cell_3 6 rfl rfl)
theorem dX3_cell_81 : decode cX3_cell 81 = .ok (.iconst 1, 1) := dk_4 (dk_at dksX3_cell_3 9 rfl rfl)
theorem dX3_cell_82 : decode cX3_cell 82 = .ok (.goto 4, 3) := dk_167 0 4 (dk_at dksX3_cell_3 10 rfl rfl)
theorem dX3_cell_85 : decode cX3_cell 85 = .ok (.iconst 0, 1) := dk_3 (dk_at dksX3_cell_3 13 rfl rfl)
theorem dX3_cell_86 : decode cX3_cell 86 = .ok (.ireturn, 1) := dk_172 (dk_at dksX3_cell_3 14 rfl rfl)
theorem dX3_cell_87 : decode cX3_cell 87 = .ok (.bipush (-2), 2) := dk_16 254 (dk_at dksX3_cell_3 15 rfl rfl)
theorem dX3_cell_89 : decode cX3_cell 89 = .ok (.ireturn, 1) := dk_172 (dk_at dksX3_cell_3 17 rfl rfl)
abbrev cX3_isCell : ByteArray := prog_17_method_8_code
def yX3_isCell : MethodName := ⟨RX3, "isCell", "(I)Z"⟩
def dkwX3_isCell_0 : List UInt8 := [27, 133, 9, 42, 180, 0, 9, 7, 46, 4, 100, 133, 184, 0, 164, 172]
abbrev dktX3_isCell_0 : List UInt8 := dkwX3_isCell_0 ++ []
theorem dksX3_isCell_0 : cX3_isCell.data.toList.drop 0 = dktX3_isCell_0 := by decide +kernel
theorem dX3_isCell_0 : decode cX3_isCell 0 = .ok (.iload_n 1, 1) := dk_27 (dk_at dksX3_isCell_0 0 rfl rfl)
theorem dX3_isCell_1 : decode cX3_isCell 1 = .ok (.i2l, 1) := dk_133 (dk_at dksX3_isCell_0 1 rfl rfl)
theorem dX3_isCell_2 : decode cX3_isCell 2 = .ok (.lconst 0, 1) := dk_9 (dk_at dksX3_isCell_0 2 rfl rfl)
theorem dX3_isCell_3 : decode cX3_isCell 3 = .ok (.aload_n 0, 1) := dk_42 (dk_at dksX3_isCell_0 3 rfl rfl)
theorem dX3_isCell_4 : decode cX3_isCell 4 = .ok (.getfield 9, 3) := dk_180 0 9 (dk_at dksX3_isCell_0 4 rfl rfl)
theorem dX3_isCell_7 : decode cX3_isCell 7 = .ok (.iconst 4, 1) := dk_7 (dk_at dksX3_isCell_0 7 rfl rfl)
theorem dX3_isCell_8 : decode cX3_isCell 8 = .ok (.iaload, 1) := dk_46 (dk_at dksX3_isCell_0 8 rfl rfl)
theorem dX3_isCell_9 : decode cX3_isCell 9 = .ok (.iconst 1, 1) := dk_4 (dk_at dksX3_isCell_0 9 rfl rfl)
theorem dX3_isCell_10 : decode cX3_isCell 10 = .ok (.isub, 1) := dk_100 (dk_at dksX3_isCell_0 10 rfl rfl)
theorem dX3_isCell_11 : decode cX3_isCell 11 = .ok (.i2l, 1) := dk_133 (dk_at dksX3_isCell_0 11 rfl rfl)
theorem dX3_isCell_12 : decode cX3_isCell 12 = .ok (.invokestatic 164, 3) := dk_184 0 164 (dk_at dksX3_isCell_0 12 rfl rfl)
theorem dX3_isCell_15 : decode cX3_isCell 15 = .ok (.ireturn, 1) := dk_172 (dk_at dksX3_isCell_0 15 rfl rfl)
abbrev cX3_thingOf : ByteArray := prog_17_method_52_code
def yX3_thingOf : MethodName := ⟨RX3, "thingOf", "(I)I"⟩
def dkwX3_thingOf_0 : List UInt8 := [3, 61, 27, 42, 180, 0, 13, 28, 4, 96, 46, 161, 0, 9, 132, 2, 1, 167, 255, 241, 28, 172]
abbrev dktX3_thingOf_0 : List UInt8 := dkwX3_thingOf_0 ++ []
theorem dksX3_thingOf_0 : cX3_thingOf.data.toList.drop 0 = dktX3_thingOf_0 := by decide +kernel
theorem dX3_thingOf_0 : decode cX3_thingOf 0 = .ok (.iconst 0, 1) := dk_3 (dk_at dksX3_thingOf_0 0 rfl rfl)
theorem dX3_thingOf_1 : decode cX3_thingOf 1 = .ok (.istore_n 2, 1) := dk_61 (dk_at dksX3_thingOf_0 1 rfl rfl)
theorem dX3_thingOf_2 : decode cX3_thingOf 2 = .ok (.iload_n 1, 1) := dk_27 (dk_at dksX3_thingOf_0 2 rfl rfl)
theorem dX3_thingOf_3 : decode cX3_thingOf 3 = .ok (.aload_n 0, 1) := dk_42 (dk_at dksX3_thingOf_0 3 rfl rfl)
theorem dX3_thingOf_4 : decode cX3_thingOf 4 = .ok (.getfield 13, 3) := dk_180 0 13 (dk_at dksX3_thingOf_0 4 rfl rfl)
theorem dX3_thingOf_7 : decode cX3_thingOf 7 = .ok (.iload_n 2, 1) := dk_28 (dk_at dksX3_thingOf_0 7 rfl rfl)
theorem dX3_thingOf_8 : decode cX3_thingOf 8 = .ok (.iconst 1, 1) := dk_4 (dk_at dksX3_thingOf_0 8 rfl rfl)
theorem dX3_thingOf_9 : decode cX3_thingOf 9 = .ok (.iadd, 1) := dk_96 (dk_at dksX3_thingOf_0 9 rfl rfl)
theorem dX3_thingOf_10 : decode cX3_thingOf 10 = .ok (.iaload, 1) := dk_46 (dk_at dksX3_thingOf_0 10 rfl rfl)
theorem dX3_thingOf_11 : decode cX3_thingOf 11 = .ok (.if_icmp .lt 9, 3) := dk_161 0 9 (dk_at dksX3_thingOf_0 11 rfl rfl)
theorem dX3_thingOf_14 : decode cX3_thingOf 14 = .ok (.iinc 2 1, 3) := dk_132 2 1 (dk_at dksX3_thingOf_0 14 rfl rfl)
theorem dX3_thingOf_17 : decode cX3_thingOf 17 = .ok (.goto (-15), 3) := dk_167 255 241 (dk_at dksX3_thingOf_0 17 rfl rfl)
theorem dX3_thingOf_20 : decode cX3_thingOf 20 = .ok (.iload_n 2, 1) := dk_28 (dk_at dksX3_thingOf_0 20 rfl rfl)
theorem dX3_thingOf_21 : decode cX3_thingOf 21 = .ok (.ireturn, 1) := dk_172 (dk_at dksX3_thingOf_0 21 rfl rfl)
abbrev cX3_ownerOf : ByteArray := prog_17_method_59_code
def yX3_ownerOf : MethodName := ⟨RX3, "ownerOf", "(I)I"⟩
def dkwX3_ownerOf_0 : List UInt8 := [42, 27, 42, 180, 0, 31, 27, 46, 42, 180, 0, 9, 16, 9, 46, 182, 1, 132, 172]
abbrev dktX3_ownerOf_0 : List UInt8 := dkwX3_ownerOf_0 ++ []
theorem dksX3_ownerOf_0 : cX3_ownerOf.data.toList.drop 0 = dktX3_ownerOf_0 := by decide +kernel
theorem dX3_ownerOf_0 : decode cX3_ownerOf 0 = .ok (.aload_n 0, 1) := dk_42 (dk_at dksX3_ownerOf_0 0 rfl rfl)
theorem dX3_ownerOf_1 : decode cX3_ownerOf 1 = .ok (.iload_n 1, 1) := dk_27 (dk_at dksX3_ownerOf_0 1 rfl rfl)
theorem dX3_ownerOf_2 : decode cX3_ownerOf 2 = .ok (.aload_n 0, 1) := dk_42 (dk_at dksX3_ownerOf_0 2 rfl rfl)
theorem dX3_ownerOf_3 : decode cX3_ownerOf 3 = .ok (.getfield 31, 3) := dk_180 0 31 (dk_at dksX3_ownerOf_0 3 rfl rfl)
theorem dX3_ownerOf_6 : decode cX3_ownerOf 6 = .ok (.iload_n 1, 1) := dk_27 (dk_at dksX3_ownerOf_0 6 rfl rfl)
theorem dX3_ownerOf_7 : decode cX3_ownerOf 7 = .ok (.iaload, 1) := dk_46 (dk_at dksX3_ownerOf_0 7 rfl rfl)
theorem dX3_ownerOf_8 : decode cX3_ownerOf 8 = .ok (.aload_n 0, 1) := dk_42 (dk_at dksX3_ownerOf_0 8 rfl rfl)
theorem dX3_ownerOf_9 : decode cX3_ownerOf 9 = .ok (.getfield 9, 3) := dk_180 0 9 (dk_at dksX3_ownerOf_0 9 rfl rfl)
theorem dX3_ownerOf_12 : decode cX3_ownerOf 12 = .ok (.bipush 9, 2) := dk_16 9 (dk_at dksX3_ownerOf_0 12 rfl rfl)
theorem dX3_ownerOf_14 : decode cX3_ownerOf 14 = .ok (.iaload, 1) := dk_46 (dk_at dksX3_ownerOf_0 14 rfl rfl)
theorem dX3_ownerOf_15 : decode cX3_ownerOf 15 = .ok (.invokevirtual 388, 3) := dk_182 1 132 (dk_at dksX3_ownerOf_0 15 rfl rfl)
theorem dX3_ownerOf_18 : decode cX3_ownerOf 18 = .ok (.ireturn, 1) := dk_172 (dk_at dksX3_ownerOf_0 18 rfl rfl)
abbrev cX3_ownerBy : ByteArray := prog_17_method_58_code
def yX3_ownerBy : MethodName := ⟨RX3, "ownerBy", "(III)I"⟩
def dkwX3_ownerBy_2 : List UInt8 := [132, 4, 255, 167, 255, 214, 2, 172]
abbrev dktX3_ownerBy_2 : List UInt8 := dkwX3_ownerBy_2 ++ []
def dkwX3_ownerBy_1 : List UInt8 := [154, 0, 11, 42, 180, 0, 34, 21, 4, 46, 172, 42, 180, 0, 9, 16, 6, 46, 4, 160, 0, 5, 2, 172]
abbrev dktX3_ownerBy_1 : List UInt8 := dkwX3_ownerBy_1 ++ dktX3_ownerBy_2
def dkwX3_ownerBy_0 : List UInt8 := [8, 27, 104, 28, 96, 4, 100, 54, 4, 21, 4, 8, 27, 104, 161, 0, 40, 42, 21, 4, 29, 182, 1, 129]
abbrev dktX3_ownerBy_0 : List UInt8 := dkwX3_ownerBy_0 ++ dktX3_ownerBy_1
theorem dksX3_ownerBy_0 : cX3_ownerBy.data.toList.drop 0 = dktX3_ownerBy_0 := by decide +kernel
theorem dksX3_ownerBy_1 : cX3_ownerBy.data.toList.drop 24 = dktX3_ownerBy_1 := dk_seg dksX3_ownerBy_0 24 rfl rfl
theorem dksX3_ownerBy_2 : cX3_ownerBy.data.toList.drop 48 = dktX3_ownerBy_2 := dk_seg dksX3_ownerBy_1 24 rfl rfl
theorem dX3_ownerBy_0 : decode cX3_ownerBy 0 = .ok (.iconst 5, 1) := dk_8 (dk_at dksX3_ownerBy_0 0 rfl rfl)
theorem dX3_ownerBy_1 : decode cX3_ownerBy 1 = .ok (.iload_n 1, 1) := dk_27 (dk_at dksX3_ownerBy_0 1 rfl rfl)
theorem dX3_ownerBy_2 : decode cX3_ownerBy 2 = .ok (.imul, 1) := dk_104 (dk_at dksX3_ownerBy_0 2 rfl rfl)
theorem dX3_ownerBy_3 : decode cX3_ownerBy 3 = .ok (.iload_n 2, 1) := dk_28 (dk_at dksX3_ownerBy_0 3 rfl rfl)
theorem dX3_ownerBy_4 : decode cX3_ownerBy 4 = .ok (.iadd, 1) := dk_96 (dk_at dksX3_ownerBy_0 4 rfl rfl)
theorem dX3_ownerBy_5 : decode cX3_ownerBy 5 = .ok (.iconst 1, 1) := dk_4 (dk_at dksX3_ownerBy_0 5 rfl rfl)
theorem dX3_ownerBy_6 : decode cX3_ownerBy 6 = .ok (.isub, 1) := dk_100 (dk_at dksX3_ownerBy_0 6 rfl rfl)
theorem dX3_ownerBy_7 : decode cX3_ownerBy 7 = .ok (.istore 4, 2) := dk_54 4 (dk_at dksX3_ownerBy_0 7 rfl rfl)
theorem dX3_ownerBy_9 : decode cX3_ownerBy 9 = .ok (.iload 4, 2) := dk_21 4 (dk_at dksX3_ownerBy_0 9 rfl rfl)
theorem dX3_ownerBy_11 : decode cX3_ownerBy 11 = .ok (.iconst 5, 1) := dk_8 (dk_at dksX3_ownerBy_0 11 rfl rfl)
theorem dX3_ownerBy_12 : decode cX3_ownerBy 12 = .ok (.iload_n 1, 1) := dk_27 (dk_at dksX3_ownerBy_0 12 rfl rfl)
theorem dX3_ownerBy_13 : decode cX3_ownerBy 13 = .ok (.imul, 1) := dk_104 (dk_at dksX3_ownerBy_0 13 rfl rfl)
theorem dX3_ownerBy_14 : decode cX3_ownerBy 14 = .ok (.if_icmp .lt 40, 3) := dk_161 0 40 (dk_at dksX3_ownerBy_0 14 rfl rfl)
theorem dX3_ownerBy_17 : decode cX3_ownerBy 17 = .ok (.aload_n 0, 1) := dk_42 (dk_at dksX3_ownerBy_0 17 rfl rfl)
theorem dX3_ownerBy_18 : decode cX3_ownerBy 18 = .ok (.iload 4, 2) := dk_21 4 (dk_at dksX3_ownerBy_0 18 rfl rfl)
theorem dX3_ownerBy_20 : decode cX3_ownerBy 20 = .ok (.iload_n 3, 1) := dk_29 (dk_at dksX3_ownerBy_0 20 rfl rfl)
theorem dX3_ownerBy_21 : decode cX3_ownerBy 21 = .ok (.invokevirtual 385, 3) := dk_182 1 129 (dk_at dksX3_ownerBy_0 21 rfl rfl)
theorem dX3_ownerBy_24 : decode cX3_ownerBy 24 = .ok (.ifCond .ne 11, 3) := dk_154 0 11 (dk_at dksX3_ownerBy_1 0 rfl rfl)
theorem dX3_ownerBy_27 : decode cX3_ownerBy 27 = .ok (.aload_n 0, 1) := dk_42 (dk_at dksX3_ownerBy_1 3 rfl rfl)
theorem dX3_ownerBy_28 : decode cX3_ownerBy 28 = .ok (.getfield 34, 3) := dk_180 0 34 (dk_at dksX3_ownerBy_1 4 rfl rfl)
theorem dX3_ownerBy_31 : decode cX3_ownerBy 31 = .ok (.iload 4, 2) := dk_21 4 (dk_at dksX3_ownerBy_1 7 rfl rfl)
theorem dX3_ownerBy_33 : decode cX3_ownerBy 33 = .ok (.iaload, 1) := dk_46 (dk_at dksX3_ownerBy_1 9 rfl rfl)
theorem dX3_ownerBy_34 : decode cX3_ownerBy 34 = .ok (.ireturn, 1) := dk_172 (dk_at dksX3_ownerBy_1 10 rfl rfl)
theorem dX3_ownerBy_35 : decode cX3_ownerBy 35 = .ok (.aload_n 0, 1) := dk_42 (dk_at dksX3_ownerBy_1 11 rfl rfl)
theorem dX3_ownerBy_36 : decode cX3_ownerBy 36 = .ok (.getfield 9, 3) := dk_180 0 9 (dk_at dksX3_ownerBy_1 12 rfl rfl)
theorem dX3_ownerBy_39 : decode cX3_ownerBy 39 = .ok (.bipush 6, 2) := dk_16 6 (dk_at dksX3_ownerBy_1 15 rfl rfl)
theorem dX3_ownerBy_41 : decode cX3_ownerBy 41 = .ok (.iaload, 1) := dk_46 (dk_at dksX3_ownerBy_1 17 rfl rfl)
theorem dX3_ownerBy_42 : decode cX3_ownerBy 42 = .ok (.iconst 1, 1) := dk_4 (dk_at dksX3_ownerBy_1 18 rfl rfl)
theorem dX3_ownerBy_43 : decode cX3_ownerBy 43 = .ok (.if_icmp .ne 5, 3) := dk_160 0 5 (dk_at dksX3_ownerBy_1 19 rfl rfl)
theorem dX3_ownerBy_46 : decode cX3_ownerBy 46 = .ok (.iconst (-1), 1) := dk_2 (dk_at dksX3_ownerBy_1 22 rfl rfl)
theorem dX3_ownerBy_47 : decode cX3_ownerBy 47 = .ok (.ireturn, 1) := dk_172 (dk_at dksX3_ownerBy_1 23 rfl rfl)
theorem dX3_ownerBy_48 : decode cX3_ownerBy 48 = .ok (.iinc 4 (-1), 3) := dk_132 4 255 (dk_at dksX3_ownerBy_2 0 rfl rfl)
theorem dX3_ownerBy_51 : decode cX3_ownerBy 51 = .ok (.goto (-42), 3) := dk_167 255 214 (dk_at dksX3_ownerBy_2 3 rfl rfl)
theorem dX3_ownerBy_54 : decode cX3_ownerBy 54 = .ok (.iconst (-1), 1) := dk_2 (dk_at dksX3_ownerBy_2 6 rfl rfl)
theorem dX3_ownerBy_55 : decode cX3_ownerBy 55 = .ok (.ireturn, 1) := dk_172 (dk_at dksX3_ownerBy_2 7 rfl rfl)
abbrev cX3_isWetAt : ByteArray := prog_17_method_55_code
def yX3_isWetAt : MethodName := ⟨RX3, "isWetAt", "(II)Z"⟩
def dkwX3_isWetAt_1 : List UInt8 := [162, 0, 7, 4, 167, 0, 4, 3, 172]
abbrev dktX3_isWetAt_1 : List UInt8 := dkwX3_isWetAt_1 ++ []
def dkwX3_isWetAt_0 : List UInt8 := [42, 180, 0, 37, 27, 46, 2, 159, 0, 24, 28, 42, 180, 0, 37, 27, 46, 42, 180, 0, 9, 3, 46, 96]
abbrev dktX3_isWetAt_0 : List UInt8 := dkwX3_isWetAt_0 ++ dktX3_isWetAt_1
theorem dksX3_isWetAt_0 : cX3_isWetAt.data.toList.drop 0 = dktX3_isWetAt_0 := by decide +kernel
theorem dksX3_isWetAt_1 : cX3_isWetAt.data.toList.drop 24 = dktX3_isWetAt_1 := dk_seg dksX3_isWetAt_0 24 rfl rfl
theorem dX3_isWetAt_0 : decode cX3_isWetAt 0 = .ok (.aload_n 0, 1) := dk_42 (dk_at dksX3_isWetAt_0 0 rfl rfl)
theorem dX3_isWetAt_1 : decode cX3_isWetAt 1 = .ok (.getfield 37, 3) := dk_180 0 37 (dk_at dksX3_isWetAt_0 1 rfl rfl)
theorem dX3_isWetAt_4 : decode cX3_isWetAt 4 = .ok (.iload_n 1, 1) := dk_27 (dk_at dksX3_isWetAt_0 4 rfl rfl)
theorem dX3_isWetAt_5 : decode cX3_isWetAt 5 = .ok (.iaload, 1) := dk_46 (dk_at dksX3_isWetAt_0 5 rfl rfl)
theorem dX3_isWetAt_6 : decode cX3_isWetAt 6 = .ok (.iconst (-1), 1) := dk_2 (dk_at dksX3_isWetAt_0 6 rfl rfl)
theorem dX3_isWetAt_7 : decode cX3_isWetAt 7 = .ok (.if_icmp .eq 24, 3) := dk_159 0 24 (dk_at dksX3_isWetAt_0 7 rfl rfl)
theorem dX3_isWetAt_10 : decode cX3_isWetAt 10 = .ok (.iload_n 2, 1) := dk_28 (dk_at dksX3_isWetAt_0 10 rfl rfl)
theorem dX3_isWetAt_11 : decode cX3_isWetAt 11 = .ok (.aload_n 0, 1) := dk_42 (dk_at dksX3_isWetAt_0 11 rfl rfl)
theorem dX3_isWetAt_12 : decode cX3_isWetAt 12 = .ok (.getfield 37, 3) := dk_180 0 37 (dk_at dksX3_isWetAt_0 12 rfl rfl)
theorem dX3_isWetAt_15 : decode cX3_isWetAt 15 = .ok (.iload_n 1, 1) := dk_27 (dk_at dksX3_isWetAt_0 15 rfl rfl)
theorem dX3_isWetAt_16 : decode cX3_isWetAt 16 = .ok (.iaload, 1) := dk_46 (dk_at dksX3_isWetAt_0 16 rfl rfl)
theorem dX3_isWetAt_17 : decode cX3_isWetAt 17 = .ok (.aload_n 0, 1) := dk_42 (dk_at dksX3_isWetAt_0 17 rfl rfl)
theorem dX3_isWetAt_18 : decode cX3_isWetAt 18 = .ok (.getfield 9, 3) := dk_180 0 9 (dk_at dksX3_isWetAt_0 18 rfl rfl)
theorem dX3_isWetAt_21 : decode cX3_isWetAt 21 = .ok (.iconst 0, 1) := dk_3 (dk_at dksX3_isWetAt_0 21 rfl rfl)
theorem dX3_isWetAt_22 : decode cX3_isWetAt 22 = .ok (.iaload, 1) := dk_46 (dk_at dksX3_isWetAt_0 22 rfl rfl)
theorem dX3_isWetAt_23 : decode cX3_isWetAt 23 = .ok (.iadd, 1) := dk_96 (dk_at dksX3_isWetAt_0 23 rfl rfl)
theorem dX3_isWetAt_24 : decode cX3_isWetAt 24 = .ok (.if_icmp .ge 7, 3) := dk_162 0 7 (dk_at dksX3_isWetAt_1 0 rfl rfl)
theorem dX3_isWetAt_27 : decode cX3_isWetAt 27 = .ok (.iconst 1, 1) := dk_4 (dk_at dksX3_isWetAt_1 3 rfl rfl)
theorem dX3_isWetAt_28 : decode cX3_isWetAt 28 = .ok (.goto 4, 3) := dk_167 0 4 (dk_at dksX3_isWetAt_1 4 rfl rfl)
theorem dX3_isWetAt_31 : decode cX3_isWetAt 31 = .ok (.iconst 0, 1) := dk_3 (dk_at dksX3_isWetAt_1 7 rfl rfl)
theorem dX3_isWetAt_32 : decode cX3_isWetAt 32 = .ok (.ireturn, 1) := dk_172 (dk_at dksX3_isWetAt_1 8 rfl rfl)
abbrev cX3_topOf : ByteArray := prog_17_method_57_code
def yX3_topOf : MethodName := ⟨RX3, "topOf", "(I)I"⟩
def dkwX3_topOf_1 : List UInt8 := [27, 46, 96, 4, 100, 46, 172]
abbrev dktX3_topOf_1 : List UInt8 := dkwX3_topOf_1 ++ []
def dkwX3_topOf_0 : List UInt8 := [42, 180, 0, 31, 27, 46, 154, 0, 7, 2, 167, 0, 20, 42, 180, 0, 34, 8, 27, 104, 42, 180, 0, 31]
abbrev dktX3_topOf_0 : List UInt8 := dkwX3_topOf_0 ++ dktX3_topOf_1
theorem dksX3_topOf_0 : cX3_topOf.data.toList.drop 0 = dktX3_topOf_0 := by decide +kernel
theorem dksX3_topOf_1 : cX3_topOf.data.toList.drop 24 = dktX3_topOf_1 := dk_seg dksX3_topOf_0 24 rfl rfl
theorem dX3_topOf_0 : decode cX3_topOf 0 = .ok (.aload_n 0, 1) := dk_42 (dk_at dksX3_topOf_0 0 rfl rfl)
theorem dX3_topOf_1 : decode cX3_topOf 1 = .ok (.getfield 31, 3) := dk_180 0 31 (dk_at dksX3_topOf_0 1 rfl rfl)
theorem dX3_topOf_4 : decode cX3_topOf 4 = .ok (.iload_n 1, 1) := dk_27 (dk_at dksX3_topOf_0 4 rfl rfl)
theorem dX3_topOf_5 : decode cX3_topOf 5 = .ok (.iaload, 1) := dk_46 (dk_at dksX3_topOf_0 5 rfl rfl)
theorem dX3_topOf_6 : decode cX3_topOf 6 = .ok (.ifCond .ne 7, 3) := dk_154 0 7 (dk_at dksX3_topOf_0 6 rfl rfl)
theorem dX3_topOf_9 : decode cX3_topOf 9 = .ok (.iconst (-1), 1) := dk_2 (dk_at dksX3_topOf_0 9 rfl rfl)
theorem dX3_topOf_10 : decode cX3_topOf 10 = .ok (.goto 20, 3) := dk_167 0 20 (dk_at dksX3_topOf_0 10 rfl rfl)
theorem dX3_topOf_13 : decode cX3_topOf 13 = .ok (.aload_n 0, 1) := dk_42 (dk_at dksX3_topOf_0 13 rfl rfl)
theorem dX3_topOf_14 : decode cX3_topOf 14 = .ok (.getfield 34, 3) := dk_180 0 34 (dk_at dksX3_topOf_0 14 rfl rfl)
theorem dX3_topOf_17 : decode cX3_topOf 17 = .ok (.iconst 5, 1) := dk_8 (dk_at dksX3_topOf_0 17 rfl rfl)
theorem dX3_topOf_18 : decode cX3_topOf 18 = .ok (.iload_n 1, 1) := dk_27 (dk_at dksX3_topOf_0 18 rfl rfl)
theorem dX3_topOf_19 : decode cX3_topOf 19 = .ok (.imul, 1) := dk_104 (dk_at dksX3_topOf_0 19 rfl rfl)
theorem dX3_topOf_20 : decode cX3_topOf 20 = .ok (.aload_n 0, 1) := dk_42 (dk_at dksX3_topOf_0 20 rfl rfl)
theorem dX3_topOf_21 : decode cX3_topOf 21 = .ok (.getfield 31, 3) := dk_180 0 31 (dk_at dksX3_topOf_0 21 rfl rfl)
theorem dX3_topOf_24 : decode cX3_topOf 24 = .ok (.iload_n 1, 1) := dk_27 (dk_at dksX3_topOf_1 0 rfl rfl)
theorem dX3_topOf_25 : decode cX3_topOf 25 = .ok (.iaload, 1) := dk_46 (dk_at dksX3_topOf_1 1 rfl rfl)
theorem dX3_topOf_26 : decode cX3_topOf 26 = .ok (.iadd, 1) := dk_96 (dk_at dksX3_topOf_1 2 rfl rfl)
theorem dX3_topOf_27 : decode cX3_topOf 27 = .ok (.iconst 1, 1) := dk_4 (dk_at dksX3_topOf_1 3 rfl rfl)
theorem dX3_topOf_28 : decode cX3_topOf 28 = .ok (.isub, 1) := dk_100 (dk_at dksX3_topOf_1 4 rfl rfl)
theorem dX3_topOf_29 : decode cX3_topOf 29 = .ok (.iaload, 1) := dk_46 (dk_at dksX3_topOf_1 5 rfl rfl)
theorem dX3_topOf_30 : decode cX3_topOf 30 = .ok (.ireturn, 1) := dk_172 (dk_at dksX3_topOf_1 6 rfl rfl)
abbrev cX3_isTopWet : ByteArray := prog_17_method_56_code
def yX3_isTopWet : MethodName := ⟨RX3, "isTopWet", "(I)Z"⟩
def dkwX3_isTopWet_1 : List UInt8 := [180, 0, 9, 16, 9, 46, 182, 1, 129, 153, 0, 7, 4, 167, 0, 4, 3, 172]
abbrev dktX3_isTopWet_1 : List UInt8 := dkwX3_isTopWet_1 ++ []
def dkwX3_isTopWet_0 : List UInt8 := [42, 180, 0, 31, 27, 46, 158, 0, 33, 42, 8, 27, 104, 42, 180, 0, 31, 27, 46, 96, 4, 100, 42]
abbrev dktX3_isTopWet_0 : List UInt8 := dkwX3_isTopWet_0 ++ dktX3_isTopWet_1
theorem dksX3_isTopWet_0 : cX3_isTopWet.data.toList.drop 0 = dktX3_isTopWet_0 := by decide +kernel
theorem dksX3_isTopWet_1 : cX3_isTopWet.data.toList.drop 23 = dktX3_isTopWet_1 := dk_seg dksX3_isTopWet_0 23 rfl rfl
theorem dX3_isTopWet_0 : decode cX3_isTopWet 0 = .ok (.aload_n 0, 1) := dk_42 (dk_at dksX3_isTopWet_0 0 rfl rfl)
theorem dX3_isTopWet_1 : decode cX3_isTopWet 1 = .ok (.getfield 31, 3) := dk_180 0 31 (dk_at dksX3_isTopWet_0 1 rfl rfl)
theorem dX3_isTopWet_4 : decode cX3_isTopWet 4 = .ok (.iload_n 1, 1) := dk_27 (dk_at dksX3_isTopWet_0 4 rfl rfl)
theorem dX3_isTopWet_5 : decode cX3_isTopWet 5 = .ok (.iaload, 1) := dk_46 (dk_at dksX3_isTopWet_0 5 rfl rfl)
theorem dX3_isTopWet_6 : decode cX3_isTopWet 6 = .ok (.ifCond .le 33, 3) := dk_158 0 33 (dk_at dksX3_isTopWet_0 6 rfl rfl)
theorem dX3_isTopWet_9 : decode cX3_isTopWet 9 = .ok (.aload_n 0, 1) := dk_42 (dk_at dksX3_isTopWet_0 9 rfl rfl)
theorem dX3_isTopWet_10 : decode cX3_isTopWet 10 = .ok (.iconst 5, 1) := dk_8 (dk_at dksX3_isTopWet_0 10 rfl rfl)
theorem dX3_isTopWet_11 : decode cX3_isTopWet 11 = .ok (.iload_n 1, 1) := dk_27 (dk_at dksX3_isTopWet_0 11 rfl rfl)
theorem dX3_isTopWet_12 : decode cX3_isTopWet 12 = .ok (.imul, 1) := dk_104 (dk_at dksX3_isTopWet_0 12 rfl rfl)
theorem dX3_isTopWet_13 : decode cX3_isTopWet 13 = .ok (.aload_n 0, 1) := dk_42 (dk_at dksX3_isTopWet_0 13 rfl rfl)
theorem dX3_isTopWet_14 : decode cX3_isTopWet 14 = .ok (.getfield 31, 3) := dk_180 0 31 (dk_at dksX3_isTopWet_0 14 rfl rfl)
theorem dX3_isTopWet_17 : decode cX3_isTopWet 17 = .ok (.iload_n 1, 1) := dk_27 (dk_at dksX3_isTopWet_0 17 rfl rfl)
theorem dX3_isTopWet_18 : decode cX3_isTopWet 18 = .ok (.iaload, 1) := dk_46 (dk_at dksX3_isTopWet_0 18 rfl rfl)
theorem dX3_isTopWet_19 : decode cX3_isTopWet 19 = .ok (.iadd, 1) := dk_96 (dk_at dksX3_isTopWet_0 19 rfl rfl)
theorem dX3_isTopWet_20 : decode cX3_isTopWet 20 = .ok (.iconst 1, 1) := dk_4 (dk_at dksX3_isTopWet_0 20 rfl rfl)
theorem dX3_isTopWet_21 : decode cX3_isTopWet 21 = .ok (.isub, 1) := dk_100 (dk_at dksX3_isTopWet_0 21 rfl rfl)
theorem dX3_isTopWet_22 : decode cX3_isTopWet 22 = .ok (.aload_n 0, 1) := dk_42 (dk_at dksX3_isTopWet_0 22 rfl rfl)
theorem dX3_isTopWet_23 : decode cX3_isTopWet 23 = .ok (.getfield 9, 3) := dk_180 0 9 (dk_at dksX3_isTopWet_1 0 rfl rfl)
theorem dX3_isTopWet_26 : decode cX3_isTopWet 26 = .ok (.bipush 9, 2) := dk_16 9 (dk_at dksX3_isTopWet_1 3 rfl rfl)
theorem dX3_isTopWet_28 : decode cX3_isTopWet 28 = .ok (.iaload, 1) := dk_46 (dk_at dksX3_isTopWet_1 5 rfl rfl)
theorem dX3_isTopWet_29 : decode cX3_isTopWet 29 = .ok (.invokevirtual 385, 3) := dk_182 1 129 (dk_at dksX3_isTopWet_1 6 rfl rfl)
theorem dX3_isTopWet_32 : decode cX3_isTopWet 32 = .ok (.ifCond .eq 7, 3) := dk_153 0 7 (dk_at dksX3_isTopWet_1 9 rfl rfl)
theorem dX3_isTopWet_35 : decode cX3_isTopWet 35 = .ok (.iconst 1, 1) := dk_4 (dk_at dksX3_isTopWet_1 12 rfl rfl)
theorem dX3_isTopWet_36 : decode cX3_isTopWet 36 = .ok (.goto 4, 3) := dk_167 0 4 (dk_at dksX3_isTopWet_1 13 rfl rfl)
theorem dX3_isTopWet_39 : decode cX3_isTopWet 39 = .ok (.iconst 0, 1) := dk_3 (dk_at dksX3_isTopWet_1 16 rfl rfl)
theorem dX3_isTopWet_40 : decode cX3_isTopWet 40 = .ok (.ireturn, 1) := dk_172 (dk_at dksX3_isTopWet_1 17 rfl rfl)
abbrev cX3_coat : ByteArray := prog_17_method_66_code
def yX3_coat : MethodName := ⟨RX3, "coat", "(III)I"⟩
def dkwX3_coat_4 : List UInt8 := [180, 0, 37, 21, 4, 46, 172, 16, 254, 172]
abbrev dktX3_coat_4 : List UInt8 := dkwX3_coat_4 ++ []
def dkwX3_coat_3 : List UInt8 := [42, 180, 0, 34, 21, 4, 46, 172, 42, 180, 0, 19, 42, 180, 0, 34, 21, 4, 46, 46, 172, 42]
abbrev dktX3_coat_3 : List UInt8 := dkwX3_coat_3 ++ dktX3_coat_4
def dkwX3_coat_2 : List UInt8 := [170, 0, 0, 0, 0, 55, 0, 0, 0, 0, 0, 0, 0, 2, 0, 0, 0, 26, 0, 0, 0, 34, 0, 0, 0, 47]
abbrev dktX3_coat_2 : List UInt8 := dkwX3_coat_2 ++ dktX3_coat_3
def dkwX3_coat_1 : List UInt8 := [172, 8, 27, 104, 42, 180, 0, 31, 27, 46, 96, 4, 100, 28, 100, 54, 4, 29]
abbrev dktX3_coat_1 : List UInt8 := dkwX3_coat_1 ++ dktX3_coat_2
def dkwX3_coat_0 : List UInt8 := [42, 27, 182, 1, 149, 153, 0, 17, 28, 155, 0, 13, 28, 42, 180, 0, 31, 27, 46, 161, 0, 6, 16, 254]
abbrev dktX3_coat_0 : List UInt8 := dkwX3_coat_0 ++ dktX3_coat_1
theorem dksX3_coat_0 : cX3_coat.data.toList.drop 0 = dktX3_coat_0 := by decide +kernel
theorem dksX3_coat_1 : cX3_coat.data.toList.drop 24 = dktX3_coat_1 := dk_seg dksX3_coat_0 24 rfl rfl
theorem dksX3_coat_2 : cX3_coat.data.toList.drop 42 = dktX3_coat_2 := dk_seg dksX3_coat_1 18 rfl rfl
theorem dksX3_coat_3 : cX3_coat.data.toList.drop 68 = dktX3_coat_3 := dk_seg dksX3_coat_2 26 rfl rfl
theorem dksX3_coat_4 : cX3_coat.data.toList.drop 90 = dktX3_coat_4 := dk_seg dksX3_coat_3 22 rfl rfl
theorem dX3_coat_0 : decode cX3_coat 0 = .ok (.aload_n 0, 1) := dk_42 (dk_at dksX3_coat_0 0 rfl rfl)
theorem dX3_coat_1 : decode cX3_coat 1 = .ok (.iload_n 1, 1) := dk_27 (dk_at dksX3_coat_0 1 rfl rfl)
theorem dX3_coat_2 : decode cX3_coat 2 = .ok (.invokevirtual 405, 3) := dk_182 1 149 (dk_at dksX3_coat_0 2 rfl rfl)
theorem dX3_coat_5 : decode cX3_coat 5 = .ok (.ifCond .eq 17, 3) := dk_153 0 17 (dk_at dksX3_coat_0 5 rfl rfl)
theorem dX3_coat_8 : decode cX3_coat 8 = .ok (.iload_n 2, 1) := dk_28 (dk_at dksX3_coat_0 8 rfl rfl)
theorem dX3_coat_9 : decode cX3_coat 9 = .ok (.ifCond .lt 13, 3) := dk_155 0 13 (dk_at dksX3_coat_0 9 rfl rfl)
theorem dX3_coat_12 : decode cX3_coat 12 = .ok (.iload_n 2, 1) := dk_28 (dk_at dksX3_coat_0 12 rfl rfl)
theorem dX3_coat_13 : decode cX3_coat 13 = .ok (.aload_n 0, 1) := dk_42 (dk_at dksX3_coat_0 13 rfl rfl)
theorem dX3_coat_14 : decode cX3_coat 14 = .ok (.getfield 31, 3) := dk_180 0 31 (dk_at dksX3_coat_0 14 rfl rfl)
theorem dX3_coat_17 : decode cX3_coat 17 = .ok (.iload_n 1, 1) := dk_27 (dk_at dksX3_coat_0 17 rfl rfl)
theorem dX3_coat_18 : decode cX3_coat 18 = .ok (.iaload, 1) := dk_46 (dk_at dksX3_coat_0 18 rfl rfl)
theorem dX3_coat_19 : decode cX3_coat 19 = .ok (.if_icmp .lt 6, 3) := dk_161 0 6 (dk_at dksX3_coat_0 19 rfl rfl)
theorem dX3_coat_22 : decode cX3_coat 22 = .ok (.bipush (-2), 2) := dk_16 254 (dk_at dksX3_coat_0 22 rfl rfl)
theorem dX3_coat_24 : decode cX3_coat 24 = .ok (.ireturn, 1) := dk_172 (dk_at dksX3_coat_1 0 rfl rfl)
theorem dX3_coat_25 : decode cX3_coat 25 = .ok (.iconst 5, 1) := dk_8 (dk_at dksX3_coat_1 1 rfl rfl)
theorem dX3_coat_26 : decode cX3_coat 26 = .ok (.iload_n 1, 1) := dk_27 (dk_at dksX3_coat_1 2 rfl rfl)
theorem dX3_coat_27 : decode cX3_coat 27 = .ok (.imul, 1) := dk_104 (dk_at dksX3_coat_1 3 rfl rfl)
theorem dX3_coat_28 : decode cX3_coat 28 = .ok (.aload_n 0, 1) := dk_42 (dk_at dksX3_coat_1 4 rfl rfl)
theorem dX3_coat_29 : decode cX3_coat 29 = .ok (.getfield 31, 3) := dk_180 0 31 (dk_at dksX3_coat_1 5 rfl rfl)
theorem dX3_coat_32 : decode cX3_coat 32 = .ok (.iload_n 1, 1) := dk_27 (dk_at dksX3_coat_1 8 rfl rfl)
theorem dX3_coat_33 : decode cX3_coat 33 = .ok (.iaload, 1) := dk_46 (dk_at dksX3_coat_1 9 rfl rfl)
theorem dX3_coat_34 : decode cX3_coat 34 = .ok (.iadd, 1) := dk_96 (dk_at dksX3_coat_1 10 rfl rfl)
theorem dX3_coat_35 : decode cX3_coat 35 = .ok (.iconst 1, 1) := dk_4 (dk_at dksX3_coat_1 11 rfl rfl)
theorem dX3_coat_36 : decode cX3_coat 36 = .ok (.isub, 1) := dk_100 (dk_at dksX3_coat_1 12 rfl rfl)
theorem dX3_coat_37 : decode cX3_coat 37 = .ok (.iload_n 2, 1) := dk_28 (dk_at dksX3_coat_1 13 rfl rfl)
theorem dX3_coat_38 : decode cX3_coat 38 = .ok (.isub, 1) := dk_100 (dk_at dksX3_coat_1 14 rfl rfl)
theorem dX3_coat_39 : decode cX3_coat 39 = .ok (.istore 4, 2) := dk_54 4 (dk_at dksX3_coat_1 15 rfl rfl)
theorem dX3_coat_41 : decode cX3_coat 41 = .ok (.iload_n 3, 1) := dk_29 (dk_at dksX3_coat_1 17 rfl rfl)
theorem dX3_coat_42 : decode cX3_coat 42 = .ok (.tableswitch 55 0 2 #[26, 34, 47], 26) := by decide +kernel
theorem dX3_coat_68 : decode cX3_coat 68 = .ok (.aload_n 0, 1) := dk_42 (dk_at dksX3_coat_3 0 rfl rfl)
theorem dX3_coat_69 : decode cX3_coat 69 = .ok (.getfield 34, 3) := dk_180 0 34 (dk_at dksX3_coat_3 1 rfl rfl)
theorem dX3_coat_72 : decode cX3_coat 72 = .ok (.iload 4, 2) := dk_21 4 (dk_at dksX3_coat_3 4 rfl rfl)
theorem dX3_coat_74 : decode cX3_coat 74 = .ok (.iaload, 1) := dk_46 (dk_at dksX3_coat_3 6 rfl rfl)
theorem dX3_coat_75 : decode cX3_coat 75 = .ok (.ireturn, 1) := dk_172 (dk_at dksX3_coat_3 7 rfl rfl)
theorem dX3_coat_76 : decode cX3_coat 76 = .ok (.aload_n 0, 1) := dk_42 (dk_at dksX3_coat_3 8 rfl rfl)
theorem dX3_coat_77 : decode cX3_coat 77 = .ok (.getfield 19, 3) := dk_180 0 19 (dk_at dksX3_coat_3 9 rfl rfl)
theorem dX3_coat_80 : decode cX3_coat 80 = .ok (.aload_n 0, 1) := dk_42 (dk_at dksX3_coat_3 12 rfl rfl)
theorem dX3_coat_81 : decode cX3_coat 81 = .ok (.getfield 34, 3) := dk_180 0 34 (dk_at dksX3_coat_3 13 rfl rfl)
theorem dX3_coat_84 : decode cX3_coat 84 = .ok (.iload 4, 2) := dk_21 4 (dk_at dksX3_coat_3 16 rfl rfl)
theorem dX3_coat_86 : decode cX3_coat 86 = .ok (.iaload, 1) := dk_46 (dk_at dksX3_coat_3 18 rfl rfl)
theorem dX3_coat_87 : decode cX3_coat 87 = .ok (.iaload, 1) := dk_46 (dk_at dksX3_coat_3 19 rfl rfl)
theorem dX3_coat_88 : decode cX3_coat 88 = .ok (.ireturn, 1) := dk_172 (dk_at dksX3_coat_3 20 rfl rfl)
theorem dX3_coat_89 : decode cX3_coat 89 = .ok (.aload_n 0, 1) := dk_42 (dk_at dksX3_coat_3 21 rfl rfl)
theorem dX3_coat_90 : decode cX3_coat 90 = .ok (.getfield 37, 3) := dk_180 0 37 (dk_at dksX3_coat_4 0 rfl rfl)
theorem dX3_coat_93 : decode cX3_coat 93 = .ok (.iload 4, 2) := dk_21 4 (dk_at dksX3_coat_4 3 rfl rfl)
theorem dX3_coat_95 : decode cX3_coat 95 = .ok (.iaload, 1) := dk_46 (dk_at dksX3_coat_4 5 rfl rfl)
theorem dX3_coat_96 : decode cX3_coat 96 = .ok (.ireturn, 1) := dk_172 (dk_at dksX3_coat_4 6 rfl rfl)
theorem dX3_coat_97 : decode cX3_coat 97 = .ok (.bipush (-2), 2) := dk_16 254 (dk_at dksX3_coat_4 7 rfl rfl)
theorem dX3_coat_99 : decode cX3_coat 99 = .ok (.ireturn, 1) := dk_172 (dk_at dksX3_coat_4 9 rfl rfl)
abbrev cX3_thing : ByteArray := prog_17_method_67_code
def yX3_thing : MethodName := ⟨RX3, "thing", "(II)I"⟩
def dkwX3_thing_3 : List UInt8 := [182, 1, 164, 172, 42, 27, 182, 1, 80, 153, 0, 7, 4, 167, 0, 4, 3, 172, 16, 254, 172]
abbrev dktX3_thing_3 : List UInt8 := dkwX3_thing_3 ++ []
def dkwX3_thing_2 : List UInt8 := [42, 180, 0, 13, 27, 46, 172, 42, 27, 182, 1, 140, 172, 42, 180, 0, 16, 27, 46, 172, 42, 27]
abbrev dktX3_thing_2 : List UInt8 := dkwX3_thing_2 ++ dktX3_thing_3
def dkwX3_thing_1 : List UInt8 := [170, 0, 0, 0, 0, 0, 0, 76, 0, 0, 0, 0, 0, 0, 0, 4, 0, 0, 0, 36, 0, 0, 0, 43, 0, 0, 0, 49, 0, 0, 0, 56, 0, 0, 0, 62]
abbrev dktX3_thing_1 : List UInt8 := dkwX3_thing_1 ++ dktX3_thing_2
def dkwX3_thing_0 : List UInt8 := [42, 27, 182, 1, 161, 154, 0, 6, 16, 254, 172, 28]
abbrev dktX3_thing_0 : List UInt8 := dkwX3_thing_0 ++ dktX3_thing_1
theorem dksX3_thing_0 : cX3_thing.data.toList.drop 0 = dktX3_thing_0 := by decide +kernel
theorem dksX3_thing_1 : cX3_thing.data.toList.drop 12 = dktX3_thing_1 := dk_seg dksX3_thing_0 12 rfl rfl
theorem dksX3_thing_2 : cX3_thing.data.toList.drop 48 = dktX3_thing_2 := dk_seg dksX3_thing_1 36 rfl rfl
theorem dksX3_thing_3 : cX3_thing.data.toList.drop 70 = dktX3_thing_3 := dk_seg dksX3_thing_2 22 rfl rfl
theorem dX3_thing_0 : decode cX3_thing 0 = .ok (.aload_n 0, 1) := dk_42 (dk_at dksX3_thing_0 0 rfl rfl)
theorem dX3_thing_1 : decode cX3_thing 1 = .ok (.iload_n 1, 1) := dk_27 (dk_at dksX3_thing_0 1 rfl rfl)
theorem dX3_thing_2 : decode cX3_thing 2 = .ok (.invokevirtual 417, 3) := dk_182 1 161 (dk_at dksX3_thing_0 2 rfl rfl)
theorem dX3_thing_5 : decode cX3_thing 5 = .ok (.ifCond .ne 6, 3) := dk_154 0 6 (dk_at dksX3_thing_0 5 rfl rfl)
theorem dX3_thing_8 : decode cX3_thing 8 = .ok (.bipush (-2), 2) := dk_16 254 (dk_at dksX3_thing_0 8 rfl rfl)
theorem dX3_thing_10 : decode cX3_thing 10 = .ok (.ireturn, 1) := dk_172 (dk_at dksX3_thing_0 10 rfl rfl)
theorem dX3_thing_11 : decode cX3_thing 11 = .ok (.iload_n 2, 1) := dk_28 (dk_at dksX3_thing_0 11 rfl rfl)
theorem dX3_thing_12 : decode cX3_thing 12 = .ok (.tableswitch 76 0 4 #[36, 43, 49, 56, 62], 36) := by decide +kernel
theorem dX3_thing_48 : decode cX3_thing 48 = .ok (.aload_n 0, 1) := dk_42 (dk_at dksX3_thing_2 0 rfl rfl)
theorem dX3_thing_49 : decode cX3_thing 49 = .ok (.getfield 13, 3) := dk_180 0 13 (dk_at dksX3_thing_2 1 rfl rfl)
theorem dX3_thing_52 : decode cX3_thing 52 = .ok (.iload_n 1, 1) := dk_27 (dk_at dksX3_thing_2 4 rfl rfl)
theorem dX3_thing_53 : decode cX3_thing 53 = .ok (.iaload, 1) := dk_46 (dk_at dksX3_thing_2 5 rfl rfl)
theorem dX3_thing_54 : decode cX3_thing 54 = .ok (.ireturn, 1) := dk_172 (dk_at dksX3_thing_2 6 rfl rfl)
theorem dX3_thing_55 : decode cX3_thing 55 = .ok (.aload_n 0, 1) := dk_42 (dk_at dksX3_thing_2 7 rfl rfl)
theorem dX3_thing_56 : decode cX3_thing 56 = .ok (.iload_n 1, 1) := dk_27 (dk_at dksX3_thing_2 8 rfl rfl)
theorem dX3_thing_57 : decode cX3_thing 57 = .ok (.invokevirtual 396, 3) := dk_182 1 140 (dk_at dksX3_thing_2 9 rfl rfl)
theorem dX3_thing_60 : decode cX3_thing 60 = .ok (.ireturn, 1) := dk_172 (dk_at dksX3_thing_2 12 rfl rfl)
theorem dX3_thing_61 : decode cX3_thing 61 = .ok (.aload_n 0, 1) := dk_42 (dk_at dksX3_thing_2 13 rfl rfl)
theorem dX3_thing_62 : decode cX3_thing 62 = .ok (.getfield 16, 3) := dk_180 0 16 (dk_at dksX3_thing_2 14 rfl rfl)
theorem dX3_thing_65 : decode cX3_thing 65 = .ok (.iload_n 1, 1) := dk_27 (dk_at dksX3_thing_2 17 rfl rfl)
theorem dX3_thing_66 : decode cX3_thing 66 = .ok (.iaload, 1) := dk_46 (dk_at dksX3_thing_2 18 rfl rfl)
theorem dX3_thing_67 : decode cX3_thing 67 = .ok (.ireturn, 1) := dk_172 (dk_at dksX3_thing_2 19 rfl rfl)
theorem dX3_thing_68 : decode cX3_thing 68 = .ok (.aload_n 0, 1) := dk_42 (dk_at dksX3_thing_2 20 rfl rfl)
theorem dX3_thing_69 : decode cX3_thing 69 = .ok (.iload_n 1, 1) := dk_27 (dk_at dksX3_thing_2 21 rfl rfl)
theorem dX3_thing_70 : decode cX3_thing 70 = .ok (.invokevirtual 420, 3) := dk_182 1 164 (dk_at dksX3_thing_3 0 rfl rfl)
theorem dX3_thing_73 : decode cX3_thing 73 = .ok (.ireturn, 1) := dk_172 (dk_at dksX3_thing_3 3 rfl rfl)
theorem dX3_thing_74 : decode cX3_thing 74 = .ok (.aload_n 0, 1) := dk_42 (dk_at dksX3_thing_3 4 rfl rfl)
theorem dX3_thing_75 : decode cX3_thing 75 = .ok (.iload_n 1, 1) := dk_27 (dk_at dksX3_thing_3 5 rfl rfl)
theorem dX3_thing_76 : decode cX3_thing 76 = .ok (.invokevirtual 336, 3) := dk_182 1 80 (dk_at dksX3_thing_3 6 rfl rfl)
theorem dX3_thing_79 : decode cX3_thing 79 = .ok (.ifCond .eq 7, 3) := dk_153 0 7 (dk_at dksX3_thing_3 9 rfl rfl)
theorem dX3_thing_82 : decode cX3_thing 82 = .ok (.iconst 1, 1) := dk_4 (dk_at dksX3_thing_3 12 rfl rfl)
theorem dX3_thing_83 : decode cX3_thing 83 = .ok (.goto 4, 3) := dk_167 0 4 (dk_at dksX3_thing_3 13 rfl rfl)
theorem dX3_thing_86 : decode cX3_thing 86 = .ok (.iconst 0, 1) := dk_3 (dk_at dksX3_thing_3 16 rfl rfl)
theorem dX3_thing_87 : decode cX3_thing 87 = .ok (.ireturn, 1) := dk_172 (dk_at dksX3_thing_3 17 rfl rfl)
theorem dX3_thing_88 : decode cX3_thing 88 = .ok (.bipush (-2), 2) := dk_16 254 (dk_at dksX3_thing_3 18 rfl rfl)
theorem dX3_thing_90 : decode cX3_thing 90 = .ok (.ireturn, 1) := dk_172 (dk_at dksX3_thing_3 20 rfl rfl)
abbrev cX3_isThing : ByteArray := prog_17_method_7_code
def yX3_isThing : MethodName := ⟨RX3, "isThing", "(I)Z"⟩
def dkwX3_isThing_0 : List UInt8 := [27, 133, 9, 42, 180, 0, 9, 6, 46, 4, 100, 133, 184, 0, 164, 172]
abbrev dktX3_isThing_0 : List UInt8 := dkwX3_isThing_0 ++ []
theorem dksX3_isThing_0 : cX3_isThing.data.toList.drop 0 = dktX3_isThing_0 := by decide +kernel
theorem dX3_isThing_0 : decode cX3_isThing 0 = .ok (.iload_n 1, 1) := dk_27 (dk_at dksX3_isThing_0 0 rfl rfl)
theorem dX3_isThing_1 : decode cX3_isThing 1 = .ok (.i2l, 1) := dk_133 (dk_at dksX3_isThing_0 1 rfl rfl)
theorem dX3_isThing_2 : decode cX3_isThing 2 = .ok (.lconst 0, 1) := dk_9 (dk_at dksX3_isThing_0 2 rfl rfl)
theorem dX3_isThing_3 : decode cX3_isThing 3 = .ok (.aload_n 0, 1) := dk_42 (dk_at dksX3_isThing_0 3 rfl rfl)
theorem dX3_isThing_4 : decode cX3_isThing 4 = .ok (.getfield 9, 3) := dk_180 0 9 (dk_at dksX3_isThing_0 4 rfl rfl)
theorem dX3_isThing_7 : decode cX3_isThing 7 = .ok (.iconst 3, 1) := dk_6 (dk_at dksX3_isThing_0 7 rfl rfl)
theorem dX3_isThing_8 : decode cX3_isThing 8 = .ok (.iaload, 1) := dk_46 (dk_at dksX3_isThing_0 8 rfl rfl)
theorem dX3_isThing_9 : decode cX3_isThing 9 = .ok (.iconst 1, 1) := dk_4 (dk_at dksX3_isThing_0 9 rfl rfl)
theorem dX3_isThing_10 : decode cX3_isThing 10 = .ok (.isub, 1) := dk_100 (dk_at dksX3_isThing_0 10 rfl rfl)
theorem dX3_isThing_11 : decode cX3_isThing 11 = .ok (.i2l, 1) := dk_133 (dk_at dksX3_isThing_0 11 rfl rfl)
theorem dX3_isThing_12 : decode cX3_isThing 12 = .ok (.invokestatic 164, 3) := dk_184 0 164 (dk_at dksX3_isThing_0 12 rfl rfl)
theorem dX3_isThing_15 : decode cX3_isThing 15 = .ok (.ireturn, 1) := dk_172 (dk_at dksX3_isThing_0 15 rfl rfl)
abbrev cX3_cellsIn : ByteArray := prog_17_method_62_code
def yX3_cellsIn : MethodName := ⟨RX3, "cellsIn", "(I)I"⟩
def dkwX3_cellsIn_0 : List UInt8 := [42, 180, 0, 13, 27, 4, 96, 46, 42, 180, 0, 13, 27, 46, 100, 172]
abbrev dktX3_cellsIn_0 : List UInt8 := dkwX3_cellsIn_0 ++ []
theorem dksX3_cellsIn_0 : cX3_cellsIn.data.toList.drop 0 = dktX3_cellsIn_0 := by decide +kernel
theorem dX3_cellsIn_0 : decode cX3_cellsIn 0 = .ok (.aload_n 0, 1) := dk_42 (dk_at dksX3_cellsIn_0 0 rfl rfl)
theorem dX3_cellsIn_1 : decode cX3_cellsIn 1 = .ok (.getfield 13, 3) := dk_180 0 13 (dk_at dksX3_cellsIn_0 1 rfl rfl)
theorem dX3_cellsIn_4 : decode cX3_cellsIn 4 = .ok (.iload_n 1, 1) := dk_27 (dk_at dksX3_cellsIn_0 4 rfl rfl)
theorem dX3_cellsIn_5 : decode cX3_cellsIn 5 = .ok (.iconst 1, 1) := dk_4 (dk_at dksX3_cellsIn_0 5 rfl rfl)
theorem dX3_cellsIn_6 : decode cX3_cellsIn 6 = .ok (.iadd, 1) := dk_96 (dk_at dksX3_cellsIn_0 6 rfl rfl)
theorem dX3_cellsIn_7 : decode cX3_cellsIn 7 = .ok (.iaload, 1) := dk_46 (dk_at dksX3_cellsIn_0 7 rfl rfl)
theorem dX3_cellsIn_8 : decode cX3_cellsIn 8 = .ok (.aload_n 0, 1) := dk_42 (dk_at dksX3_cellsIn_0 8 rfl rfl)
theorem dX3_cellsIn_9 : decode cX3_cellsIn 9 = .ok (.getfield 13, 3) := dk_180 0 13 (dk_at dksX3_cellsIn_0 9 rfl rfl)
theorem dX3_cellsIn_12 : decode cX3_cellsIn 12 = .ok (.iload_n 1, 1) := dk_27 (dk_at dksX3_cellsIn_0 12 rfl rfl)
theorem dX3_cellsIn_13 : decode cX3_cellsIn 13 = .ok (.iaload, 1) := dk_46 (dk_at dksX3_cellsIn_0 13 rfl rfl)
theorem dX3_cellsIn_14 : decode cX3_cellsIn 14 = .ok (.isub, 1) := dk_100 (dk_at dksX3_cellsIn_0 14 rfl rfl)
theorem dX3_cellsIn_15 : decode cX3_cellsIn 15 = .ok (.ireturn, 1) := dk_172 (dk_at dksX3_cellsIn_0 15 rfl rfl)
abbrev cX3_thingOwner : ByteArray := prog_17_method_63_code
def yX3_thingOwner : MethodName := ⟨RX3, "thingOwner", "(I)I"⟩
def dkwX3_thingOwner_1 : List UInt8 := [42, 27, 182, 1, 140, 42, 180, 0, 9, 4, 46, 182, 1, 143, 172]
abbrev dktX3_thingOwner_1 : List UInt8 := dkwX3_thingOwner_1 ++ []
def dkwX3_thingOwner_0 : List UInt8 := [42, 27, 182, 1, 80, 153, 0, 5, 2, 172, 42, 27, 42, 180, 0, 9, 16, 9, 46, 3, 182, 1, 136, 42]
abbrev dktX3_thingOwner_0 : List UInt8 := dkwX3_thingOwner_0 ++ dktX3_thingOwner_1
theorem dksX3_thingOwner_0 : cX3_thingOwner.data.toList.drop 0 = dktX3_thingOwner_0 := by decide +kernel
theorem dksX3_thingOwner_1 : cX3_thingOwner.data.toList.drop 24 = dktX3_thingOwner_1 := dk_seg dksX3_thingOwner_0 24 rfl rfl
theorem dX3_thingOwner_0 : decode cX3_thingOwner 0 = .ok (.aload_n 0, 1) := dk_42 (dk_at dksX3_thingOwner_0 0 rfl rfl)
theorem dX3_thingOwner_1 : decode cX3_thingOwner 1 = .ok (.iload_n 1, 1) := dk_27 (dk_at dksX3_thingOwner_0 1 rfl rfl)
theorem dX3_thingOwner_2 : decode cX3_thingOwner 2 = .ok (.invokevirtual 336, 3) := dk_182 1 80 (dk_at dksX3_thingOwner_0 2 rfl rfl)
theorem dX3_thingOwner_5 : decode cX3_thingOwner 5 = .ok (.ifCond .eq 5, 3) := dk_153 0 5 (dk_at dksX3_thingOwner_0 5 rfl rfl)
theorem dX3_thingOwner_8 : decode cX3_thingOwner 8 = .ok (.iconst (-1), 1) := dk_2 (dk_at dksX3_thingOwner_0 8 rfl rfl)
theorem dX3_thingOwner_9 : decode cX3_thingOwner 9 = .ok (.ireturn, 1) := dk_172 (dk_at dksX3_thingOwner_0 9 rfl rfl)
theorem dX3_thingOwner_10 : decode cX3_thingOwner 10 = .ok (.aload_n 0, 1) := dk_42 (dk_at dksX3_thingOwner_0 10 rfl rfl)
theorem dX3_thingOwner_11 : decode cX3_thingOwner 11 = .ok (.iload_n 1, 1) := dk_27 (dk_at dksX3_thingOwner_0 11 rfl rfl)
theorem dX3_thingOwner_12 : decode cX3_thingOwner 12 = .ok (.aload_n 0, 1) := dk_42 (dk_at dksX3_thingOwner_0 12 rfl rfl)
theorem dX3_thingOwner_13 : decode cX3_thingOwner 13 = .ok (.getfield 9, 3) := dk_180 0 9 (dk_at dksX3_thingOwner_0 13 rfl rfl)
theorem dX3_thingOwner_16 : decode cX3_thingOwner 16 = .ok (.bipush 9, 2) := dk_16 9 (dk_at dksX3_thingOwner_0 16 rfl rfl)
theorem dX3_thingOwner_18 : decode cX3_thingOwner 18 = .ok (.iaload, 1) := dk_46 (dk_at dksX3_thingOwner_0 18 rfl rfl)
theorem dX3_thingOwner_19 : decode cX3_thingOwner 19 = .ok (.iconst 0, 1) := dk_3 (dk_at dksX3_thingOwner_0 19 rfl rfl)
theorem dX3_thingOwner_20 : decode cX3_thingOwner 20 = .ok (.invokevirtual 392, 3) := dk_182 1 136 (dk_at dksX3_thingOwner_0 20 rfl rfl)
theorem dX3_thingOwner_23 : decode cX3_thingOwner 23 = .ok (.aload_n 0, 1) := dk_42 (dk_at dksX3_thingOwner_0 23 rfl rfl)
theorem dX3_thingOwner_24 : decode cX3_thingOwner 24 = .ok (.aload_n 0, 1) := dk_42 (dk_at dksX3_thingOwner_1 0 rfl rfl)
theorem dX3_thingOwner_25 : decode cX3_thingOwner 25 = .ok (.iload_n 1, 1) := dk_27 (dk_at dksX3_thingOwner_1 1 rfl rfl)
theorem dX3_thingOwner_26 : decode cX3_thingOwner 26 = .ok (.invokevirtual 396, 3) := dk_182 1 140 (dk_at dksX3_thingOwner_1 2 rfl rfl)
theorem dX3_thingOwner_29 : decode cX3_thingOwner 29 = .ok (.aload_n 0, 1) := dk_42 (dk_at dksX3_thingOwner_1 5 rfl rfl)
theorem dX3_thingOwner_30 : decode cX3_thingOwner 30 = .ok (.getfield 9, 3) := dk_180 0 9 (dk_at dksX3_thingOwner_1 6 rfl rfl)
theorem dX3_thingOwner_33 : decode cX3_thingOwner 33 = .ok (.iconst 1, 1) := dk_4 (dk_at dksX3_thingOwner_1 9 rfl rfl)
theorem dX3_thingOwner_34 : decode cX3_thingOwner 34 = .ok (.iaload, 1) := dk_46 (dk_at dksX3_thingOwner_1 10 rfl rfl)
theorem dX3_thingOwner_35 : decode cX3_thingOwner 35 = .ok (.invokevirtual 399, 3) := dk_182 1 143 (dk_at dksX3_thingOwner_1 11 rfl rfl)
theorem dX3_thingOwner_38 : decode cX3_thingOwner 38 = .ok (.ireturn, 1) := dk_172 (dk_at dksX3_thingOwner_1 14 rfl rfl)
abbrev cX3_countsCells : ByteArray := prog_17_method_61_code
def yX3_countsCells : MethodName := ⟨RX3, "countsCells", "(IIZ)V"⟩
def dkwX3_countsCells_5 : List UInt8 := [167, 255, 170, 177]
abbrev dktX3_countsCells_5 : List UInt8 := dkwX3_countsCells_5 ++ []
def dkwX3_countsCells_4 : List UInt8 := [54, 6, 21, 6, 2, 159, 0, 14, 42, 180, 0, 124, 21, 6, 92, 46, 4, 96, 79, 132, 4, 1]
abbrev dktX3_countsCells_4 : List UInt8 := dkwX3_countsCells_4 ++ dktX3_countsCells_5
def dkwX3_countsCells_3 : List UInt8 := [96, 4, 100, 46, 28, 161, 0, 9, 132, 5, 255, 167, 255, 226, 42, 21, 4, 21, 5, 28, 182, 1, 132]
abbrev dktX3_countsCells_3 : List UInt8 := dkwX3_countsCells_3 ++ dktX3_countsCells_4
def dkwX3_countsCells_2 : List UInt8 := [21, 4, 46, 54, 5, 29, 153, 0, 32, 21, 5, 158, 0, 27, 42, 180, 0, 37, 8, 21, 4, 104, 21, 5]
abbrev dktX3_countsCells_2 : List UInt8 := dkwX3_countsCells_2 ++ dktX3_countsCells_3
def dkwX3_countsCells_1 : List UInt8 := [180, 0, 13, 27, 46, 54, 4, 21, 4, 42, 180, 0, 13, 27, 4, 96, 46, 162, 0, 79, 42, 180, 0, 31]
abbrev dktX3_countsCells_1 : List UInt8 := dkwX3_countsCells_1 ++ dktX3_countsCells_2
def dkwX3_countsCells_0 : List UInt8 := [3, 54, 4, 21, 4, 7, 162, 0, 17, 42, 180, 0, 124, 21, 4, 3, 79, 132, 4, 1, 167, 255, 239, 42]
abbrev dktX3_countsCells_0 : List UInt8 := dkwX3_countsCells_0 ++ dktX3_countsCells_1
theorem dksX3_countsCells_0 : cX3_countsCells.data.toList.drop 0 = dktX3_countsCells_0 := by decide +kernel
theorem dksX3_countsCells_1 : cX3_countsCells.data.toList.drop 24 = dktX3_countsCells_1 := dk_seg dksX3_countsCells_0 24 rfl rfl
theorem dksX3_countsCells_2 : cX3_countsCells.data.toList.drop 48 = dktX3_countsCells_2 := dk_seg dksX3_countsCells_1 24 rfl rfl
theorem dksX3_countsCells_3 : cX3_countsCells.data.toList.drop 72 = dktX3_countsCells_3 := dk_seg dksX3_countsCells_2 24 rfl rfl
theorem dksX3_countsCells_4 : cX3_countsCells.data.toList.drop 95 = dktX3_countsCells_4 := dk_seg dksX3_countsCells_3 23 rfl rfl
theorem dksX3_countsCells_5 : cX3_countsCells.data.toList.drop 117 = dktX3_countsCells_5 := dk_seg dksX3_countsCells_4 22 rfl rfl
theorem dX3_countsCells_0 : decode cX3_countsCells 0 = .ok (.iconst 0, 1) := dk_3 (dk_at dksX3_countsCells_0 0 rfl rfl)
theorem dX3_countsCells_1 : decode cX3_countsCells 1 = .ok (.istore 4, 2) := dk_54 4 (dk_at dksX3_countsCells_0 1 rfl rfl)
theorem dX3_countsCells_3 : decode cX3_countsCells 3 = .ok (.iload 4, 2) := dk_21 4 (dk_at dksX3_countsCells_0 3 rfl rfl)
theorem dX3_countsCells_5 : decode cX3_countsCells 5 = .ok (.iconst 4, 1) := dk_7 (dk_at dksX3_countsCells_0 5 rfl rfl)
theorem dX3_countsCells_6 : decode cX3_countsCells 6 = .ok (.if_icmp .ge 17, 3) := dk_162 0 17 (dk_at dksX3_countsCells_0 6 rfl rfl)
theorem dX3_countsCells_9 : decode cX3_countsCells 9 = .ok (.aload_n 0, 1) := dk_42 (dk_at dksX3_countsCells_0 9 rfl rfl)
theorem dX3_countsCells_10 : decode cX3_countsCells 10 = .ok (.getfield 124, 3) := dk_180 0 124 (dk_at dksX3_countsCells_0 10 rfl rfl)
theorem dX3_countsCells_13 : decode cX3_countsCells 13 = .ok (.iload 4, 2) := dk_21 4 (dk_at dksX3_countsCells_0 13 rfl rfl)
theorem dX3_countsCells_15 : decode cX3_countsCells 15 = .ok (.iconst 0, 1) := dk_3 (dk_at dksX3_countsCells_0 15 rfl rfl)
theorem dX3_countsCells_16 : decode cX3_countsCells 16 = .ok (.iastore, 1) := dk_79 (dk_at dksX3_countsCells_0 16 rfl rfl)
theorem dX3_countsCells_17 : decode cX3_countsCells 17 = .ok (.iinc 4 1, 3) := dk_132 4 1 (dk_at dksX3_countsCells_0 17 rfl rfl)
theorem dX3_countsCells_20 : decode cX3_countsCells 20 = .ok (.goto (-17), 3) := dk_167 255 239 (dk_at dksX3_countsCells_0 20 rfl rfl)
theorem dX3_countsCells_23 : decode cX3_countsCells 23 = .ok (.aload_n 0, 1) := dk_42 (dk_at dksX3_countsCells_0 23 rfl rfl)
theorem dX3_countsCells_24 : decode cX3_countsCells 24 = .ok (.getfield 13, 3) := dk_180 0 13 (dk_at dksX3_countsCells_1 0 rfl rfl)
theorem dX3_countsCells_27 : decode cX3_countsCells 27 = .ok (.iload_n 1, 1) := dk_27 (dk_at dksX3_countsCells_1 3 rfl rfl)
theorem dX3_countsCells_28 : decode cX3_countsCells 28 = .ok (.iaload, 1) := dk_46 (dk_at dksX3_countsCells_1 4 rfl rfl)
theorem dX3_countsCells_29 : decode cX3_countsCells 29 = .ok (.istore 4, 2) := dk_54 4 (dk_at dksX3_countsCells_1 5 rfl rfl)
theorem dX3_countsCells_31 : decode cX3_countsCells 31 = .ok (.iload 4, 2) := dk_21 4 (dk_at dksX3_countsCells_1 7 rfl rfl)
theorem dX3_countsCells_33 : decode cX3_countsCells 33 = .ok (.aload_n 0, 1) := dk_42 (dk_at dksX3_countsCells_1 9 rfl rfl)
theorem dX3_countsCells_34 : decode cX3_countsCells 34 = .ok (.getfield 13, 3) := dk_180 0 13 (dk_at dksX3_countsCells_1 10 rfl rfl)
theorem dX3_countsCells_37 : decode cX3_countsCells 37 = .ok (.iload_n 1, 1) := dk_27 (dk_at dksX3_countsCells_1 13 rfl rfl)
theorem dX3_countsCells_38 : decode cX3_countsCells 38 = .ok (.iconst 1, 1) := dk_4 (dk_at dksX3_countsCells_1 14 rfl rfl)
theorem dX3_countsCells_39 : decode cX3_countsCells 39 = .ok (.iadd, 1) := dk_96 (dk_at dksX3_countsCells_1 15 rfl rfl)
theorem dX3_countsCells_40 : decode cX3_countsCells 40 = .ok (.iaload, 1) := dk_46 (dk_at dksX3_countsCells_1 16 rfl rfl)
theorem dX3_countsCells_41 : decode cX3_countsCells 41 = .ok (.if_icmp .ge 79, 3) := dk_162 0 79 (dk_at dksX3_countsCells_1 17 rfl rfl)
theorem dX3_countsCells_44 : decode cX3_countsCells 44 = .ok (.aload_n 0, 1) := dk_42 (dk_at dksX3_countsCells_1 20 rfl rfl)
theorem dX3_countsCells_45 : decode cX3_countsCells 45 = .ok (.getfield 31, 3) := dk_180 0 31 (dk_at dksX3_countsCells_1 21 rfl rfl)
theorem dX3_countsCells_48 : decode cX3_countsCells 48 = .ok (.iload 4, 2) := dk_21 4 (dk_at dksX3_countsCells_2 0 rfl rfl)
theorem dX3_countsCells_50 : decode cX3_countsCells 50 = .ok (.iaload, 1) := dk_46 (dk_at dksX3_countsCells_2 2 rfl rfl)
theorem dX3_countsCells_51 : decode cX3_countsCells 51 = .ok (.istore 5, 2) := dk_54 5 (dk_at dksX3_countsCells_2 3 rfl rfl)
theorem dX3_countsCells_53 : decode cX3_countsCells 53 = .ok (.iload_n 3, 1) := dk_29 (dk_at dksX3_countsCells_2 5 rfl rfl)
theorem dX3_countsCells_54 : decode cX3_countsCells 54 = .ok (.ifCond .eq 32, 3) := dk_153 0 32 (dk_at dksX3_countsCells_2 6 rfl rfl)
theorem dX3_countsCells_57 : decode cX3_countsCells 57 = .ok (.iload 5, 2) := dk_21 5 (dk_at dksX3_countsCells_2 9 rfl rfl)
theorem dX3_countsCells_59 : decode cX3_countsCells 59 = .ok (.ifCond .le 27, 3) := dk_158 0 27 (dk_at dksX3_countsCells_2 11 rfl rfl)
theorem dX3_countsCells_62 : decode cX3_countsCells 62 = .ok (.aload_n 0, 1) := dk_42 (dk_at dksX3_countsCells_2 14 rfl rfl)
theorem dX3_countsCells_63 : decode cX3_countsCells 63 = .ok (.getfield 37, 3) := dk_180 0 37 (dk_at dksX3_countsCells_2 15 rfl rfl)
theorem dX3_countsCells_66 : decode cX3_countsCells 66 = .ok (.iconst 5, 1) := dk_8 (dk_at dksX3_countsCells_2 18 rfl rfl)
theorem dX3_countsCells_67 : decode cX3_countsCells 67 = .ok (.iload 4, 2) := dk_21 4 (dk_at dksX3_countsCells_2 19 rfl rfl)
theorem dX3_countsCells_69 : decode cX3_countsCells 69 = .ok (.imul, 1) := dk_104 (dk_at dksX3_countsCells_2 21 rfl rfl)
theorem dX3_countsCells_70 : decode cX3_countsCells 70 = .ok (.iload 5, 2) := dk_21 5 (dk_at dksX3_countsCells_2 22 rfl rfl)
theorem dX3_countsCells_72 : decode cX3_countsCells 72 = .ok (.iadd, 1) := dk_96 (dk_at dksX3_countsCells_3 0 rfl rfl)
theorem dX3_countsCells_73 : decode cX3_countsCells 73 = .ok (.iconst 1, 1) := dk_4 (dk_at dksX3_countsCells_3 1 rfl rfl)
theorem dX3_countsCells_74 : decode cX3_countsCells 74 = .ok (.isub, 1) := dk_100 (dk_at dksX3_countsCells_3 2 rfl rfl)
theorem dX3_countsCells_75 : decode cX3_countsCells 75 = .ok (.iaload, 1) := dk_46 (dk_at dksX3_countsCells_3 3 rfl rfl)
theorem dX3_countsCells_76 : decode cX3_countsCells 76 = .ok (.iload_n 2, 1) := dk_28 (dk_at dksX3_countsCells_3 4 rfl rfl)
theorem dX3_countsCells_77 : decode cX3_countsCells 77 = .ok (.if_icmp .lt 9, 3) := dk_161 0 9 (dk_at dksX3_countsCells_3 5 rfl rfl)
theorem dX3_countsCells_80 : decode cX3_countsCells 80 = .ok (.iinc 5 (-1), 3) := dk_132 5 255 (dk_at dksX3_countsCells_3 8 rfl rfl)
theorem dX3_countsCells_83 : decode cX3_countsCells 83 = .ok (.goto (-30), 3) := dk_167 255 226 (dk_at dksX3_countsCells_3 11 rfl rfl)
theorem dX3_countsCells_86 : decode cX3_countsCells 86 = .ok (.aload_n 0, 1) := dk_42 (dk_at dksX3_countsCells_3 14 rfl rfl)
theorem dX3_countsCells_87 : decode cX3_countsCells 87 = .ok (.iload 4, 2) := dk_21 4 (dk_at dksX3_countsCells_3 15 rfl rfl)
theorem dX3_countsCells_89 : decode cX3_countsCells 89 = .ok (.iload 5, 2) := dk_21 5 (dk_at dksX3_countsCells_3 17 rfl rfl)
theorem dX3_countsCells_91 : decode cX3_countsCells 91 = .ok (.iload_n 2, 1) := dk_28 (dk_at dksX3_countsCells_3 19 rfl rfl)
theorem dX3_countsCells_92 : decode cX3_countsCells 92 = .ok (.invokevirtual 388, 3) := dk_182 1 132 (dk_at dksX3_countsCells_3 20 rfl rfl)
theorem dX3_countsCells_95 : decode cX3_countsCells 95 = .ok (.istore 6, 2) := dk_54 6 (dk_at dksX3_countsCells_4 0 rfl rfl)
theorem dX3_countsCells_97 : decode cX3_countsCells 97 = .ok (.iload 6, 2) := dk_21 6 (dk_at dksX3_countsCells_4 2 rfl rfl)
theorem dX3_countsCells_99 : decode cX3_countsCells 99 = .ok (.iconst (-1), 1) := dk_2 (dk_at dksX3_countsCells_4 4 rfl rfl)
theorem dX3_countsCells_100 : decode cX3_countsCells 100 = .ok (.if_icmp .eq 14, 3) := dk_159 0 14 (dk_at dksX3_countsCells_4 5 rfl rfl)
theorem dX3_countsCells_103 : decode cX3_countsCells 103 = .ok (.aload_n 0, 1) := dk_42 (dk_at dksX3_countsCells_4 8 rfl rfl)
theorem dX3_countsCells_104 : decode cX3_countsCells 104 = .ok (.getfield 124, 3) := dk_180 0 124 (dk_at dksX3_countsCells_4 9 rfl rfl)
theorem dX3_countsCells_107 : decode cX3_countsCells 107 = .ok (.iload 6, 2) := dk_21 6 (dk_at dksX3_countsCells_4 12 rfl rfl)
theorem dX3_countsCells_109 : decode cX3_countsCells 109 = .ok (.dup2, 1) := dk_92 (dk_at dksX3_countsCells_4 14 rfl rfl)
theorem dX3_countsCells_110 : decode cX3_countsCells 110 = .ok (.iaload, 1) := dk_46 (dk_at dksX3_countsCells_4 15 rfl rfl)
theorem dX3_countsCells_111 : decode cX3_countsCells 111 = .ok (.iconst 1, 1) := dk_4 (dk_at dksX3_countsCells_4 16 rfl rfl)
theorem dX3_countsCells_112 : decode cX3_countsCells 112 = .ok (.iadd, 1) := dk_96 (dk_at dksX3_countsCells_4 17 rfl rfl)
theorem dX3_countsCells_113 : decode cX3_countsCells 113 = .ok (.iastore, 1) := dk_79 (dk_at dksX3_countsCells_4 18 rfl rfl)
theorem dX3_countsCells_114 : decode cX3_countsCells 114 = .ok (.iinc 4 1, 3) := dk_132 4 1 (dk_at dksX3_countsCells_4 19 rfl rfl)
theorem dX3_countsCells_117 : decode cX3_countsCells 117 = .ok (.goto (-86), 3) := dk_167 255 170 (dk_at dksX3_countsCells_5 0 rfl rfl)
theorem dX3_countsCells_120 : decode cX3_countsCells 120 = .ok (.return_, 1) := dk_177 (dk_at dksX3_countsCells_5 3 rfl rfl)
abbrev cX3_ownerByCells : ByteArray := prog_17_method_60_code
def yX3_ownerByCells : MethodName := ⟨RX3, "ownerByCells", "(II)I"⟩
def dkwX3_ownerByCells_3 : List UInt8 := [159, 0, 18, 16, 100, 21, 4, 104, 28, 27, 104, 161, 0, 7, 29, 167, 0, 4, 2, 172]
abbrev dktX3_ownerByCells_3 : List UInt8 := dkwX3_ownerByCells_3 ++ []
def dkwX3_ownerByCells_2 : List UInt8 := [167, 0, 4, 2, 62, 42, 180, 0, 124, 21, 5, 46, 54, 4, 132, 5, 1, 167, 255, 202, 29, 2]
abbrev dktX3_ownerByCells_2 : List UInt8 := dkwX3_ownerByCells_2 ++ dktX3_ownerByCells_3
def dkwX3_ownerByCells_1 : List UInt8 := [21, 5, 46, 21, 4, 161, 0, 31, 42, 180, 0, 124, 21, 5, 46, 21, 4, 164, 0, 8, 21, 5]
abbrev dktX3_ownerByCells_1 : List UInt8 := dkwX3_ownerByCells_1 ++ dktX3_ownerByCells_2
def dkwX3_ownerByCells_0 : List UInt8 := [2, 62, 3, 54, 4, 3, 54, 5, 21, 5, 42, 180, 0, 9, 8, 46, 162, 0, 49, 42, 180, 0, 124]
abbrev dktX3_ownerByCells_0 : List UInt8 := dkwX3_ownerByCells_0 ++ dktX3_ownerByCells_1
theorem dksX3_ownerByCells_0 : cX3_ownerByCells.data.toList.drop 0 = dktX3_ownerByCells_0 := by decide +kernel
theorem dksX3_ownerByCells_1 : cX3_ownerByCells.data.toList.drop 23 = dktX3_ownerByCells_1 := dk_seg dksX3_ownerByCells_0 23 rfl rfl
theorem dksX3_ownerByCells_2 : cX3_ownerByCells.data.toList.drop 45 = dktX3_ownerByCells_2 := dk_seg dksX3_ownerByCells_1 22 rfl rfl
theorem dksX3_ownerByCells_3 : cX3_ownerByCells.data.toList.drop 67 = dktX3_ownerByCells_3 := dk_seg dksX3_ownerByCells_2 22 rfl rfl
theorem dX3_ownerByCells_0 : decode cX3_ownerByCells 0 = .ok (.iconst (-1), 1) := dk_2 (dk_at dksX3_ownerByCells_0 0 rfl rfl)
theorem dX3_ownerByCells_1 : decode cX3_ownerByCells 1 = .ok (.istore_n 3, 1) := dk_62 (dk_at dksX3_ownerByCells_0 1 rfl rfl)
theorem dX3_ownerByCells_2 : decode cX3_ownerByCells 2 = .ok (.iconst 0, 1) := dk_3 (dk_at dksX3_ownerByCells_0 2 rfl rfl)
theorem dX3_ownerByCells_3 : decode cX3_ownerByCells 3 = .ok (.istore 4, 2) := dk_54 4 (dk_at dksX3_ownerByCells_0 3 rfl rfl)
theorem dX3_ownerByCells_5 : decode cX3_ownerByCells 5 = .ok (.iconst 0, 1) := dk_3 (dk_at dksX3_ownerByCells_0 5 rfl rfl)
theorem dX3_ownerByCells_6 : decode cX3_ownerByCells 6 = .ok (.istore 5, 2) := dk_54 5 (dk_at dksX3_ownerByCells_0 6 rfl rfl)
theorem dX3_ownerByCells_8 : decode cX3_ownerByCells 8 = .ok (.iload 5, 2) := dk_21 5 (dk_at dksX3_ownerByCells_0 8 rfl rfl)
theorem dX3_ownerByCells_10 : decode cX3_ownerByCells 10 = .ok (.aload_n 0, 1) := dk_42 (dk_at dksX3_ownerByCells_0 10 rfl rfl)
theorem dX3_ownerByCells_11 : decode cX3_ownerByCells 11 = .ok (.getfield 9, 3) := dk_180 0 9 (dk_at dksX3_ownerByCells_0 11 rfl rfl)
theorem dX3_ownerByCells_14 : decode cX3_ownerByCells 14 = .ok (.iconst 5, 1) := dk_8 (dk_at dksX3_ownerByCells_0 14 rfl rfl)
theorem dX3_ownerByCells_15 : decode cX3_ownerByCells 15 = .ok (.iaload, 1) := dk_46 (dk_at dksX3_ownerByCells_0 15 rfl rfl)
theorem dX3_ownerByCells_16 : decode cX3_ownerByCells 16 = .ok (.if_icmp .ge 49, 3) := dk_162 0 49 (dk_at dksX3_ownerByCells_0 16 rfl rfl)
theorem dX3_ownerByCells_19 : decode cX3_ownerByCells 19 = .ok (.aload_n 0, 1) := dk_42 (dk_at dksX3_ownerByCells_0 19 rfl rfl)
theorem dX3_ownerByCells_20 : decode cX3_ownerByCells 20 = .ok (.getfield 124, 3) := dk_180 0 124 (dk_at dksX3_ownerByCells_0 20 rfl rfl)
theorem dX3_ownerByCells_23 : decode cX3_ownerByCells 23 = .ok (.iload 5, 2) := dk_21 5 (dk_at dksX3_ownerByCells_1 0 rfl rfl)
theorem dX3_ownerByCells_25 : decode cX3_ownerByCells 25 = .ok (.iaload, 1) := dk_46 (dk_at dksX3_ownerByCells_1 2 rfl rfl)
theorem dX3_ownerByCells_26 : decode cX3_ownerByCells 26 = .ok (.iload 4, 2) := dk_21 4 (dk_at dksX3_ownerByCells_1 3 rfl rfl)
theorem dX3_ownerByCells_28 : decode cX3_ownerByCells 28 = .ok (.if_icmp .lt 31, 3) := dk_161 0 31 (dk_at dksX3_ownerByCells_1 5 rfl rfl)
theorem dX3_ownerByCells_31 : decode cX3_ownerByCells 31 = .ok (.aload_n 0, 1) := dk_42 (dk_at dksX3_ownerByCells_1 8 rfl rfl)
theorem dX3_ownerByCells_32 : decode cX3_ownerByCells 32 = .ok (.getfield 124, 3) := dk_180 0 124 (dk_at dksX3_ownerByCells_1 9 rfl rfl)
theorem dX3_ownerByCells_35 : decode cX3_ownerByCells 35 = .ok (.iload 5, 2) := dk_21 5 (dk_at dksX3_ownerByCells_1 12 rfl rfl)
theorem dX3_ownerByCells_37 : decode cX3_ownerByCells 37 = .ok (.iaload, 1) := dk_46 (dk_at dksX3_ownerByCells_1 14 rfl rfl)
theorem dX3_ownerByCells_38 : decode cX3_ownerByCells 38 = .ok (.iload 4, 2) := dk_21 4 (dk_at dksX3_ownerByCells_1 15 rfl rfl)
theorem dX3_ownerByCells_40 : decode cX3_ownerByCells 40 = .ok (.if_icmp .le 8, 3) := dk_164 0 8 (dk_at dksX3_ownerByCells_1 17 rfl rfl)
theorem dX3_ownerByCells_43 : decode cX3_ownerByCells 43 = .ok (.iload 5, 2) := dk_21 5 (dk_at dksX3_ownerByCells_1 20 rfl rfl)
theorem dX3_ownerByCells_45 : decode cX3_ownerByCells 45 = .ok (.goto 4, 3) := dk_167 0 4 (dk_at dksX3_ownerByCells_2 0 rfl rfl)
theorem dX3_ownerByCells_48 : decode cX3_ownerByCells 48 = .ok (.iconst (-1), 1) := dk_2 (dk_at dksX3_ownerByCells_2 3 rfl rfl)
theorem dX3_ownerByCells_49 : decode cX3_ownerByCells 49 = .ok (.istore_n 3, 1) := dk_62 (dk_at dksX3_ownerByCells_2 4 rfl rfl)
theorem dX3_ownerByCells_50 : decode cX3_ownerByCells 50 = .ok (.aload_n 0, 1) := dk_42 (dk_at dksX3_ownerByCells_2 5 rfl rfl)
theorem dX3_ownerByCells_51 : decode cX3_ownerByCells 51 = .ok (.getfield 124, 3) := dk_180 0 124 (dk_at dksX3_ownerByCells_2 6 rfl rfl)
theorem dX3_ownerByCells_54 : decode cX3_ownerByCells 54 = .ok (.iload 5, 2) := dk_21 5 (dk_at dksX3_ownerByCells_2 9 rfl rfl)
theorem dX3_ownerByCells_56 : decode cX3_ownerByCells 56 = .ok (.iaload, 1) := dk_46 (dk_at dksX3_ownerByCells_2 11 rfl rfl)
theorem dX3_ownerByCells_57 : decode cX3_ownerByCells 57 = .ok (.istore 4, 2) := dk_54 4 (dk_at dksX3_ownerByCells_2 12 rfl rfl)
theorem dX3_ownerByCells_59 : decode cX3_ownerByCells 59 = .ok (.iinc 5 1, 3) := dk_132 5 1 (dk_at dksX3_ownerByCells_2 14 rfl rfl)
theorem dX3_ownerByCells_62 : decode cX3_ownerByCells 62 = .ok (.goto (-54), 3) := dk_167 255 202 (dk_at dksX3_ownerByCells_2 17 rfl rfl)
theorem dX3_ownerByCells_65 : decode cX3_ownerByCells 65 = .ok (.iload_n 3, 1) := dk_29 (dk_at dksX3_ownerByCells_2 20 rfl rfl)
theorem dX3_ownerByCells_66 : decode cX3_ownerByCells 66 = .ok (.iconst (-1), 1) := dk_2 (dk_at dksX3_ownerByCells_2 21 rfl rfl)
theorem dX3_ownerByCells_67 : decode cX3_ownerByCells 67 = .ok (.if_icmp .eq 18, 3) := dk_159 0 18 (dk_at dksX3_ownerByCells_3 0 rfl rfl)
theorem dX3_ownerByCells_70 : decode cX3_ownerByCells 70 = .ok (.bipush 100, 2) := dk_16 100 (dk_at dksX3_ownerByCells_3 3 rfl rfl)
theorem dX3_ownerByCells_72 : decode cX3_ownerByCells 72 = .ok (.iload 4, 2) := dk_21 4 (dk_at dksX3_ownerByCells_3 5 rfl rfl)
theorem dX3_ownerByCells_74 : decode cX3_ownerByCells 74 = .ok (.imul, 1) := dk_104 (dk_at dksX3_ownerByCells_3 7 rfl rfl)
theorem dX3_ownerByCells_75 : decode cX3_ownerByCells 75 = .ok (.iload_n 2, 1) := dk_28 (dk_at dksX3_ownerByCells_3 8 rfl rfl)
theorem dX3_ownerByCells_76 : decode cX3_ownerByCells 76 = .ok (.iload_n 1, 1) := dk_27 (dk_at dksX3_ownerByCells_3 9 rfl rfl)
theorem dX3_ownerByCells_77 : decode cX3_ownerByCells 77 = .ok (.imul, 1) := dk_104 (dk_at dksX3_ownerByCells_3 10 rfl rfl)
theorem dX3_ownerByCells_78 : decode cX3_ownerByCells 78 = .ok (.if_icmp .lt 7, 3) := dk_161 0 7 (dk_at dksX3_ownerByCells_3 11 rfl rfl)
theorem dX3_ownerByCells_81 : decode cX3_ownerByCells 81 = .ok (.iload_n 3, 1) := dk_29 (dk_at dksX3_ownerByCells_3 14 rfl rfl)
theorem dX3_ownerByCells_82 : decode cX3_ownerByCells 82 = .ok (.goto 4, 3) := dk_167 0 4 (dk_at dksX3_ownerByCells_3 15 rfl rfl)
theorem dX3_ownerByCells_85 : decode cX3_ownerByCells 85 = .ok (.iconst (-1), 1) := dk_2 (dk_at dksX3_ownerByCells_3 18 rfl rfl)
theorem dX3_ownerByCells_86 : decode cX3_ownerByCells 86 = .ok (.ireturn, 1) := dk_172 (dk_at dksX3_ownerByCells_3 19 rfl rfl)
abbrev cX3_painter : ByteArray := prog_17_method_68_code
def yX3_painter : MethodName := ⟨RX3, "painter", "(II)I"⟩
def dkwX3_painter_4 : List UInt8 := [4, 21, 4, 120, 167, 0, 4, 3, 128, 62, 132, 4, 1, 167, 255, 221, 29, 172, 2, 172]
abbrev dktX3_painter_4 : List UInt8 := dkwX3_painter_4 ++ []
def dkwX3_painter_3 : List UInt8 := [54, 4, 21, 4, 42, 180, 0, 9, 6, 46, 162, 0, 30, 29, 42, 21, 4, 182, 1, 164, 27, 160, 0, 10]
abbrev dktX3_painter_3 : List UInt8 := dkwX3_painter_3 ++ dktX3_painter_4
def dkwX3_painter_2 : List UInt8 := [42, 180, 0, 19, 27, 46, 172, 42, 180, 0, 22, 27, 46, 172, 42, 27, 182, 1, 170, 172, 3, 62, 3]
abbrev dktX3_painter_2 : List UInt8 := dkwX3_painter_2 ++ dktX3_painter_3
def dkwX3_painter_1 : List UInt8 := [170, 0, 0, 0, 94, 0, 0, 0, 0, 0, 0, 0, 3, 0, 0, 0, 29, 0, 0, 0, 36, 0, 0, 0, 43, 0, 0, 0, 49]
abbrev dktX3_painter_1 : List UInt8 := dkwX3_painter_1 ++ dktX3_painter_2
def dkwX3_painter_0 : List UInt8 := [42, 27, 182, 1, 167, 154, 0, 5, 2, 172, 28]
abbrev dktX3_painter_0 : List UInt8 := dkwX3_painter_0 ++ dktX3_painter_1
theorem dksX3_painter_0 : cX3_painter.data.toList.drop 0 = dktX3_painter_0 := by decide +kernel
theorem dksX3_painter_1 : cX3_painter.data.toList.drop 11 = dktX3_painter_1 := dk_seg dksX3_painter_0 11 rfl rfl
theorem dksX3_painter_2 : cX3_painter.data.toList.drop 40 = dktX3_painter_2 := dk_seg dksX3_painter_1 29 rfl rfl
theorem dksX3_painter_3 : cX3_painter.data.toList.drop 63 = dktX3_painter_3 := dk_seg dksX3_painter_2 23 rfl rfl
theorem dksX3_painter_4 : cX3_painter.data.toList.drop 87 = dktX3_painter_4 := dk_seg dksX3_painter_3 24 rfl rfl
theorem dX3_painter_0 : decode cX3_painter 0 = .ok (.aload_n 0, 1) := dk_42 (dk_at dksX3_painter_0 0 rfl rfl)
theorem dX3_painter_1 : decode cX3_painter 1 = .ok (.iload_n 1, 1) := dk_27 (dk_at dksX3_painter_0 1 rfl rfl)
theorem dX3_painter_2 : decode cX3_painter 2 = .ok (.invokevirtual 423, 3) := dk_182 1 167 (dk_at dksX3_painter_0 2 rfl rfl)
theorem dX3_painter_5 : decode cX3_painter 5 = .ok (.ifCond .ne 5, 3) := dk_154 0 5 (dk_at dksX3_painter_0 5 rfl rfl)
theorem dX3_painter_8 : decode cX3_painter 8 = .ok (.iconst (-1), 1) := dk_2 (dk_at dksX3_painter_0 8 rfl rfl)
theorem dX3_painter_9 : decode cX3_painter 9 = .ok (.ireturn, 1) := dk_172 (dk_at dksX3_painter_0 9 rfl rfl)
theorem dX3_painter_10 : decode cX3_painter 10 = .ok (.iload_n 2, 1) := dk_28 (dk_at dksX3_painter_0 10 rfl rfl)
theorem dX3_painter_11 : decode cX3_painter 11 = .ok (.tableswitch 94 0 3 #[29, 36, 43, 49], 29) := by decide +kernel
theorem dX3_painter_40 : decode cX3_painter 40 = .ok (.aload_n 0, 1) := dk_42 (dk_at dksX3_painter_2 0 rfl rfl)
theorem dX3_painter_41 : decode cX3_painter 41 = .ok (.getfield 19, 3) := dk_180 0 19 (dk_at dksX3_painter_2 1 rfl rfl)
theorem dX3_painter_44 : decode cX3_painter 44 = .ok (.iload_n 1, 1) := dk_27 (dk_at dksX3_painter_2 4 rfl rfl)
theorem dX3_painter_45 : decode cX3_painter 45 = .ok (.iaload, 1) := dk_46 (dk_at dksX3_painter_2 5 rfl rfl)
theorem dX3_painter_46 : decode cX3_painter 46 = .ok (.ireturn, 1) := dk_172 (dk_at dksX3_painter_2 6 rfl rfl)
theorem dX3_painter_47 : decode cX3_painter 47 = .ok (.aload_n 0, 1) := dk_42 (dk_at dksX3_painter_2 7 rfl rfl)
theorem dX3_painter_48 : decode cX3_painter 48 = .ok (.getfield 22, 3) := dk_180 0 22 (dk_at dksX3_painter_2 8 rfl rfl)
theorem dX3_painter_51 : decode cX3_painter 51 = .ok (.iload_n 1, 1) := dk_27 (dk_at dksX3_painter_2 11 rfl rfl)
theorem dX3_painter_52 : decode cX3_painter 52 = .ok (.iaload, 1) := dk_46 (dk_at dksX3_painter_2 12 rfl rfl)
theorem dX3_painter_53 : decode cX3_painter 53 = .ok (.ireturn, 1) := dk_172 (dk_at dksX3_painter_2 13 rfl rfl)
theorem dX3_painter_54 : decode cX3_painter 54 = .ok (.aload_n 0, 1) := dk_42 (dk_at dksX3_painter_2 14 rfl rfl)
theorem dX3_painter_55 : decode cX3_painter 55 = .ok (.iload_n 1, 1) := dk_27 (dk_at dksX3_painter_2 15 rfl rfl)
theorem dX3_painter_56 : decode cX3_painter 56 = .ok (.invokevirtual 426, 3) := dk_182 1 170 (dk_at dksX3_painter_2 16 rfl rfl)
theorem dX3_painter_59 : decode cX3_painter 59 = .ok (.ireturn, 1) := dk_172 (dk_at dksX3_painter_2 19 rfl rfl)
theorem dX3_painter_60 : decode cX3_painter 60 = .ok (.iconst 0, 1) := dk_3 (dk_at dksX3_painter_2 20 rfl rfl)
theorem dX3_painter_61 : decode cX3_painter 61 = .ok (.istore_n 3, 1) := dk_62 (dk_at dksX3_painter_2 21 rfl rfl)
theorem dX3_painter_62 : decode cX3_painter 62 = .ok (.iconst 0, 1) := dk_3 (dk_at dksX3_painter_2 22 rfl rfl)
theorem dX3_painter_63 : decode cX3_painter 63 = .ok (.istore 4, 2) := dk_54 4 (dk_at dksX3_painter_3 0 rfl rfl)
theorem dX3_painter_65 : decode cX3_painter 65 = .ok (.iload 4, 2) := dk_21 4 (dk_at dksX3_painter_3 2 rfl rfl)
theorem dX3_painter_67 : decode cX3_painter 67 = .ok (.aload_n 0, 1) := dk_42 (dk_at dksX3_painter_3 4 rfl rfl)
theorem dX3_painter_68 : decode cX3_painter 68 = .ok (.getfield 9, 3) := dk_180 0 9 (dk_at dksX3_painter_3 5 rfl rfl)
theorem dX3_painter_71 : decode cX3_painter 71 = .ok (.iconst 3, 1) := dk_6 (dk_at dksX3_painter_3 8 rfl rfl)
theorem dX3_painter_72 : decode cX3_painter 72 = .ok (.iaload, 1) := dk_46 (dk_at dksX3_painter_3 9 rfl rfl)
theorem dX3_painter_73 : decode cX3_painter 73 = .ok (.if_icmp .ge 30, 3) := dk_162 0 30 (dk_at dksX3_painter_3 10 rfl rfl)
theorem dX3_painter_76 : decode cX3_painter 76 = .ok (.iload_n 3, 1) := dk_29 (dk_at dksX3_painter_3 13 rfl rfl)
theorem dX3_painter_77 : decode cX3_painter 77 = .ok (.aload_n 0, 1) := dk_42 (dk_at dksX3_painter_3 14 rfl rfl)
theorem dX3_painter_78 : decode cX3_painter 78 = .ok (.iload 4, 2) := dk_21 4 (dk_at dksX3_painter_3 15 rfl rfl)
theorem dX3_painter_80 : decode cX3_painter 80 = .ok (.invokevirtual 420, 3) := dk_182 1 164 (dk_at dksX3_painter_3 17 rfl rfl)
theorem dX3_painter_83 : decode cX3_painter 83 = .ok (.iload_n 1, 1) := dk_27 (dk_at dksX3_painter_3 20 rfl rfl)
theorem dX3_painter_84 : decode cX3_painter 84 = .ok (.if_icmp .ne 10, 3) := dk_160 0 10 (dk_at dksX3_painter_3 21 rfl rfl)
theorem dX3_painter_87 : decode cX3_painter 87 = .ok (.iconst 1, 1) := dk_4 (dk_at dksX3_painter_4 0 rfl rfl)
theorem dX3_painter_88 : decode cX3_painter 88 = .ok (.iload 4, 2) := dk_21 4 (dk_at dksX3_painter_4 1 rfl rfl)
theorem dX3_painter_90 : decode cX3_painter 90 = .ok (.ishl, 1) := dk_120 (dk_at dksX3_painter_4 3 rfl rfl)
theorem dX3_painter_91 : decode cX3_painter 91 = .ok (.goto 4, 3) := dk_167 0 4 (dk_at dksX3_painter_4 4 rfl rfl)
theorem dX3_painter_94 : decode cX3_painter 94 = .ok (.iconst 0, 1) := dk_3 (dk_at dksX3_painter_4 7 rfl rfl)
theorem dX3_painter_95 : decode cX3_painter 95 = .ok (.ior, 1) := dk_128 (dk_at dksX3_painter_4 8 rfl rfl)
theorem dX3_painter_96 : decode cX3_painter 96 = .ok (.istore_n 3, 1) := dk_62 (dk_at dksX3_painter_4 9 rfl rfl)
theorem dX3_painter_97 : decode cX3_painter 97 = .ok (.iinc 4 1, 3) := dk_132 4 1 (dk_at dksX3_painter_4 10 rfl rfl)
theorem dX3_painter_100 : decode cX3_painter 100 = .ok (.goto (-35), 3) := dk_167 255 221 (dk_at dksX3_painter_4 13 rfl rfl)
theorem dX3_painter_103 : decode cX3_painter 103 = .ok (.iload_n 3, 1) := dk_29 (dk_at dksX3_painter_4 16 rfl rfl)
theorem dX3_painter_104 : decode cX3_painter 104 = .ok (.ireturn, 1) := dk_172 (dk_at dksX3_painter_4 17 rfl rfl)
theorem dX3_painter_105 : decode cX3_painter 105 = .ok (.iconst (-1), 1) := dk_2 (dk_at dksX3_painter_4 18 rfl rfl)
theorem dX3_painter_106 : decode cX3_painter 106 = .ok (.ireturn, 1) := dk_172 (dk_at dksX3_painter_4 19 rfl rfl)
abbrev cX3_isPainter : ByteArray := prog_17_method_9_code
def yX3_isPainter : MethodName := ⟨RX3, "isPainter", "(I)Z"⟩
def dkwX3_isPainter_0 : List UInt8 := [27, 133, 9, 42, 180, 0, 9, 8, 46, 4, 100, 133, 184, 0, 164, 172]
abbrev dktX3_isPainter_0 : List UInt8 := dkwX3_isPainter_0 ++ []
theorem dksX3_isPainter_0 : cX3_isPainter.data.toList.drop 0 = dktX3_isPainter_0 := by decide +kernel
theorem dX3_isPainter_0 : decode cX3_isPainter 0 = .ok (.iload_n 1, 1) := dk_27 (dk_at dksX3_isPainter_0 0 rfl rfl)
theorem dX3_isPainter_1 : decode cX3_isPainter 1 = .ok (.i2l, 1) := dk_133 (dk_at dksX3_isPainter_0 1 rfl rfl)
theorem dX3_isPainter_2 : decode cX3_isPainter 2 = .ok (.lconst 0, 1) := dk_9 (dk_at dksX3_isPainter_0 2 rfl rfl)
theorem dX3_isPainter_3 : decode cX3_isPainter 3 = .ok (.aload_n 0, 1) := dk_42 (dk_at dksX3_isPainter_0 3 rfl rfl)
theorem dX3_isPainter_4 : decode cX3_isPainter 4 = .ok (.getfield 9, 3) := dk_180 0 9 (dk_at dksX3_isPainter_0 4 rfl rfl)
theorem dX3_isPainter_7 : decode cX3_isPainter 7 = .ok (.iconst 5, 1) := dk_8 (dk_at dksX3_isPainter_0 7 rfl rfl)
theorem dX3_isPainter_8 : decode cX3_isPainter 8 = .ok (.iaload, 1) := dk_46 (dk_at dksX3_isPainter_0 8 rfl rfl)
theorem dX3_isPainter_9 : decode cX3_isPainter 9 = .ok (.iconst 1, 1) := dk_4 (dk_at dksX3_isPainter_0 9 rfl rfl)
theorem dX3_isPainter_10 : decode cX3_isPainter 10 = .ok (.isub, 1) := dk_100 (dk_at dksX3_isPainter_0 10 rfl rfl)
theorem dX3_isPainter_11 : decode cX3_isPainter 11 = .ok (.i2l, 1) := dk_133 (dk_at dksX3_isPainter_0 11 rfl rfl)
theorem dX3_isPainter_12 : decode cX3_isPainter 12 = .ok (.invokestatic 164, 3) := dk_184 0 164 (dk_at dksX3_isPainter_0 12 rfl rfl)
theorem dX3_isPainter_15 : decode cX3_isPainter 15 = .ok (.ireturn, 1) := dk_172 (dk_at dksX3_isPainter_0 15 rfl rfl)
abbrev cX3_cellsOwned : ByteArray := prog_17_method_64_code
def yX3_cellsOwned : MethodName := ⟨RX3, "cellsOwned", "(I)I"⟩
def dkwX3_cellsOwned_1 : List UInt8 := [4, 29, 120, 167, 0, 4, 3, 128, 61, 132, 3, 1, 167, 255, 224, 28, 172]
abbrev dktX3_cellsOwned_1 : List UInt8 := dkwX3_cellsOwned_1 ++ []
def dkwX3_cellsOwned_0 : List UInt8 := [3, 61, 3, 62, 29, 42, 180, 0, 9, 7, 46, 162, 0, 28, 28, 42, 29, 182, 1, 146, 27, 160, 0, 9]
abbrev dktX3_cellsOwned_0 : List UInt8 := dkwX3_cellsOwned_0 ++ dktX3_cellsOwned_1
theorem dksX3_cellsOwned_0 : cX3_cellsOwned.data.toList.drop 0 = dktX3_cellsOwned_0 := by decide +kernel
theorem dksX3_cellsOwned_1 : cX3_cellsOwned.data.toList.drop 24 = dktX3_cellsOwned_1 := dk_seg dksX3_cellsOwned_0 24 rfl rfl
theorem dX3_cellsOwned_0 : decode cX3_cellsOwned 0 = .ok (.iconst 0, 1) := dk_3 (dk_at dksX3_cellsOwned_0 0 rfl rfl)
theorem dX3_cellsOwned_1 : decode cX3_cellsOwned 1 = .ok (.istore_n 2, 1) := dk_61 (dk_at dksX3_cellsOwned_0 1 rfl rfl)
theorem dX3_cellsOwned_2 : decode cX3_cellsOwned 2 = .ok (.iconst 0, 1) := dk_3 (dk_at dksX3_cellsOwned_0 2 rfl rfl)
theorem dX3_cellsOwned_3 : decode cX3_cellsOwned 3 = .ok (.istore_n 3, 1) := dk_62 (dk_at dksX3_cellsOwned_0 3 rfl rfl)
theorem dX3_cellsOwned_4 : decode cX3_cellsOwned 4 = .ok (.iload_n 3, 1) := dk_29 (dk_at dksX3_cellsOwned_0 4 rfl rfl)
theorem dX3_cellsOwned_5 : decode cX3_cellsOwned 5 = .ok (.aload_n 0, 1) := dk_42 (dk_at dksX3_cellsOwned_0 5 rfl rfl)
theorem dX3_cellsOwned_6 : decode cX3_cellsOwned 6 = .ok (.getfield 9, 3) := dk_180 0 9 (dk_at dksX3_cellsOwned_0 6 rfl rfl)
theorem dX3_cellsOwned_9 : decode cX3_cellsOwned 9 = .ok (.iconst 4, 1) := dk_7 (dk_at dksX3_cellsOwned_0 9 rfl rfl)
theorem dX3_cellsOwned_10 : decode cX3_cellsOwned 10 = .ok (.iaload, 1) := dk_46 (dk_at dksX3_cellsOwned_0 10 rfl rfl)
theorem dX3_cellsOwned_11 : decode cX3_cellsOwned 11 = .ok (.if_icmp .ge 28, 3) := dk_162 0 28 (dk_at dksX3_cellsOwned_0 11 rfl rfl)
theorem dX3_cellsOwned_14 : decode cX3_cellsOwned 14 = .ok (.iload_n 2, 1) := dk_28 (dk_at dksX3_cellsOwned_0 14 rfl rfl)
theorem dX3_cellsOwned_15 : decode cX3_cellsOwned 15 = .ok (.aload_n 0, 1) := dk_42 (dk_at dksX3_cellsOwned_0 15 rfl rfl)
theorem dX3_cellsOwned_16 : decode cX3_cellsOwned 16 = .ok (.iload_n 3, 1) := dk_29 (dk_at dksX3_cellsOwned_0 16 rfl rfl)
theorem dX3_cellsOwned_17 : decode cX3_cellsOwned 17 = .ok (.invokevirtual 402, 3) := dk_182 1 146 (dk_at dksX3_cellsOwned_0 17 rfl rfl)
theorem dX3_cellsOwned_20 : decode cX3_cellsOwned 20 = .ok (.iload_n 1, 1) := dk_27 (dk_at dksX3_cellsOwned_0 20 rfl rfl)
theorem dX3_cellsOwned_21 : decode cX3_cellsOwned 21 = .ok (.if_icmp .ne 9, 3) := dk_160 0 9 (dk_at dksX3_cellsOwned_0 21 rfl rfl)
theorem dX3_cellsOwned_24 : decode cX3_cellsOwned 24 = .ok (.iconst 1, 1) := dk_4 (dk_at dksX3_cellsOwned_1 0 rfl rfl)
theorem dX3_cellsOwned_25 : decode cX3_cellsOwned 25 = .ok (.iload_n 3, 1) := dk_29 (dk_at dksX3_cellsOwned_1 1 rfl rfl)
theorem dX3_cellsOwned_26 : decode cX3_cellsOwned 26 = .ok (.ishl, 1) := dk_120 (dk_at dksX3_cellsOwned_1 2 rfl rfl)
theorem dX3_cellsOwned_27 : decode cX3_cellsOwned 27 = .ok (.goto 4, 3) := dk_167 0 4 (dk_at dksX3_cellsOwned_1 3 rfl rfl)
theorem dX3_cellsOwned_30 : decode cX3_cellsOwned 30 = .ok (.iconst 0, 1) := dk_3 (dk_at dksX3_cellsOwned_1 6 rfl rfl)
theorem dX3_cellsOwned_31 : decode cX3_cellsOwned 31 = .ok (.ior, 1) := dk_128 (dk_at dksX3_cellsOwned_1 7 rfl rfl)
theorem dX3_cellsOwned_32 : decode cX3_cellsOwned 32 = .ok (.istore_n 2, 1) := dk_61 (dk_at dksX3_cellsOwned_1 8 rfl rfl)
theorem dX3_cellsOwned_33 : decode cX3_cellsOwned 33 = .ok (.iinc 3 1, 3) := dk_132 3 1 (dk_at dksX3_cellsOwned_1 9 rfl rfl)
theorem dX3_cellsOwned_36 : decode cX3_cellsOwned 36 = .ok (.goto (-32), 3) := dk_167 255 224 (dk_at dksX3_cellsOwned_1 12 rfl rfl)
theorem dX3_cellsOwned_39 : decode cX3_cellsOwned 39 = .ok (.iload_n 2, 1) := dk_28 (dk_at dksX3_cellsOwned_1 15 rfl rfl)
theorem dX3_cellsOwned_40 : decode cX3_cellsOwned 40 = .ok (.ireturn, 1) := dk_172 (dk_at dksX3_cellsOwned_1 16 rfl rfl)
abbrev cX3_rain : ByteArray := prog_17_method_70_code
def yX3_rain : MethodName := ⟨RX3, "rain", "(I)I"⟩
def dkwX3_rain_1 : List UInt8 := [167, 0, 4, 3, 172]
abbrev dktX3_rain_1 : List UInt8 := dkwX3_rain_1 ++ []
def dkwX3_rain_0 : List UInt8 := [42, 182, 1, 173, 153, 0, 7, 27, 156, 0, 5, 2, 172, 42, 27, 182, 1, 176, 153, 0, 7, 4]
abbrev dktX3_rain_0 : List UInt8 := dkwX3_rain_0 ++ dktX3_rain_1
theorem dksX3_rain_0 : cX3_rain.data.toList.drop 0 = dktX3_rain_0 := by decide +kernel
theorem dksX3_rain_1 : cX3_rain.data.toList.drop 22 = dktX3_rain_1 := dk_seg dksX3_rain_0 22 rfl rfl
theorem dX3_rain_0 : decode cX3_rain 0 = .ok (.aload_n 0, 1) := dk_42 (dk_at dksX3_rain_0 0 rfl rfl)
theorem dX3_rain_1 : decode cX3_rain 1 = .ok (.invokevirtual 429, 3) := dk_182 1 173 (dk_at dksX3_rain_0 1 rfl rfl)
theorem dX3_rain_4 : decode cX3_rain 4 = .ok (.ifCond .eq 7, 3) := dk_153 0 7 (dk_at dksX3_rain_0 4 rfl rfl)
theorem dX3_rain_7 : decode cX3_rain 7 = .ok (.iload_n 1, 1) := dk_27 (dk_at dksX3_rain_0 7 rfl rfl)
theorem dX3_rain_8 : decode cX3_rain 8 = .ok (.ifCond .ge 5, 3) := dk_156 0 5 (dk_at dksX3_rain_0 8 rfl rfl)
theorem dX3_rain_11 : decode cX3_rain 11 = .ok (.iconst (-1), 1) := dk_2 (dk_at dksX3_rain_0 11 rfl rfl)
theorem dX3_rain_12 : decode cX3_rain 12 = .ok (.ireturn, 1) := dk_172 (dk_at dksX3_rain_0 12 rfl rfl)
theorem dX3_rain_13 : decode cX3_rain 13 = .ok (.aload_n 0, 1) := dk_42 (dk_at dksX3_rain_0 13 rfl rfl)
theorem dX3_rain_14 : decode cX3_rain 14 = .ok (.iload_n 1, 1) := dk_27 (dk_at dksX3_rain_0 14 rfl rfl)
theorem dX3_rain_15 : decode cX3_rain 15 = .ok (.invokevirtual 432, 3) := dk_182 1 176 (dk_at dksX3_rain_0 15 rfl rfl)
theorem dX3_rain_18 : decode cX3_rain 18 = .ok (.ifCond .eq 7, 3) := dk_153 0 7 (dk_at dksX3_rain_0 18 rfl rfl)
theorem dX3_rain_21 : decode cX3_rain 21 = .ok (.iconst 1, 1) := dk_4 (dk_at dksX3_rain_0 21 rfl rfl)
theorem dX3_rain_22 : decode cX3_rain 22 = .ok (.goto 4, 3) := dk_167 0 4 (dk_at dksX3_rain_1 0 rfl rfl)
theorem dX3_rain_25 : decode cX3_rain 25 = .ok (.iconst 0, 1) := dk_3 (dk_at dksX3_rain_1 3 rfl rfl)
theorem dX3_rain_26 : decode cX3_rain 26 = .ok (.ireturn, 1) := dk_172 (dk_at dksX3_rain_1 4 rfl rfl)
abbrev cX3_isStreet : ByteArray := prog_17_method_6_code
def yX3_isStreet : MethodName := ⟨RX3, "isStreet", "()Z"⟩
def dkwX3_isStreet_0 : List UInt8 := [42, 180, 0, 9, 3, 46, 158, 0, 7, 4, 167, 0, 4, 3, 172]
abbrev dktX3_isStreet_0 : List UInt8 := dkwX3_isStreet_0 ++ []
theorem dksX3_isStreet_0 : cX3_isStreet.data.toList.drop 0 = dktX3_isStreet_0 := by decide +kernel
theorem dX3_isStreet_0 : decode cX3_isStreet 0 = .ok (.aload_n 0, 1) := dk_42 (dk_at dksX3_isStreet_0 0 rfl rfl)
theorem dX3_isStreet_1 : decode cX3_isStreet 1 = .ok (.getfield 9, 3) := dk_180 0 9 (dk_at dksX3_isStreet_0 1 rfl rfl)
theorem dX3_isStreet_4 : decode cX3_isStreet 4 = .ok (.iconst 0, 1) := dk_3 (dk_at dksX3_isStreet_0 4 rfl rfl)
theorem dX3_isStreet_5 : decode cX3_isStreet 5 = .ok (.iaload, 1) := dk_46 (dk_at dksX3_isStreet_0 5 rfl rfl)
theorem dX3_isStreet_6 : decode cX3_isStreet 6 = .ok (.ifCond .le 7, 3) := dk_158 0 7 (dk_at dksX3_isStreet_0 6 rfl rfl)
theorem dX3_isStreet_9 : decode cX3_isStreet 9 = .ok (.iconst 1, 1) := dk_4 (dk_at dksX3_isStreet_0 9 rfl rfl)
theorem dX3_isStreet_10 : decode cX3_isStreet 10 = .ok (.goto 4, 3) := dk_167 0 4 (dk_at dksX3_isStreet_0 10 rfl rfl)
theorem dX3_isStreet_13 : decode cX3_isStreet 13 = .ok (.iconst 0, 1) := dk_3 (dk_at dksX3_isStreet_0 13 rfl rfl)
theorem dX3_isStreet_14 : decode cX3_isStreet 14 = .ok (.ireturn, 1) := dk_172 (dk_at dksX3_isStreet_0 14 rfl rfl)
abbrev cX3_rains : ByteArray := prog_17_method_69_code
def yX3_rains : MethodName := ⟨RX3, "rains", "(I)Z"⟩
def dkwX3_rains_1 : List UInt8 := [180, 0, 28, 28, 46, 133, 184, 0, 164, 153, 0, 5, 4, 172, 132, 2, 1, 167, 255, 218, 3, 172]
abbrev dktX3_rains_1 : List UInt8 := dkwX3_rains_1 ++ []
def dkwX3_rains_0 : List UInt8 := [3, 61, 28, 42, 180, 0, 9, 16, 7, 46, 162, 0, 33, 27, 133, 42, 180, 0, 25, 28, 46, 133, 42]
abbrev dktX3_rains_0 : List UInt8 := dkwX3_rains_0 ++ dktX3_rains_1
theorem dksX3_rains_0 : cX3_rains.data.toList.drop 0 = dktX3_rains_0 := by decide +kernel
theorem dksX3_rains_1 : cX3_rains.data.toList.drop 23 = dktX3_rains_1 := dk_seg dksX3_rains_0 23 rfl rfl
theorem dX3_rains_0 : decode cX3_rains 0 = .ok (.iconst 0, 1) := dk_3 (dk_at dksX3_rains_0 0 rfl rfl)
theorem dX3_rains_1 : decode cX3_rains 1 = .ok (.istore_n 2, 1) := dk_61 (dk_at dksX3_rains_0 1 rfl rfl)
theorem dX3_rains_2 : decode cX3_rains 2 = .ok (.iload_n 2, 1) := dk_28 (dk_at dksX3_rains_0 2 rfl rfl)
theorem dX3_rains_3 : decode cX3_rains 3 = .ok (.aload_n 0, 1) := dk_42 (dk_at dksX3_rains_0 3 rfl rfl)
theorem dX3_rains_4 : decode cX3_rains 4 = .ok (.getfield 9, 3) := dk_180 0 9 (dk_at dksX3_rains_0 4 rfl rfl)
theorem dX3_rains_7 : decode cX3_rains 7 = .ok (.bipush 7, 2) := dk_16 7 (dk_at dksX3_rains_0 7 rfl rfl)
theorem dX3_rains_9 : decode cX3_rains 9 = .ok (.iaload, 1) := dk_46 (dk_at dksX3_rains_0 9 rfl rfl)
theorem dX3_rains_10 : decode cX3_rains 10 = .ok (.if_icmp .ge 33, 3) := dk_162 0 33 (dk_at dksX3_rains_0 10 rfl rfl)
theorem dX3_rains_13 : decode cX3_rains 13 = .ok (.iload_n 1, 1) := dk_27 (dk_at dksX3_rains_0 13 rfl rfl)
theorem dX3_rains_14 : decode cX3_rains 14 = .ok (.i2l, 1) := dk_133 (dk_at dksX3_rains_0 14 rfl rfl)
theorem dX3_rains_15 : decode cX3_rains 15 = .ok (.aload_n 0, 1) := dk_42 (dk_at dksX3_rains_0 15 rfl rfl)
theorem dX3_rains_16 : decode cX3_rains 16 = .ok (.getfield 25, 3) := dk_180 0 25 (dk_at dksX3_rains_0 16 rfl rfl)
theorem dX3_rains_19 : decode cX3_rains 19 = .ok (.iload_n 2, 1) := dk_28 (dk_at dksX3_rains_0 19 rfl rfl)
theorem dX3_rains_20 : decode cX3_rains 20 = .ok (.iaload, 1) := dk_46 (dk_at dksX3_rains_0 20 rfl rfl)
theorem dX3_rains_21 : decode cX3_rains 21 = .ok (.i2l, 1) := dk_133 (dk_at dksX3_rains_0 21 rfl rfl)
theorem dX3_rains_22 : decode cX3_rains 22 = .ok (.aload_n 0, 1) := dk_42 (dk_at dksX3_rains_0 22 rfl rfl)
theorem dX3_rains_23 : decode cX3_rains 23 = .ok (.getfield 28, 3) := dk_180 0 28 (dk_at dksX3_rains_1 0 rfl rfl)
theorem dX3_rains_26 : decode cX3_rains 26 = .ok (.iload_n 2, 1) := dk_28 (dk_at dksX3_rains_1 3 rfl rfl)
theorem dX3_rains_27 : decode cX3_rains 27 = .ok (.iaload, 1) := dk_46 (dk_at dksX3_rains_1 4 rfl rfl)
theorem dX3_rains_28 : decode cX3_rains 28 = .ok (.i2l, 1) := dk_133 (dk_at dksX3_rains_1 5 rfl rfl)
theorem dX3_rains_29 : decode cX3_rains 29 = .ok (.invokestatic 164, 3) := dk_184 0 164 (dk_at dksX3_rains_1 6 rfl rfl)
theorem dX3_rains_32 : decode cX3_rains 32 = .ok (.ifCond .eq 5, 3) := dk_153 0 5 (dk_at dksX3_rains_1 9 rfl rfl)
theorem dX3_rains_35 : decode cX3_rains 35 = .ok (.iconst 1, 1) := dk_4 (dk_at dksX3_rains_1 12 rfl rfl)
theorem dX3_rains_36 : decode cX3_rains 36 = .ok (.ireturn, 1) := dk_172 (dk_at dksX3_rains_1 13 rfl rfl)
theorem dX3_rains_37 : decode cX3_rains 37 = .ok (.iinc 2 1, 3) := dk_132 2 1 (dk_at dksX3_rains_1 14 rfl rfl)
theorem dX3_rains_40 : decode cX3_rains 40 = .ok (.goto (-38), 3) := dk_167 255 218 (dk_at dksX3_rains_1 17 rfl rfl)
theorem dX3_rains_43 : decode cX3_rains 43 = .ok (.iconst 0, 1) := dk_3 (dk_at dksX3_rains_1 20 rfl rfl)
theorem dX3_rains_44 : decode cX3_rains 44 = .ok (.ireturn, 1) := dk_172 (dk_at dksX3_rains_1 21 rfl rfl)
abbrev cX3_undo : ByteArray := prog_17_method_83_code
def yX3_undo : MethodName := ⟨RX3, "undo", "()I"⟩
def dkwX3_undo_1 : List UInt8 := [180, 1, 93, 4, 182, 1, 218, 42, 180, 1, 93, 172]
abbrev dktX3_undo_1 : List UInt8 := dkwX3_undo_1 ++ []
def dkwX3_undo_0 : List UInt8 := [42, 180, 1, 93, 154, 0, 6, 16, 254, 172, 42, 89, 180, 1, 93, 4, 100, 181, 1, 93, 42, 42]
abbrev dktX3_undo_0 : List UInt8 := dkwX3_undo_0 ++ dktX3_undo_1
theorem dksX3_undo_0 : cX3_undo.data.toList.drop 0 = dktX3_undo_0 := by decide +kernel
theorem dksX3_undo_1 : cX3_undo.data.toList.drop 22 = dktX3_undo_1 := dk_seg dksX3_undo_0 22 rfl rfl
theorem dX3_undo_0 : decode cX3_undo 0 = .ok (.aload_n 0, 1) := dk_42 (dk_at dksX3_undo_0 0 rfl rfl)
theorem dX3_undo_1 : decode cX3_undo 1 = .ok (.getfield 349, 3) := dk_180 1 93 (dk_at dksX3_undo_0 1 rfl rfl)
theorem dX3_undo_4 : decode cX3_undo 4 = .ok (.ifCond .ne 6, 3) := dk_154 0 6 (dk_at dksX3_undo_0 4 rfl rfl)
theorem dX3_undo_7 : decode cX3_undo 7 = .ok (.bipush (-2), 2) := dk_16 254 (dk_at dksX3_undo_0 7 rfl rfl)
theorem dX3_undo_9 : decode cX3_undo 9 = .ok (.ireturn, 1) := dk_172 (dk_at dksX3_undo_0 9 rfl rfl)
theorem dX3_undo_10 : decode cX3_undo 10 = .ok (.aload_n 0, 1) := dk_42 (dk_at dksX3_undo_0 10 rfl rfl)
theorem dX3_undo_11 : decode cX3_undo 11 = .ok (.dup, 1) := dk_89 (dk_at dksX3_undo_0 11 rfl rfl)
theorem dX3_undo_12 : decode cX3_undo 12 = .ok (.getfield 349, 3) := dk_180 1 93 (dk_at dksX3_undo_0 12 rfl rfl)
theorem dX3_undo_15 : decode cX3_undo 15 = .ok (.iconst 1, 1) := dk_4 (dk_at dksX3_undo_0 15 rfl rfl)
theorem dX3_undo_16 : decode cX3_undo 16 = .ok (.isub, 1) := dk_100 (dk_at dksX3_undo_0 16 rfl rfl)
theorem dX3_undo_17 : decode cX3_undo 17 = .ok (.putfield 349, 3) := dk_181 1 93 (dk_at dksX3_undo_0 17 rfl rfl)
theorem dX3_undo_20 : decode cX3_undo 20 = .ok (.aload_n 0, 1) := dk_42 (dk_at dksX3_undo_0 20 rfl rfl)
theorem dX3_undo_21 : decode cX3_undo 21 = .ok (.aload_n 0, 1) := dk_42 (dk_at dksX3_undo_0 21 rfl rfl)
theorem dX3_undo_22 : decode cX3_undo 22 = .ok (.getfield 349, 3) := dk_180 1 93 (dk_at dksX3_undo_1 0 rfl rfl)
theorem dX3_undo_25 : decode cX3_undo 25 = .ok (.iconst 1, 1) := dk_4 (dk_at dksX3_undo_1 3 rfl rfl)
theorem dX3_undo_26 : decode cX3_undo 26 = .ok (.invokevirtual 474, 3) := dk_182 1 218 (dk_at dksX3_undo_1 4 rfl rfl)
theorem dX3_undo_29 : decode cX3_undo 29 = .ok (.aload_n 0, 1) := dk_42 (dk_at dksX3_undo_1 7 rfl rfl)
theorem dX3_undo_30 : decode cX3_undo 30 = .ok (.getfield 349, 3) := dk_180 1 93 (dk_at dksX3_undo_1 8 rfl rfl)
theorem dX3_undo_33 : decode cX3_undo 33 = .ok (.ireturn, 1) := dk_172 (dk_at dksX3_undo_1 11 rfl rfl)
abbrev cX3_movesAll : ByteArray := prog_17_method_81_code
def yX3_movesAll : MethodName := ⟨RX3, "movesAll", "(IZ)V"⟩
def dkwX3_movesAll_3 : List UInt8 := [180, 0, 34, 182, 1, 214, 42, 42, 180, 0, 37, 182, 1, 214, 177]
abbrev dktX3_movesAll_3 : List UInt8 := dkwX3_movesAll_3 ++ []
def dkwX3_movesAll_2 : List UInt8 := [182, 1, 211, 79, 42, 42, 180, 0, 22, 182, 1, 214, 42, 42, 180, 0, 31, 182, 1, 214, 42, 42]
abbrev dktX3_movesAll_2 : List UInt8 := dkwX3_movesAll_2 ++ dktX3_movesAll_3
def dkwX3_movesAll_1 : List UInt8 := [180, 0, 9, 16, 8, 46, 182, 1, 211, 79, 42, 180, 0, 9, 16, 9, 42, 42, 180, 0, 9, 16, 9, 46]
abbrev dktX3_movesAll_1 : List UInt8 := dkwX3_movesAll_1 ++ dktX3_movesAll_2
def dkwX3_movesAll_0 : List UInt8 := [42, 17, 0, 182, 27, 104, 181, 1, 208, 42, 28, 181, 1, 204, 42, 180, 0, 9, 16, 8, 42, 42]
abbrev dktX3_movesAll_0 : List UInt8 := dkwX3_movesAll_0 ++ dktX3_movesAll_1
theorem dksX3_movesAll_0 : cX3_movesAll.data.toList.drop 0 = dktX3_movesAll_0 := by decide +kernel
theorem dksX3_movesAll_1 : cX3_movesAll.data.toList.drop 22 = dktX3_movesAll_1 := dk_seg dksX3_movesAll_0 22 rfl rfl
theorem dksX3_movesAll_2 : cX3_movesAll.data.toList.drop 46 = dktX3_movesAll_2 := dk_seg dksX3_movesAll_1 24 rfl rfl
theorem dksX3_movesAll_3 : cX3_movesAll.data.toList.drop 68 = dktX3_movesAll_3 := dk_seg dksX3_movesAll_2 22 rfl rfl
theorem dX3_movesAll_0 : decode cX3_movesAll 0 = .ok (.aload_n 0, 1) := dk_42 (dk_at dksX3_movesAll_0 0 rfl rfl)
theorem dX3_movesAll_1 : decode cX3_movesAll 1 = .ok (.sipush 182, 3) := dk_17 0 182 (dk_at dksX3_movesAll_0 1 rfl rfl)
theorem dX3_movesAll_4 : decode cX3_movesAll 4 = .ok (.iload_n 1, 1) := dk_27 (dk_at dksX3_movesAll_0 4 rfl rfl)
theorem dX3_movesAll_5 : decode cX3_movesAll 5 = .ok (.imul, 1) := dk_104 (dk_at dksX3_movesAll_0 5 rfl rfl)
theorem dX3_movesAll_6 : decode cX3_movesAll 6 = .ok (.putfield 464, 3) := dk_181 1 208 (dk_at dksX3_movesAll_0 6 rfl rfl)
theorem dX3_movesAll_9 : decode cX3_movesAll 9 = .ok (.aload_n 0, 1) := dk_42 (dk_at dksX3_movesAll_0 9 rfl rfl)
theorem dX3_movesAll_10 : decode cX3_movesAll 10 = .ok (.iload_n 2, 1) := dk_28 (dk_at dksX3_movesAll_0 10 rfl rfl)
theorem dX3_movesAll_11 : decode cX3_movesAll 11 = .ok (.putfield 460, 3) := dk_181 1 204 (dk_at dksX3_movesAll_0 11 rfl rfl)
theorem dX3_movesAll_14 : decode cX3_movesAll 14 = .ok (.aload_n 0, 1) := dk_42 (dk_at dksX3_movesAll_0 14 rfl rfl)
theorem dX3_movesAll_15 : decode cX3_movesAll 15 = .ok (.getfield 9, 3) := dk_180 0 9 (dk_at dksX3_movesAll_0 15 rfl rfl)
theorem dX3_movesAll_18 : decode cX3_movesAll 18 = .ok (.bipush 8, 2) := dk_16 8 (dk_at dksX3_movesAll_0 18 rfl rfl)
theorem dX3_movesAll_20 : decode cX3_movesAll 20 = .ok (.aload_n 0, 1) := dk_42 (dk_at dksX3_movesAll_0 20 rfl rfl)
theorem dX3_movesAll_21 : decode cX3_movesAll 21 = .ok (.aload_n 0, 1) := dk_42 (dk_at dksX3_movesAll_0 21 rfl rfl)
theorem dX3_movesAll_22 : decode cX3_movesAll 22 = .ok (.getfield 9, 3) := dk_180 0 9 (dk_at dksX3_movesAll_1 0 rfl rfl)
theorem dX3_movesAll_25 : decode cX3_movesAll 25 = .ok (.bipush 8, 2) := dk_16 8 (dk_at dksX3_movesAll_1 3 rfl rfl)
theorem dX3_movesAll_27 : decode cX3_movesAll 27 = .ok (.iaload, 1) := dk_46 (dk_at dksX3_movesAll_1 5 rfl rfl)
theorem dX3_movesAll_28 : decode cX3_movesAll 28 = .ok (.invokevirtual 467, 3) := dk_182 1 211 (dk_at dksX3_movesAll_1 6 rfl rfl)
theorem dX3_movesAll_31 : decode cX3_movesAll 31 = .ok (.iastore, 1) := dk_79 (dk_at dksX3_movesAll_1 9 rfl rfl)
theorem dX3_movesAll_32 : decode cX3_movesAll 32 = .ok (.aload_n 0, 1) := dk_42 (dk_at dksX3_movesAll_1 10 rfl rfl)
theorem dX3_movesAll_33 : decode cX3_movesAll 33 = .ok (.getfield 9, 3) := dk_180 0 9 (dk_at dksX3_movesAll_1 11 rfl rfl)
theorem dX3_movesAll_36 : decode cX3_movesAll 36 = .ok (.bipush 9, 2) := dk_16 9 (dk_at dksX3_movesAll_1 14 rfl rfl)
theorem dX3_movesAll_38 : decode cX3_movesAll 38 = .ok (.aload_n 0, 1) := dk_42 (dk_at dksX3_movesAll_1 16 rfl rfl)
theorem dX3_movesAll_39 : decode cX3_movesAll 39 = .ok (.aload_n 0, 1) := dk_42 (dk_at dksX3_movesAll_1 17 rfl rfl)
theorem dX3_movesAll_40 : decode cX3_movesAll 40 = .ok (.getfield 9, 3) := dk_180 0 9 (dk_at dksX3_movesAll_1 18 rfl rfl)
theorem dX3_movesAll_43 : decode cX3_movesAll 43 = .ok (.bipush 9, 2) := dk_16 9 (dk_at dksX3_movesAll_1 21 rfl rfl)
theorem dX3_movesAll_45 : decode cX3_movesAll 45 = .ok (.iaload, 1) := dk_46 (dk_at dksX3_movesAll_1 23 rfl rfl)
theorem dX3_movesAll_46 : decode cX3_movesAll 46 = .ok (.invokevirtual 467, 3) := dk_182 1 211 (dk_at dksX3_movesAll_2 0 rfl rfl)
theorem dX3_movesAll_49 : decode cX3_movesAll 49 = .ok (.iastore, 1) := dk_79 (dk_at dksX3_movesAll_2 3 rfl rfl)
theorem dX3_movesAll_50 : decode cX3_movesAll 50 = .ok (.aload_n 0, 1) := dk_42 (dk_at dksX3_movesAll_2 4 rfl rfl)
theorem dX3_movesAll_51 : decode cX3_movesAll 51 = .ok (.aload_n 0, 1) := dk_42 (dk_at dksX3_movesAll_2 5 rfl rfl)
theorem dX3_movesAll_52 : decode cX3_movesAll 52 = .ok (.getfield 22, 3) := dk_180 0 22 (dk_at dksX3_movesAll_2 6 rfl rfl)
theorem dX3_movesAll_55 : decode cX3_movesAll 55 = .ok (.invokevirtual 470, 3) := dk_182 1 214 (dk_at dksX3_movesAll_2 9 rfl rfl)
theorem dX3_movesAll_58 : decode cX3_movesAll 58 = .ok (.aload_n 0, 1) := dk_42 (dk_at dksX3_movesAll_2 12 rfl rfl)
theorem dX3_movesAll_59 : decode cX3_movesAll 59 = .ok (.aload_n 0, 1) := dk_42 (dk_at dksX3_movesAll_2 13 rfl rfl)
theorem dX3_movesAll_60 : decode cX3_movesAll 60 = .ok (.getfield 31, 3) := dk_180 0 31 (dk_at dksX3_movesAll_2 14 rfl rfl)
theorem dX3_movesAll_63 : decode cX3_movesAll 63 = .ok (.invokevirtual 470, 3) := dk_182 1 214 (dk_at dksX3_movesAll_2 17 rfl rfl)
theorem dX3_movesAll_66 : decode cX3_movesAll 66 = .ok (.aload_n 0, 1) := dk_42 (dk_at dksX3_movesAll_2 20 rfl rfl)
theorem dX3_movesAll_67 : decode cX3_movesAll 67 = .ok (.aload_n 0, 1) := dk_42 (dk_at dksX3_movesAll_2 21 rfl rfl)
theorem dX3_movesAll_68 : decode cX3_movesAll 68 = .ok (.getfield 34, 3) := dk_180 0 34 (dk_at dksX3_movesAll_3 0 rfl rfl)
theorem dX3_movesAll_71 : decode cX3_movesAll 71 = .ok (.invokevirtual 470, 3) := dk_182 1 214 (dk_at dksX3_movesAll_3 3 rfl rfl)
theorem dX3_movesAll_74 : decode cX3_movesAll 74 = .ok (.aload_n 0, 1) := dk_42 (dk_at dksX3_movesAll_3 6 rfl rfl)
theorem dX3_movesAll_75 : decode cX3_movesAll 75 = .ok (.aload_n 0, 1) := dk_42 (dk_at dksX3_movesAll_3 7 rfl rfl)
theorem dX3_movesAll_76 : decode cX3_movesAll 76 = .ok (.getfield 37, 3) := dk_180 0 37 (dk_at dksX3_movesAll_3 8 rfl rfl)
theorem dX3_movesAll_79 : decode cX3_movesAll 79 = .ok (.invokevirtual 470, 3) := dk_182 1 214 (dk_at dksX3_movesAll_3 11 rfl rfl)
theorem dX3_movesAll_82 : decode cX3_movesAll 82 = .ok (.return_, 1) := dk_177 (dk_at dksX3_movesAll_3 14 rfl rfl)
abbrev cX3_moves : ByteArray := prog_17_method_79_code
def yX3_moves : MethodName := ⟨RX3, "moves", "(I)I"⟩
def dkwX3_moves_1 : List UInt8 := [180, 0, 130, 42, 180, 1, 208, 28, 79, 42, 89, 180, 1, 208, 4, 96, 181, 1, 208, 28, 172]
abbrev dktX3_moves_1 : List UInt8 := dkwX3_moves_1 ++ []
def dkwX3_moves_0 : List UInt8 := [42, 180, 1, 204, 153, 0, 15, 42, 180, 0, 130, 42, 180, 1, 208, 46, 167, 0, 4, 27, 61, 42]
abbrev dktX3_moves_0 : List UInt8 := dkwX3_moves_0 ++ dktX3_moves_1
theorem dksX3_moves_0 : cX3_moves.data.toList.drop 0 = dktX3_moves_0 := by decide +kernel
theorem dksX3_moves_1 : cX3_moves.data.toList.drop 22 = dktX3_moves_1 := dk_seg dksX3_moves_0 22 rfl rfl
theorem dX3_moves_0 : decode cX3_moves 0 = .ok (.aload_n 0, 1) := dk_42 (dk_at dksX3_moves_0 0 rfl rfl)
theorem dX3_moves_1 : decode cX3_moves 1 = .ok (.getfield 460, 3) := dk_180 1 204 (dk_at dksX3_moves_0 1 rfl rfl)
theorem dX3_moves_4 : decode cX3_moves 4 = .ok (.ifCond .eq 15, 3) := dk_153 0 15 (dk_at dksX3_moves_0 4 rfl rfl)
theorem dX3_moves_7 : decode cX3_moves 7 = .ok (.aload_n 0, 1) := dk_42 (dk_at dksX3_moves_0 7 rfl rfl)
theorem dX3_moves_8 : decode cX3_moves 8 = .ok (.getfield 130, 3) := dk_180 0 130 (dk_at dksX3_moves_0 8 rfl rfl)
theorem dX3_moves_11 : decode cX3_moves 11 = .ok (.aload_n 0, 1) := dk_42 (dk_at dksX3_moves_0 11 rfl rfl)
theorem dX3_moves_12 : decode cX3_moves 12 = .ok (.getfield 464, 3) := dk_180 1 208 (dk_at dksX3_moves_0 12 rfl rfl)
theorem dX3_moves_15 : decode cX3_moves 15 = .ok (.iaload, 1) := dk_46 (dk_at dksX3_moves_0 15 rfl rfl)
theorem dX3_moves_16 : decode cX3_moves 16 = .ok (.goto 4, 3) := dk_167 0 4 (dk_at dksX3_moves_0 16 rfl rfl)
theorem dX3_moves_19 : decode cX3_moves 19 = .ok (.iload_n 1, 1) := dk_27 (dk_at dksX3_moves_0 19 rfl rfl)
theorem dX3_moves_20 : decode cX3_moves 20 = .ok (.istore_n 2, 1) := dk_61 (dk_at dksX3_moves_0 20 rfl rfl)
theorem dX3_moves_21 : decode cX3_moves 21 = .ok (.aload_n 0, 1) := dk_42 (dk_at dksX3_moves_0 21 rfl rfl)
theorem dX3_moves_22 : decode cX3_moves 22 = .ok (.getfield 130, 3) := dk_180 0 130 (dk_at dksX3_moves_1 0 rfl rfl)
theorem dX3_moves_25 : decode cX3_moves 25 = .ok (.aload_n 0, 1) := dk_42 (dk_at dksX3_moves_1 3 rfl rfl)
theorem dX3_moves_26 : decode cX3_moves 26 = .ok (.getfield 464, 3) := dk_180 1 208 (dk_at dksX3_moves_1 4 rfl rfl)
theorem dX3_moves_29 : decode cX3_moves 29 = .ok (.iload_n 2, 1) := dk_28 (dk_at dksX3_moves_1 7 rfl rfl)
theorem dX3_moves_30 : decode cX3_moves 30 = .ok (.iastore, 1) := dk_79 (dk_at dksX3_moves_1 8 rfl rfl)
theorem dX3_moves_31 : decode cX3_moves 31 = .ok (.aload_n 0, 1) := dk_42 (dk_at dksX3_moves_1 9 rfl rfl)
theorem dX3_moves_32 : decode cX3_moves 32 = .ok (.dup, 1) := dk_89 (dk_at dksX3_moves_1 10 rfl rfl)
theorem dX3_moves_33 : decode cX3_moves 33 = .ok (.getfield 464, 3) := dk_180 1 208 (dk_at dksX3_moves_1 11 rfl rfl)
theorem dX3_moves_36 : decode cX3_moves 36 = .ok (.iconst 1, 1) := dk_4 (dk_at dksX3_moves_1 14 rfl rfl)
theorem dX3_moves_37 : decode cX3_moves 37 = .ok (.iadd, 1) := dk_96 (dk_at dksX3_moves_1 15 rfl rfl)
theorem dX3_moves_38 : decode cX3_moves 38 = .ok (.putfield 464, 3) := dk_181 1 208 (dk_at dksX3_moves_1 16 rfl rfl)
theorem dX3_moves_41 : decode cX3_moves 41 = .ok (.iload_n 2, 1) := dk_28 (dk_at dksX3_moves_1 19 rfl rfl)
theorem dX3_moves_42 : decode cX3_moves 42 = .ok (.ireturn, 1) := dk_172 (dk_at dksX3_moves_1 20 rfl rfl)
abbrev cX3_movesRow : ByteArray := prog_17_method_80_code
def yX3_movesRow : MethodName := ⟨RX3, "movesRow", "([I)V"⟩
def dkwX3_movesRow_1 : List UInt8 := [177]
abbrev dktX3_movesRow_1 : List UInt8 := dkwX3_movesRow_1 ++ []
def dkwX3_movesRow_0 : List UInt8 := [3, 61, 28, 43, 190, 162, 0, 19, 43, 28, 42, 43, 28, 46, 182, 1, 211, 79, 132, 2, 1, 167, 255, 237]
abbrev dktX3_movesRow_0 : List UInt8 := dkwX3_movesRow_0 ++ dktX3_movesRow_1
theorem dksX3_movesRow_0 : cX3_movesRow.data.toList.drop 0 = dktX3_movesRow_0 := by decide +kernel
theorem dksX3_movesRow_1 : cX3_movesRow.data.toList.drop 24 = dktX3_movesRow_1 := dk_seg dksX3_movesRow_0 24 rfl rfl
theorem dX3_movesRow_0 : decode cX3_movesRow 0 = .ok (.iconst 0, 1) := dk_3 (dk_at dksX3_movesRow_0 0 rfl rfl)
theorem dX3_movesRow_1 : decode cX3_movesRow 1 = .ok (.istore_n 2, 1) := dk_61 (dk_at dksX3_movesRow_0 1 rfl rfl)
theorem dX3_movesRow_2 : decode cX3_movesRow 2 = .ok (.iload_n 2, 1) := dk_28 (dk_at dksX3_movesRow_0 2 rfl rfl)
theorem dX3_movesRow_3 : decode cX3_movesRow 3 = .ok (.aload_n 1, 1) := dk_43 (dk_at dksX3_movesRow_0 3 rfl rfl)
theorem dX3_movesRow_4 : decode cX3_movesRow 4 = .ok (.arraylength, 1) := dk_190 (dk_at dksX3_movesRow_0 4 rfl rfl)
theorem dX3_movesRow_5 : decode cX3_movesRow 5 = .ok (.if_icmp .ge 19, 3) := dk_162 0 19 (dk_at dksX3_movesRow_0 5 rfl rfl)
theorem dX3_movesRow_8 : decode cX3_movesRow 8 = .ok (.aload_n 1, 1) := dk_43 (dk_at dksX3_movesRow_0 8 rfl rfl)
theorem dX3_movesRow_9 : decode cX3_movesRow 9 = .ok (.iload_n 2, 1) := dk_28 (dk_at dksX3_movesRow_0 9 rfl rfl)
theorem dX3_movesRow_10 : decode cX3_movesRow 10 = .ok (.aload_n 0, 1) := dk_42 (dk_at dksX3_movesRow_0 10 rfl rfl)
theorem dX3_movesRow_11 : decode cX3_movesRow 11 = .ok (.aload_n 1, 1) := dk_43 (dk_at dksX3_movesRow_0 11 rfl rfl)
theorem dX3_movesRow_12 : decode cX3_movesRow 12 = .ok (.iload_n 2, 1) := dk_28 (dk_at dksX3_movesRow_0 12 rfl rfl)
theorem dX3_movesRow_13 : decode cX3_movesRow 13 = .ok (.iaload, 1) := dk_46 (dk_at dksX3_movesRow_0 13 rfl rfl)
theorem dX3_movesRow_14 : decode cX3_movesRow 14 = .ok (.invokevirtual 467, 3) := dk_182 1 211 (dk_at dksX3_movesRow_0 14 rfl rfl)
theorem dX3_movesRow_17 : decode cX3_movesRow 17 = .ok (.iastore, 1) := dk_79 (dk_at dksX3_movesRow_0 17 rfl rfl)
theorem dX3_movesRow_18 : decode cX3_movesRow 18 = .ok (.iinc 2 1, 3) := dk_132 2 1 (dk_at dksX3_movesRow_0 18 rfl rfl)
theorem dX3_movesRow_21 : decode cX3_movesRow 21 = .ok (.goto (-19), 3) := dk_167 255 237 (dk_at dksX3_movesRow_0 21 rfl rfl)
theorem dX3_movesRow_24 : decode cX3_movesRow 24 = .ok (.return_, 1) := dk_177 (dk_at dksX3_movesRow_1 0 rfl rfl)
abbrev cX3_hour : ByteArray := prog_17_method_84_code
def yX3_hour : MethodName := ⟨RX3, "hour", "()I"⟩
def dkwX3_hour_1 : List UInt8 := [182, 1, 222, 42, 182, 1, 198, 60, 42, 182, 1, 201, 27, 172]
abbrev dktX3_hour_1 : List UInt8 := dkwX3_hour_1 ++ []
def dkwX3_hour_0 : List UInt8 := [42, 182, 1, 173, 153, 0, 16, 42, 180, 0, 9, 16, 9, 46, 17, 3, 231, 160, 0, 5, 2, 172, 42]
abbrev dktX3_hour_0 : List UInt8 := dkwX3_hour_0 ++ dktX3_hour_1
theorem dksX3_hour_0 : cX3_hour.data.toList.drop 0 = dktX3_hour_0 := by decide +kernel
theorem dksX3_hour_1 : cX3_hour.data.toList.drop 23 = dktX3_hour_1 := dk_seg dksX3_hour_0 23 rfl rfl
theorem dX3_hour_0 : decode cX3_hour 0 = .ok (.aload_n 0, 1) := dk_42 (dk_at dksX3_hour_0 0 rfl rfl)
theorem dX3_hour_1 : decode cX3_hour 1 = .ok (.invokevirtual 429, 3) := dk_182 1 173 (dk_at dksX3_hour_0 1 rfl rfl)
theorem dX3_hour_4 : decode cX3_hour 4 = .ok (.ifCond .eq 16, 3) := dk_153 0 16 (dk_at dksX3_hour_0 4 rfl rfl)
theorem dX3_hour_7 : decode cX3_hour 7 = .ok (.aload_n 0, 1) := dk_42 (dk_at dksX3_hour_0 7 rfl rfl)
theorem dX3_hour_8 : decode cX3_hour 8 = .ok (.getfield 9, 3) := dk_180 0 9 (dk_at dksX3_hour_0 8 rfl rfl)
theorem dX3_hour_11 : decode cX3_hour 11 = .ok (.bipush 9, 2) := dk_16 9 (dk_at dksX3_hour_0 11 rfl rfl)
theorem dX3_hour_13 : decode cX3_hour 13 = .ok (.iaload, 1) := dk_46 (dk_at dksX3_hour_0 13 rfl rfl)
theorem dX3_hour_14 : decode cX3_hour 14 = .ok (.sipush 999, 3) := dk_17 3 231 (dk_at dksX3_hour_0 14 rfl rfl)
theorem dX3_hour_17 : decode cX3_hour 17 = .ok (.if_icmp .ne 5, 3) := dk_160 0 5 (dk_at dksX3_hour_0 17 rfl rfl)
theorem dX3_hour_20 : decode cX3_hour 20 = .ok (.iconst (-1), 1) := dk_2 (dk_at dksX3_hour_0 20 rfl rfl)
theorem dX3_hour_21 : decode cX3_hour 21 = .ok (.ireturn, 1) := dk_172 (dk_at dksX3_hour_0 21 rfl rfl)
theorem dX3_hour_22 : decode cX3_hour 22 = .ok (.aload_n 0, 1) := dk_42 (dk_at dksX3_hour_0 22 rfl rfl)
theorem dX3_hour_23 : decode cX3_hour 23 = .ok (.invokevirtual 478, 3) := dk_182 1 222 (dk_at dksX3_hour_1 0 rfl rfl)
theorem dX3_hour_26 : decode cX3_hour 26 = .ok (.aload_n 0, 1) := dk_42 (dk_at dksX3_hour_1 3 rfl rfl)
theorem dX3_hour_27 : decode cX3_hour 27 = .ok (.invokevirtual 454, 3) := dk_182 1 198 (dk_at dksX3_hour_1 4 rfl rfl)
theorem dX3_hour_30 : decode cX3_hour 30 = .ok (.istore_n 1, 1) := dk_60 (dk_at dksX3_hour_1 7 rfl rfl)
theorem dX3_hour_31 : decode cX3_hour 31 = .ok (.aload_n 0, 1) := dk_42 (dk_at dksX3_hour_1 8 rfl rfl)
theorem dX3_hour_32 : decode cX3_hour 32 = .ok (.invokevirtual 457, 3) := dk_182 1 201 (dk_at dksX3_hour_1 9 rfl rfl)
theorem dX3_hour_35 : decode cX3_hour 35 = .ok (.iload_n 1, 1) := dk_27 (dk_at dksX3_hour_1 12 rfl rfl)
theorem dX3_hour_36 : decode cX3_hour 36 = .ok (.ireturn, 1) := dk_172 (dk_at dksX3_hour_1 13 rfl rfl)
abbrev cX3_keepsAct : ByteArray := prog_17_method_82_code
def yX3_keepsAct : MethodName := ⟨RX3, "keepsAct", "()V"⟩
def dkwX3_keepsAct_2 : List UInt8 := [100, 181, 1, 93, 42, 42, 180, 1, 93, 3, 182, 1, 218, 42, 89, 180, 1, 93, 4, 96, 181, 1, 93, 177]
abbrev dktX3_keepsAct_2 : List UInt8 := dkwX3_keepsAct_2 ++ []
def dkwX3_keepsAct_1 : List UInt8 := [27, 17, 0, 182, 100, 42, 180, 0, 130, 27, 46, 79, 132, 1, 1, 167, 255, 230, 42, 89, 180, 1, 93, 4]
abbrev dktX3_keepsAct_1 : List UInt8 := dkwX3_keepsAct_1 ++ dktX3_keepsAct_2
def dkwX3_keepsAct_0 : List UInt8 := [42, 180, 1, 93, 16, 20, 160, 0, 46, 17, 0, 182, 60, 27, 17, 14, 56, 162, 0, 25, 42, 180, 0, 130]
abbrev dktX3_keepsAct_0 : List UInt8 := dkwX3_keepsAct_0 ++ dktX3_keepsAct_1
theorem dksX3_keepsAct_0 : cX3_keepsAct.data.toList.drop 0 = dktX3_keepsAct_0 := by decide +kernel
theorem dksX3_keepsAct_1 : cX3_keepsAct.data.toList.drop 24 = dktX3_keepsAct_1 := dk_seg dksX3_keepsAct_0 24 rfl rfl
theorem dksX3_keepsAct_2 : cX3_keepsAct.data.toList.drop 48 = dktX3_keepsAct_2 := dk_seg dksX3_keepsAct_1 24 rfl rfl
theorem dX3_keepsAct_0 : decode cX3_keepsAct 0 = .ok (.aload_n 0, 1) := dk_42 (dk_at dksX3_keepsAct_0 0 rfl rfl)
theorem dX3_keepsAct_1 : decode cX3_keepsAct 1 = .ok (.getfield 349, 3) := dk_180 1 93 (dk_at dksX3_keepsAct_0 1 rfl rfl)
theorem dX3_keepsAct_4 : decode cX3_keepsAct 4 = .ok (.bipush 20, 2) := dk_16 20 (dk_at dksX3_keepsAct_0 4 rfl rfl)
theorem dX3_keepsAct_6 : decode cX3_keepsAct 6 = .ok (.if_icmp .ne 46, 3) := dk_160 0 46 (dk_at dksX3_keepsAct_0 6 rfl rfl)
theorem dX3_keepsAct_9 : decode cX3_keepsAct 9 = .ok (.sipush 182, 3) := dk_17 0 182 (dk_at dksX3_keepsAct_0 9 rfl rfl)
theorem dX3_keepsAct_12 : decode cX3_keepsAct 12 = .ok (.istore_n 1, 1) := dk_60 (dk_at dksX3_keepsAct_0 12 rfl rfl)
theorem dX3_keepsAct_13 : decode cX3_keepsAct 13 = .ok (.iload_n 1, 1) := dk_27 (dk_at dksX3_keepsAct_0 13 rfl rfl)
theorem dX3_keepsAct_14 : decode cX3_keepsAct 14 = .ok (.sipush 3640, 3) := dk_17 14 56 (dk_at dksX3_keepsAct_0 14 rfl rfl)
theorem dX3_keepsAct_17 : decode cX3_keepsAct 17 = .ok (.if_icmp .ge 25, 3) := dk_162 0 25 (dk_at dksX3_keepsAct_0 17 rfl rfl)
theorem dX3_keepsAct_20 : decode cX3_keepsAct 20 = .ok (.aload_n 0, 1) := dk_42 (dk_at dksX3_keepsAct_0 20 rfl rfl)
theorem dX3_keepsAct_21 : decode cX3_keepsAct 21 = .ok (.getfield 130, 3) := dk_180 0 130 (dk_at dksX3_keepsAct_0 21 rfl rfl)
theorem dX3_keepsAct_24 : decode cX3_keepsAct 24 = .ok (.iload_n 1, 1) := dk_27 (dk_at dksX3_keepsAct_1 0 rfl rfl)
theorem dX3_keepsAct_25 : decode cX3_keepsAct 25 = .ok (.sipush 182, 3) := dk_17 0 182 (dk_at dksX3_keepsAct_1 1 rfl rfl)
theorem dX3_keepsAct_28 : decode cX3_keepsAct 28 = .ok (.isub, 1) := dk_100 (dk_at dksX3_keepsAct_1 4 rfl rfl)
theorem dX3_keepsAct_29 : decode cX3_keepsAct 29 = .ok (.aload_n 0, 1) := dk_42 (dk_at dksX3_keepsAct_1 5 rfl rfl)
theorem dX3_keepsAct_30 : decode cX3_keepsAct 30 = .ok (.getfield 130, 3) := dk_180 0 130 (dk_at dksX3_keepsAct_1 6 rfl rfl)
theorem dX3_keepsAct_33 : decode cX3_keepsAct 33 = .ok (.iload_n 1, 1) := dk_27 (dk_at dksX3_keepsAct_1 9 rfl rfl)
theorem dX3_keepsAct_34 : decode cX3_keepsAct 34 = .ok (.iaload, 1) := dk_46 (dk_at dksX3_keepsAct_1 10 rfl rfl)
theorem dX3_keepsAct_35 : decode cX3_keepsAct 35 = .ok (.iastore, 1) := dk_79 (dk_at dksX3_keepsAct_1 11 rfl rfl)
theorem dX3_keepsAct_36 : decode cX3_keepsAct 36 = .ok (.iinc 1 1, 3) := dk_132 1 1 (dk_at dksX3_keepsAct_1 12 rfl rfl)
theorem dX3_keepsAct_39 : decode cX3_keepsAct 39 = .ok (.goto (-26), 3) := dk_167 255 230 (dk_at dksX3_keepsAct_1 15 rfl rfl)
theorem dX3_keepsAct_42 : decode cX3_keepsAct 42 = .ok (.aload_n 0, 1) := dk_42 (dk_at dksX3_keepsAct_1 18 rfl rfl)
theorem dX3_keepsAct_43 : decode cX3_keepsAct 43 = .ok (.dup, 1) := dk_89 (dk_at dksX3_keepsAct_1 19 rfl rfl)
theorem dX3_keepsAct_44 : decode cX3_keepsAct 44 = .ok (.getfield 349, 3) := dk_180 1 93 (dk_at dksX3_keepsAct_1 20 rfl rfl)
theorem dX3_keepsAct_47 : decode cX3_keepsAct 47 = .ok (.iconst 1, 1) := dk_4 (dk_at dksX3_keepsAct_1 23 rfl rfl)
theorem dX3_keepsAct_48 : decode cX3_keepsAct 48 = .ok (.isub, 1) := dk_100 (dk_at dksX3_keepsAct_2 0 rfl rfl)
theorem dX3_keepsAct_49 : decode cX3_keepsAct 49 = .ok (.putfield 349, 3) := dk_181 1 93 (dk_at dksX3_keepsAct_2 1 rfl rfl)
theorem dX3_keepsAct_52 : decode cX3_keepsAct 52 = .ok (.aload_n 0, 1) := dk_42 (dk_at dksX3_keepsAct_2 4 rfl rfl)
theorem dX3_keepsAct_53 : decode cX3_keepsAct 53 = .ok (.aload_n 0, 1) := dk_42 (dk_at dksX3_keepsAct_2 5 rfl rfl)
theorem dX3_keepsAct_54 : decode cX3_keepsAct 54 = .ok (.getfield 349, 3) := dk_180 1 93 (dk_at dksX3_keepsAct_2 6 rfl rfl)
theorem dX3_keepsAct_57 : decode cX3_keepsAct 57 = .ok (.iconst 0, 1) := dk_3 (dk_at dksX3_keepsAct_2 9 rfl rfl)
theorem dX3_keepsAct_58 : decode cX3_keepsAct 58 = .ok (.invokevirtual 474, 3) := dk_182 1 218 (dk_at dksX3_keepsAct_2 10 rfl rfl)
theorem dX3_keepsAct_61 : decode cX3_keepsAct 61 = .ok (.aload_n 0, 1) := dk_42 (dk_at dksX3_keepsAct_2 13 rfl rfl)
theorem dX3_keepsAct_62 : decode cX3_keepsAct 62 = .ok (.dup, 1) := dk_89 (dk_at dksX3_keepsAct_2 14 rfl rfl)
theorem dX3_keepsAct_63 : decode cX3_keepsAct 63 = .ok (.getfield 349, 3) := dk_180 1 93 (dk_at dksX3_keepsAct_2 15 rfl rfl)
theorem dX3_keepsAct_66 : decode cX3_keepsAct 66 = .ok (.iconst 1, 1) := dk_4 (dk_at dksX3_keepsAct_2 18 rfl rfl)
theorem dX3_keepsAct_67 : decode cX3_keepsAct 67 = .ok (.iadd, 1) := dk_96 (dk_at dksX3_keepsAct_2 19 rfl rfl)
theorem dX3_keepsAct_68 : decode cX3_keepsAct 68 = .ok (.putfield 349, 3) := dk_181 1 93 (dk_at dksX3_keepsAct_2 20 rfl rfl)
theorem dX3_keepsAct_71 : decode cX3_keepsAct 71 = .ok (.return_, 1) := dk_177 (dk_at dksX3_keepsAct_2 23 rfl rfl)
abbrev cX3_paintsAll : ByteArray := prog_17_method_75_code
def yX3_paintsAll : MethodName := ⟨RX3, "paintsAll", "()I"⟩
def dkwX3_paintsAll_2 : List UInt8 := [28, 92, 46, 42, 180, 0, 9, 5, 46, 100, 79, 132, 1, 1, 132, 2, 1, 167, 255, 197, 27, 172]
abbrev dktX3_paintsAll_2 : List UInt8 := dkwX3_paintsAll_2 ++ []
def dkwX3_paintsAll_1 : List UInt8 := [159, 0, 44, 42, 28, 182, 1, 189, 62, 29, 2, 159, 0, 27, 42, 29, 28, 182, 1, 192, 42, 180, 0, 22]
abbrev dktX3_paintsAll_1 : List UInt8 := dkwX3_paintsAll_1 ++ dktX3_paintsAll_2
def dkwX3_paintsAll_0 : List UInt8 := [3, 60, 3, 61, 28, 42, 180, 0, 9, 8, 46, 162, 0, 55, 42, 180, 0, 9, 16, 12, 46, 2]
abbrev dktX3_paintsAll_0 : List UInt8 := dkwX3_paintsAll_0 ++ dktX3_paintsAll_1
theorem dksX3_paintsAll_0 : cX3_paintsAll.data.toList.drop 0 = dktX3_paintsAll_0 := by decide +kernel
theorem dksX3_paintsAll_1 : cX3_paintsAll.data.toList.drop 22 = dktX3_paintsAll_1 := dk_seg dksX3_paintsAll_0 22 rfl rfl
theorem dksX3_paintsAll_2 : cX3_paintsAll.data.toList.drop 46 = dktX3_paintsAll_2 := dk_seg dksX3_paintsAll_1 24 rfl rfl
theorem dX3_paintsAll_0 : decode cX3_paintsAll 0 = .ok (.iconst 0, 1) := dk_3 (dk_at dksX3_paintsAll_0 0 rfl rfl)
theorem dX3_paintsAll_1 : decode cX3_paintsAll 1 = .ok (.istore_n 1, 1) := dk_60 (dk_at dksX3_paintsAll_0 1 rfl rfl)
theorem dX3_paintsAll_2 : decode cX3_paintsAll 2 = .ok (.iconst 0, 1) := dk_3 (dk_at dksX3_paintsAll_0 2 rfl rfl)
theorem dX3_paintsAll_3 : decode cX3_paintsAll 3 = .ok (.istore_n 2, 1) := dk_61 (dk_at dksX3_paintsAll_0 3 rfl rfl)
theorem dX3_paintsAll_4 : decode cX3_paintsAll 4 = .ok (.iload_n 2, 1) := dk_28 (dk_at dksX3_paintsAll_0 4 rfl rfl)
theorem dX3_paintsAll_5 : decode cX3_paintsAll 5 = .ok (.aload_n 0, 1) := dk_42 (dk_at dksX3_paintsAll_0 5 rfl rfl)
theorem dX3_paintsAll_6 : decode cX3_paintsAll 6 = .ok (.getfield 9, 3) := dk_180 0 9 (dk_at dksX3_paintsAll_0 6 rfl rfl)
theorem dX3_paintsAll_9 : decode cX3_paintsAll 9 = .ok (.iconst 5, 1) := dk_8 (dk_at dksX3_paintsAll_0 9 rfl rfl)
theorem dX3_paintsAll_10 : decode cX3_paintsAll 10 = .ok (.iaload, 1) := dk_46 (dk_at dksX3_paintsAll_0 10 rfl rfl)
theorem dX3_paintsAll_11 : decode cX3_paintsAll 11 = .ok (.if_icmp .ge 55, 3) := dk_162 0 55 (dk_at dksX3_paintsAll_0 11 rfl rfl)
theorem dX3_paintsAll_14 : decode cX3_paintsAll 14 = .ok (.aload_n 0, 1) := dk_42 (dk_at dksX3_paintsAll_0 14 rfl rfl)
theorem dX3_paintsAll_15 : decode cX3_paintsAll 15 = .ok (.getfield 9, 3) := dk_180 0 9 (dk_at dksX3_paintsAll_0 15 rfl rfl)
theorem dX3_paintsAll_18 : decode cX3_paintsAll 18 = .ok (.bipush 12, 2) := dk_16 12 (dk_at dksX3_paintsAll_0 18 rfl rfl)
theorem dX3_paintsAll_20 : decode cX3_paintsAll 20 = .ok (.iaload, 1) := dk_46 (dk_at dksX3_paintsAll_0 20 rfl rfl)
theorem dX3_paintsAll_21 : decode cX3_paintsAll 21 = .ok (.iconst (-1), 1) := dk_2 (dk_at dksX3_paintsAll_0 21 rfl rfl)
theorem dX3_paintsAll_22 : decode cX3_paintsAll 22 = .ok (.if_icmp .eq 44, 3) := dk_159 0 44 (dk_at dksX3_paintsAll_1 0 rfl rfl)
theorem dX3_paintsAll_25 : decode cX3_paintsAll 25 = .ok (.aload_n 0, 1) := dk_42 (dk_at dksX3_paintsAll_1 3 rfl rfl)
theorem dX3_paintsAll_26 : decode cX3_paintsAll 26 = .ok (.iload_n 2, 1) := dk_28 (dk_at dksX3_paintsAll_1 4 rfl rfl)
theorem dX3_paintsAll_27 : decode cX3_paintsAll 27 = .ok (.invokevirtual 445, 3) := dk_182 1 189 (dk_at dksX3_paintsAll_1 5 rfl rfl)
theorem dX3_paintsAll_30 : decode cX3_paintsAll 30 = .ok (.istore_n 3, 1) := dk_62 (dk_at dksX3_paintsAll_1 8 rfl rfl)
theorem dX3_paintsAll_31 : decode cX3_paintsAll 31 = .ok (.iload_n 3, 1) := dk_29 (dk_at dksX3_paintsAll_1 9 rfl rfl)
theorem dX3_paintsAll_32 : decode cX3_paintsAll 32 = .ok (.iconst (-1), 1) := dk_2 (dk_at dksX3_paintsAll_1 10 rfl rfl)
theorem dX3_paintsAll_33 : decode cX3_paintsAll 33 = .ok (.if_icmp .eq 27, 3) := dk_159 0 27 (dk_at dksX3_paintsAll_1 11 rfl rfl)
theorem dX3_paintsAll_36 : decode cX3_paintsAll 36 = .ok (.aload_n 0, 1) := dk_42 (dk_at dksX3_paintsAll_1 14 rfl rfl)
theorem dX3_paintsAll_37 : decode cX3_paintsAll 37 = .ok (.iload_n 3, 1) := dk_29 (dk_at dksX3_paintsAll_1 15 rfl rfl)
theorem dX3_paintsAll_38 : decode cX3_paintsAll 38 = .ok (.iload_n 2, 1) := dk_28 (dk_at dksX3_paintsAll_1 16 rfl rfl)
theorem dX3_paintsAll_39 : decode cX3_paintsAll 39 = .ok (.invokevirtual 448, 3) := dk_182 1 192 (dk_at dksX3_paintsAll_1 17 rfl rfl)
theorem dX3_paintsAll_42 : decode cX3_paintsAll 42 = .ok (.aload_n 0, 1) := dk_42 (dk_at dksX3_paintsAll_1 20 rfl rfl)
theorem dX3_paintsAll_43 : decode cX3_paintsAll 43 = .ok (.getfield 22, 3) := dk_180 0 22 (dk_at dksX3_paintsAll_1 21 rfl rfl)
theorem dX3_paintsAll_46 : decode cX3_paintsAll 46 = .ok (.iload_n 2, 1) := dk_28 (dk_at dksX3_paintsAll_2 0 rfl rfl)
theorem dX3_paintsAll_47 : decode cX3_paintsAll 47 = .ok (.dup2, 1) := dk_92 (dk_at dksX3_paintsAll_2 1 rfl rfl)
theorem dX3_paintsAll_48 : decode cX3_paintsAll 48 = .ok (.iaload, 1) := dk_46 (dk_at dksX3_paintsAll_2 2 rfl rfl)
theorem dX3_paintsAll_49 : decode cX3_paintsAll 49 = .ok (.aload_n 0, 1) := dk_42 (dk_at dksX3_paintsAll_2 3 rfl rfl)
theorem dX3_paintsAll_50 : decode cX3_paintsAll 50 = .ok (.getfield 9, 3) := dk_180 0 9 (dk_at dksX3_paintsAll_2 4 rfl rfl)
theorem dX3_paintsAll_53 : decode cX3_paintsAll 53 = .ok (.iconst 2, 1) := dk_5 (dk_at dksX3_paintsAll_2 7 rfl rfl)
theorem dX3_paintsAll_54 : decode cX3_paintsAll 54 = .ok (.iaload, 1) := dk_46 (dk_at dksX3_paintsAll_2 8 rfl rfl)
theorem dX3_paintsAll_55 : decode cX3_paintsAll 55 = .ok (.isub, 1) := dk_100 (dk_at dksX3_paintsAll_2 9 rfl rfl)
theorem dX3_paintsAll_56 : decode cX3_paintsAll 56 = .ok (.iastore, 1) := dk_79 (dk_at dksX3_paintsAll_2 10 rfl rfl)
theorem dX3_paintsAll_57 : decode cX3_paintsAll 57 = .ok (.iinc 1 1, 3) := dk_132 1 1 (dk_at dksX3_paintsAll_2 11 rfl rfl)
theorem dX3_paintsAll_60 : decode cX3_paintsAll 60 = .ok (.iinc 2 1, 3) := dk_132 2 1 (dk_at dksX3_paintsAll_2 14 rfl rfl)
theorem dX3_paintsAll_63 : decode cX3_paintsAll 63 = .ok (.goto (-59), 3) := dk_167 255 197 (dk_at dksX3_paintsAll_2 17 rfl rfl)
theorem dX3_paintsAll_66 : decode cX3_paintsAll 66 = .ok (.iload_n 1, 1) := dk_27 (dk_at dksX3_paintsAll_2 20 rfl rfl)
theorem dX3_paintsAll_67 : decode cX3_paintsAll 67 = .ok (.ireturn, 1) := dk_172 (dk_at dksX3_paintsAll_2 21 rfl rfl)
abbrev cX3_cellBy : ByteArray := prog_17_method_74_code
def yX3_cellBy : MethodName := ⟨RX3, "cellBy", "(I)I"⟩
def dkwX3_cellBy_2 : List UInt8 := [158, 0, 9, 21, 5, 61, 22, 6, 66, 132, 5, 1, 167, 255, 206, 28, 172]
abbrev dktX3_cellBy_2 : List UInt8 := dkwX3_cellBy_2 ++ []
def dkwX3_cellBy_1 : List UInt8 := [182, 1, 179, 153, 0, 29, 42, 27, 21, 5, 182, 1, 182, 42, 182, 1, 185, 55, 6, 22, 6, 33, 148]
abbrev dktX3_cellBy_1 : List UInt8 := dkwX3_cellBy_1 ++ dktX3_cellBy_2
def dkwX3_cellBy_0 : List UInt8 := [2, 61, 9, 66, 3, 54, 5, 21, 5, 42, 180, 0, 9, 7, 46, 162, 0, 45, 42, 21, 5, 27]
abbrev dktX3_cellBy_0 : List UInt8 := dkwX3_cellBy_0 ++ dktX3_cellBy_1
theorem dksX3_cellBy_0 : cX3_cellBy.data.toList.drop 0 = dktX3_cellBy_0 := by decide +kernel
theorem dksX3_cellBy_1 : cX3_cellBy.data.toList.drop 22 = dktX3_cellBy_1 := dk_seg dksX3_cellBy_0 22 rfl rfl
theorem dksX3_cellBy_2 : cX3_cellBy.data.toList.drop 45 = dktX3_cellBy_2 := dk_seg dksX3_cellBy_1 23 rfl rfl
theorem dX3_cellBy_0 : decode cX3_cellBy 0 = .ok (.iconst (-1), 1) := dk_2 (dk_at dksX3_cellBy_0 0 rfl rfl)
theorem dX3_cellBy_1 : decode cX3_cellBy 1 = .ok (.istore_n 2, 1) := dk_61 (dk_at dksX3_cellBy_0 1 rfl rfl)
theorem dX3_cellBy_2 : decode cX3_cellBy 2 = .ok (.lconst 0, 1) := dk_9 (dk_at dksX3_cellBy_0 2 rfl rfl)
theorem dX3_cellBy_3 : decode cX3_cellBy 3 = .ok (.lstore_n 3, 1) := dk_66 (dk_at dksX3_cellBy_0 3 rfl rfl)
theorem dX3_cellBy_4 : decode cX3_cellBy 4 = .ok (.iconst 0, 1) := dk_3 (dk_at dksX3_cellBy_0 4 rfl rfl)
theorem dX3_cellBy_5 : decode cX3_cellBy 5 = .ok (.istore 5, 2) := dk_54 5 (dk_at dksX3_cellBy_0 5 rfl rfl)
theorem dX3_cellBy_7 : decode cX3_cellBy 7 = .ok (.iload 5, 2) := dk_21 5 (dk_at dksX3_cellBy_0 7 rfl rfl)
theorem dX3_cellBy_9 : decode cX3_cellBy 9 = .ok (.aload_n 0, 1) := dk_42 (dk_at dksX3_cellBy_0 9 rfl rfl)
theorem dX3_cellBy_10 : decode cX3_cellBy 10 = .ok (.getfield 9, 3) := dk_180 0 9 (dk_at dksX3_cellBy_0 10 rfl rfl)
theorem dX3_cellBy_13 : decode cX3_cellBy 13 = .ok (.iconst 4, 1) := dk_7 (dk_at dksX3_cellBy_0 13 rfl rfl)
theorem dX3_cellBy_14 : decode cX3_cellBy 14 = .ok (.iaload, 1) := dk_46 (dk_at dksX3_cellBy_0 14 rfl rfl)
theorem dX3_cellBy_15 : decode cX3_cellBy 15 = .ok (.if_icmp .ge 45, 3) := dk_162 0 45 (dk_at dksX3_cellBy_0 15 rfl rfl)
theorem dX3_cellBy_18 : decode cX3_cellBy 18 = .ok (.aload_n 0, 1) := dk_42 (dk_at dksX3_cellBy_0 18 rfl rfl)
theorem dX3_cellBy_19 : decode cX3_cellBy 19 = .ok (.iload 5, 2) := dk_21 5 (dk_at dksX3_cellBy_0 19 rfl rfl)
theorem dX3_cellBy_21 : decode cX3_cellBy 21 = .ok (.iload_n 1, 1) := dk_27 (dk_at dksX3_cellBy_0 21 rfl rfl)
theorem dX3_cellBy_22 : decode cX3_cellBy 22 = .ok (.invokevirtual 435, 3) := dk_182 1 179 (dk_at dksX3_cellBy_1 0 rfl rfl)
theorem dX3_cellBy_25 : decode cX3_cellBy 25 = .ok (.ifCond .eq 29, 3) := dk_153 0 29 (dk_at dksX3_cellBy_1 3 rfl rfl)
theorem dX3_cellBy_28 : decode cX3_cellBy 28 = .ok (.aload_n 0, 1) := dk_42 (dk_at dksX3_cellBy_1 6 rfl rfl)
theorem dX3_cellBy_29 : decode cX3_cellBy 29 = .ok (.iload_n 1, 1) := dk_27 (dk_at dksX3_cellBy_1 7 rfl rfl)
theorem dX3_cellBy_30 : decode cX3_cellBy 30 = .ok (.iload 5, 2) := dk_21 5 (dk_at dksX3_cellBy_1 8 rfl rfl)
theorem dX3_cellBy_32 : decode cX3_cellBy 32 = .ok (.invokevirtual 438, 3) := dk_182 1 182 (dk_at dksX3_cellBy_1 10 rfl rfl)
theorem dX3_cellBy_35 : decode cX3_cellBy 35 = .ok (.aload_n 0, 1) := dk_42 (dk_at dksX3_cellBy_1 13 rfl rfl)
theorem dX3_cellBy_36 : decode cX3_cellBy 36 = .ok (.invokevirtual 441, 3) := dk_182 1 185 (dk_at dksX3_cellBy_1 14 rfl rfl)
theorem dX3_cellBy_39 : decode cX3_cellBy 39 = .ok (.lstore 6, 2) := dk_55 6 (dk_at dksX3_cellBy_1 17 rfl rfl)
theorem dX3_cellBy_41 : decode cX3_cellBy 41 = .ok (.lload 6, 2) := dk_22 6 (dk_at dksX3_cellBy_1 19 rfl rfl)
theorem dX3_cellBy_43 : decode cX3_cellBy 43 = .ok (.lload_n 3, 1) := dk_33 (dk_at dksX3_cellBy_1 21 rfl rfl)
theorem dX3_cellBy_44 : decode cX3_cellBy 44 = .ok (.lcmp, 1) := dk_148 (dk_at dksX3_cellBy_1 22 rfl rfl)
theorem dX3_cellBy_45 : decode cX3_cellBy 45 = .ok (.ifCond .le 9, 3) := dk_158 0 9 (dk_at dksX3_cellBy_2 0 rfl rfl)
theorem dX3_cellBy_48 : decode cX3_cellBy 48 = .ok (.iload 5, 2) := dk_21 5 (dk_at dksX3_cellBy_2 3 rfl rfl)
theorem dX3_cellBy_50 : decode cX3_cellBy 50 = .ok (.istore_n 2, 1) := dk_61 (dk_at dksX3_cellBy_2 5 rfl rfl)
theorem dX3_cellBy_51 : decode cX3_cellBy 51 = .ok (.lload 6, 2) := dk_22 6 (dk_at dksX3_cellBy_2 6 rfl rfl)
theorem dX3_cellBy_53 : decode cX3_cellBy 53 = .ok (.lstore_n 3, 1) := dk_66 (dk_at dksX3_cellBy_2 8 rfl rfl)
theorem dX3_cellBy_54 : decode cX3_cellBy 54 = .ok (.iinc 5 1, 3) := dk_132 5 1 (dk_at dksX3_cellBy_2 9 rfl rfl)
theorem dX3_cellBy_57 : decode cX3_cellBy 57 = .ok (.goto (-50), 3) := dk_167 255 206 (dk_at dksX3_cellBy_2 12 rfl rfl)
theorem dX3_cellBy_60 : decode cX3_cellBy 60 = .ok (.iload_n 2, 1) := dk_28 (dk_at dksX3_cellBy_2 15 rfl rfl)
theorem dX3_cellBy_61 : decode cX3_cellBy 61 = .ok (.ireturn, 1) := dk_172 (dk_at dksX3_cellBy_2 16 rfl rfl)
abbrev cX3_canPaint : ByteArray := prog_17_method_72_code
def yX3_canPaint : MethodName := ⟨RX3, "canPaint", "(II)Z"⟩
def dkwX3_canPaint_1 : List UInt8 := [161, 0, 7, 4, 167, 0, 4, 3, 172]
abbrev dktX3_canPaint_1 : List UInt8 := dkwX3_canPaint_1 ++ []
def dkwX3_canPaint_0 : List UInt8 := [42, 42, 27, 182, 1, 152, 182, 1, 80, 154, 0, 22, 42, 180, 0, 22, 28, 46, 42, 180, 0, 9, 5, 46]
abbrev dktX3_canPaint_0 : List UInt8 := dkwX3_canPaint_0 ++ dktX3_canPaint_1
theorem dksX3_canPaint_0 : cX3_canPaint.data.toList.drop 0 = dktX3_canPaint_0 := by decide +kernel
theorem dksX3_canPaint_1 : cX3_canPaint.data.toList.drop 24 = dktX3_canPaint_1 := dk_seg dksX3_canPaint_0 24 rfl rfl
theorem dX3_canPaint_0 : decode cX3_canPaint 0 = .ok (.aload_n 0, 1) := dk_42 (dk_at dksX3_canPaint_0 0 rfl rfl)
theorem dX3_canPaint_1 : decode cX3_canPaint 1 = .ok (.aload_n 0, 1) := dk_42 (dk_at dksX3_canPaint_0 1 rfl rfl)
theorem dX3_canPaint_2 : decode cX3_canPaint 2 = .ok (.iload_n 1, 1) := dk_27 (dk_at dksX3_canPaint_0 2 rfl rfl)
theorem dX3_canPaint_3 : decode cX3_canPaint 3 = .ok (.invokevirtual 408, 3) := dk_182 1 152 (dk_at dksX3_canPaint_0 3 rfl rfl)
theorem dX3_canPaint_6 : decode cX3_canPaint 6 = .ok (.invokevirtual 336, 3) := dk_182 1 80 (dk_at dksX3_canPaint_0 6 rfl rfl)
theorem dX3_canPaint_9 : decode cX3_canPaint 9 = .ok (.ifCond .ne 22, 3) := dk_154 0 22 (dk_at dksX3_canPaint_0 9 rfl rfl)
theorem dX3_canPaint_12 : decode cX3_canPaint 12 = .ok (.aload_n 0, 1) := dk_42 (dk_at dksX3_canPaint_0 12 rfl rfl)
theorem dX3_canPaint_13 : decode cX3_canPaint 13 = .ok (.getfield 22, 3) := dk_180 0 22 (dk_at dksX3_canPaint_0 13 rfl rfl)
theorem dX3_canPaint_16 : decode cX3_canPaint 16 = .ok (.iload_n 2, 1) := dk_28 (dk_at dksX3_canPaint_0 16 rfl rfl)
theorem dX3_canPaint_17 : decode cX3_canPaint 17 = .ok (.iaload, 1) := dk_46 (dk_at dksX3_canPaint_0 17 rfl rfl)
theorem dX3_canPaint_18 : decode cX3_canPaint 18 = .ok (.aload_n 0, 1) := dk_42 (dk_at dksX3_canPaint_0 18 rfl rfl)
theorem dX3_canPaint_19 : decode cX3_canPaint 19 = .ok (.getfield 9, 3) := dk_180 0 9 (dk_at dksX3_canPaint_0 19 rfl rfl)
theorem dX3_canPaint_22 : decode cX3_canPaint 22 = .ok (.iconst 2, 1) := dk_5 (dk_at dksX3_canPaint_0 22 rfl rfl)
theorem dX3_canPaint_23 : decode cX3_canPaint 23 = .ok (.iaload, 1) := dk_46 (dk_at dksX3_canPaint_0 23 rfl rfl)
theorem dX3_canPaint_24 : decode cX3_canPaint 24 = .ok (.if_icmp .lt 7, 3) := dk_161 0 7 (dk_at dksX3_canPaint_1 0 rfl rfl)
theorem dX3_canPaint_27 : decode cX3_canPaint 27 = .ok (.iconst 1, 1) := dk_4 (dk_at dksX3_canPaint_1 3 rfl rfl)
theorem dX3_canPaint_28 : decode cX3_canPaint 28 = .ok (.goto 4, 3) := dk_167 0 4 (dk_at dksX3_canPaint_1 4 rfl rfl)
theorem dX3_canPaint_31 : decode cX3_canPaint 31 = .ok (.iconst 0, 1) := dk_3 (dk_at dksX3_canPaint_1 7 rfl rfl)
theorem dX3_canPaint_32 : decode cX3_canPaint 32 = .ok (.ireturn, 1) := dk_172 (dk_at dksX3_canPaint_1 8 rfl rfl)
abbrev cX3_asks : ByteArray := prog_17_method_73_code
def yX3_asks : MethodName := ⟨RX3, "asks", "(II)V"⟩
def dkwX3_asks_8 : List UInt8 := [153, 0, 7, 10, 167, 0, 4, 9, 80, 177]
abbrev dktX3_asks_8 : List UInt8 := dkwX3_asks_8 ++ []
def dkwX3_asks_7 : List UInt8 := [16, 9, 46, 133, 80, 42, 180, 0, 117, 16, 12, 42, 42, 180, 0, 9, 16, 9, 46, 182, 1, 176]
abbrev dktX3_asks_7 : List UInt8 := dkwX3_asks_7 ++ dktX3_asks_8
def dkwX3_asks_6 : List UInt8 := [42, 180, 0, 117, 16, 10, 42, 180, 0, 22, 27, 46, 133, 80, 42, 180, 0, 117, 16, 11, 42, 180, 0, 9]
abbrev dktX3_asks_6 : List UInt8 := dkwX3_asks_6 ++ dktX3_asks_7
def dkwX3_asks_5 : List UInt8 := [16, 7, 42, 180, 0, 124, 27, 46, 133, 80, 42, 180, 0, 117, 16, 9, 42, 180, 0, 31, 28, 46, 133, 80]
abbrev dktX3_asks_5 : List UInt8 := dkwX3_asks_5 ++ dktX3_asks_6
def dkwX3_asks_4 : List UInt8 := [42, 29, 182, 1, 164, 133, 80, 42, 29, 42, 180, 0, 9, 16, 9, 46, 3, 182, 1, 136, 42, 180, 0, 117]
abbrev dktX3_asks_4 : List UInt8 := dkwX3_asks_4 ++ dktX3_asks_5
def dkwX3_asks_3 : List UInt8 := [167, 0, 4, 9, 80, 42, 180, 0, 117, 16, 6, 42, 28, 182, 1, 146, 133, 80, 42, 180, 0, 117, 16, 8]
abbrev dktX3_asks_3 : List UInt8 := dkwX3_asks_3 ++ dktX3_asks_4
def dkwX3_asks_2 : List UInt8 := [7, 42, 28, 182, 1, 155, 133, 80, 42, 180, 0, 117, 8, 42, 28, 182, 1, 158, 153, 0, 7, 10]
abbrev dktX3_asks_2 : List UInt8 := dkwX3_asks_2 ++ dktX3_asks_3
def dkwX3_asks_1 : List UInt8 := [180, 0, 117, 5, 29, 133, 80, 42, 180, 0, 117, 6, 42, 180, 0, 16, 29, 46, 133, 80, 42, 180, 0, 117]
abbrev dktX3_asks_1 : List UInt8 := dkwX3_asks_1 ++ dktX3_asks_2
def dkwX3_asks_0 : List UInt8 := [42, 28, 182, 1, 152, 62, 42, 180, 0, 117, 3, 27, 133, 80, 42, 180, 0, 117, 4, 28, 133, 80, 42]
abbrev dktX3_asks_0 : List UInt8 := dkwX3_asks_0 ++ dktX3_asks_1
theorem dksX3_asks_0 : cX3_asks.data.toList.drop 0 = dktX3_asks_0 := by decide +kernel
theorem dksX3_asks_1 : cX3_asks.data.toList.drop 23 = dktX3_asks_1 := dk_seg dksX3_asks_0 23 rfl rfl
theorem dksX3_asks_2 : cX3_asks.data.toList.drop 47 = dktX3_asks_2 := dk_seg dksX3_asks_1 24 rfl rfl
theorem dksX3_asks_3 : cX3_asks.data.toList.drop 69 = dktX3_asks_3 := dk_seg dksX3_asks_2 22 rfl rfl
theorem dksX3_asks_4 : cX3_asks.data.toList.drop 93 = dktX3_asks_4 := dk_seg dksX3_asks_3 24 rfl rfl
theorem dksX3_asks_5 : cX3_asks.data.toList.drop 117 = dktX3_asks_5 := dk_seg dksX3_asks_4 24 rfl rfl
theorem dksX3_asks_6 : cX3_asks.data.toList.drop 141 = dktX3_asks_6 := dk_seg dksX3_asks_5 24 rfl rfl
theorem dksX3_asks_7 : cX3_asks.data.toList.drop 165 = dktX3_asks_7 := dk_seg dksX3_asks_6 24 rfl rfl
theorem dksX3_asks_8 : cX3_asks.data.toList.drop 187 = dktX3_asks_8 := dk_seg dksX3_asks_7 22 rfl rfl
theorem dX3_asks_0 : decode cX3_asks 0 = .ok (.aload_n 0, 1) := dk_42 (dk_at dksX3_asks_0 0 rfl rfl)
theorem dX3_asks_1 : decode cX3_asks 1 = .ok (.iload_n 2, 1) := dk_28 (dk_at dksX3_asks_0 1 rfl rfl)
theorem dX3_asks_2 : decode cX3_asks 2 = .ok (.invokevirtual 408, 3) := dk_182 1 152 (dk_at dksX3_asks_0 2 rfl rfl)
theorem dX3_asks_5 : decode cX3_asks 5 = .ok (.istore_n 3, 1) := dk_62 (dk_at dksX3_asks_0 5 rfl rfl)
theorem dX3_asks_6 : decode cX3_asks 6 = .ok (.aload_n 0, 1) := dk_42 (dk_at dksX3_asks_0 6 rfl rfl)
theorem dX3_asks_7 : decode cX3_asks 7 = .ok (.getfield 117, 3) := dk_180 0 117 (dk_at dksX3_asks_0 7 rfl rfl)
theorem dX3_asks_10 : decode cX3_asks 10 = .ok (.iconst 0, 1) := dk_3 (dk_at dksX3_asks_0 10 rfl rfl)
theorem dX3_asks_11 : decode cX3_asks 11 = .ok (.iload_n 1, 1) := dk_27 (dk_at dksX3_asks_0 11 rfl rfl)
theorem dX3_asks_12 : decode cX3_asks 12 = .ok (.i2l, 1) := dk_133 (dk_at dksX3_asks_0 12 rfl rfl)
theorem dX3_asks_13 : decode cX3_asks 13 = .ok (.lastore, 1) := dk_80 (dk_at dksX3_asks_0 13 rfl rfl)
theorem dX3_asks_14 : decode cX3_asks 14 = .ok (.aload_n 0, 1) := dk_42 (dk_at dksX3_asks_0 14 rfl rfl)
theorem dX3_asks_15 : decode cX3_asks 15 = .ok (.getfield 117, 3) := dk_180 0 117 (dk_at dksX3_asks_0 15 rfl rfl)
theorem dX3_asks_18 : decode cX3_asks 18 = .ok (.iconst 1, 1) := dk_4 (dk_at dksX3_asks_0 18 rfl rfl)
theorem dX3_asks_19 : decode cX3_asks 19 = .ok (.iload_n 2, 1) := dk_28 (dk_at dksX3_asks_0 19 rfl rfl)
theorem dX3_asks_20 : decode cX3_asks 20 = .ok (.i2l, 1) := dk_133 (dk_at dksX3_asks_0 20 rfl rfl)
theorem dX3_asks_21 : decode cX3_asks 21 = .ok (.lastore, 1) := dk_80 (dk_at dksX3_asks_0 21 rfl rfl)
theorem dX3_asks_22 : decode cX3_asks 22 = .ok (.aload_n 0, 1) := dk_42 (dk_at dksX3_asks_0 22 rfl rfl)
theorem dX3_asks_23 : decode cX3_asks 23 = .ok (.getfield 117, 3) := dk_180 0 117 (dk_at dksX3_asks_1 0 rfl rfl)
theorem dX3_asks_26 : decode cX3_asks 26 = .ok (.iconst 2, 1) := dk_5 (dk_at dksX3_asks_1 3 rfl rfl)
theorem dX3_asks_27 : decode cX3_asks 27 = .ok (.iload_n 3, 1) := dk_29 (dk_at dksX3_asks_1 4 rfl rfl)
theorem dX3_asks_28 : decode cX3_asks 28 = .ok (.i2l, 1) := dk_133 (dk_at dksX3_asks_1 5 rfl rfl)
theorem dX3_asks_29 : decode cX3_asks 29 = .ok (.lastore, 1) := dk_80 (dk_at dksX3_asks_1 6 rfl rfl)
theorem dX3_asks_30 : decode cX3_asks 30 = .ok (.aload_n 0, 1) := dk_42 (dk_at dksX3_asks_1 7 rfl rfl)
theorem dX3_asks_31 : decode cX3_asks 31 = .ok (.getfield 117, 3) := dk_180 0 117 (dk_at dksX3_asks_1 8 rfl rfl)
theorem dX3_asks_34 : decode cX3_asks 34 = .ok (.iconst 3, 1) := dk_6 (dk_at dksX3_asks_1 11 rfl rfl)
theorem dX3_asks_35 : decode cX3_asks 35 = .ok (.aload_n 0, 1) := dk_42 (dk_at dksX3_asks_1 12 rfl rfl)
theorem dX3_asks_36 : decode cX3_asks 36 = .ok (.getfield 16, 3) := dk_180 0 16 (dk_at dksX3_asks_1 13 rfl rfl)
theorem dX3_asks_39 : decode cX3_asks 39 = .ok (.iload_n 3, 1) := dk_29 (dk_at dksX3_asks_1 16 rfl rfl)
theorem dX3_asks_40 : decode cX3_asks 40 = .ok (.iaload, 1) := dk_46 (dk_at dksX3_asks_1 17 rfl rfl)
theorem dX3_asks_41 : decode cX3_asks 41 = .ok (.i2l, 1) := dk_133 (dk_at dksX3_asks_1 18 rfl rfl)
theorem dX3_asks_42 : decode cX3_asks 42 = .ok (.lastore, 1) := dk_80 (dk_at dksX3_asks_1 19 rfl rfl)
theorem dX3_asks_43 : decode cX3_asks 43 = .ok (.aload_n 0, 1) := dk_42 (dk_at dksX3_asks_1 20 rfl rfl)
theorem dX3_asks_44 : decode cX3_asks 44 = .ok (.getfield 117, 3) := dk_180 0 117 (dk_at dksX3_asks_1 21 rfl rfl)
theorem dX3_asks_47 : decode cX3_asks 47 = .ok (.iconst 4, 1) := dk_7 (dk_at dksX3_asks_2 0 rfl rfl)
theorem dX3_asks_48 : decode cX3_asks 48 = .ok (.aload_n 0, 1) := dk_42 (dk_at dksX3_asks_2 1 rfl rfl)
theorem dX3_asks_49 : decode cX3_asks 49 = .ok (.iload_n 2, 1) := dk_28 (dk_at dksX3_asks_2 2 rfl rfl)
theorem dX3_asks_50 : decode cX3_asks 50 = .ok (.invokevirtual 411, 3) := dk_182 1 155 (dk_at dksX3_asks_2 3 rfl rfl)
theorem dX3_asks_53 : decode cX3_asks 53 = .ok (.i2l, 1) := dk_133 (dk_at dksX3_asks_2 6 rfl rfl)
theorem dX3_asks_54 : decode cX3_asks 54 = .ok (.lastore, 1) := dk_80 (dk_at dksX3_asks_2 7 rfl rfl)
theorem dX3_asks_55 : decode cX3_asks 55 = .ok (.aload_n 0, 1) := dk_42 (dk_at dksX3_asks_2 8 rfl rfl)
theorem dX3_asks_56 : decode cX3_asks 56 = .ok (.getfield 117, 3) := dk_180 0 117 (dk_at dksX3_asks_2 9 rfl rfl)
theorem dX3_asks_59 : decode cX3_asks 59 = .ok (.iconst 5, 1) := dk_8 (dk_at dksX3_asks_2 12 rfl rfl)
theorem dX3_asks_60 : decode cX3_asks 60 = .ok (.aload_n 0, 1) := dk_42 (dk_at dksX3_asks_2 13 rfl rfl)
theorem dX3_asks_61 : decode cX3_asks 61 = .ok (.iload_n 2, 1) := dk_28 (dk_at dksX3_asks_2 14 rfl rfl)
theorem dX3_asks_62 : decode cX3_asks 62 = .ok (.invokevirtual 414, 3) := dk_182 1 158 (dk_at dksX3_asks_2 15 rfl rfl)
theorem dX3_asks_65 : decode cX3_asks 65 = .ok (.ifCond .eq 7, 3) := dk_153 0 7 (dk_at dksX3_asks_2 18 rfl rfl)
theorem dX3_asks_68 : decode cX3_asks 68 = .ok (.lconst 1, 1) := dk_10 (dk_at dksX3_asks_2 21 rfl rfl)
theorem dX3_asks_69 : decode cX3_asks 69 = .ok (.goto 4, 3) := dk_167 0 4 (dk_at dksX3_asks_3 0 rfl rfl)
theorem dX3_asks_72 : decode cX3_asks 72 = .ok (.lconst 0, 1) := dk_9 (dk_at dksX3_asks_3 3 rfl rfl)
theorem dX3_asks_73 : decode cX3_asks 73 = .ok (.lastore, 1) := dk_80 (dk_at dksX3_asks_3 4 rfl rfl)
theorem dX3_asks_74 : decode cX3_asks 74 = .ok (.aload_n 0, 1) := dk_42 (dk_at dksX3_asks_3 5 rfl rfl)
theorem dX3_asks_75 : decode cX3_asks 75 = .ok (.getfield 117, 3) := dk_180 0 117 (dk_at dksX3_asks_3 6 rfl rfl)
theorem dX3_asks_78 : decode cX3_asks 78 = .ok (.bipush 6, 2) := dk_16 6 (dk_at dksX3_asks_3 9 rfl rfl)
theorem dX3_asks_80 : decode cX3_asks 80 = .ok (.aload_n 0, 1) := dk_42 (dk_at dksX3_asks_3 11 rfl rfl)
theorem dX3_asks_81 : decode cX3_asks 81 = .ok (.iload_n 2, 1) := dk_28 (dk_at dksX3_asks_3 12 rfl rfl)
theorem dX3_asks_82 : decode cX3_asks 82 = .ok (.invokevirtual 402, 3) := dk_182 1 146 (dk_at dksX3_asks_3 13 rfl rfl)
theorem dX3_asks_85 : decode cX3_asks 85 = .ok (.i2l, 1) := dk_133 (dk_at dksX3_asks_3 16 rfl rfl)
theorem dX3_asks_86 : decode cX3_asks 86 = .ok (.lastore, 1) := dk_80 (dk_at dksX3_asks_3 17 rfl rfl)
theorem dX3_asks_87 : decode cX3_asks 87 = .ok (.aload_n 0, 1) := dk_42 (dk_at dksX3_asks_3 18 rfl rfl)
theorem dX3_asks_88 : decode cX3_asks 88 = .ok (.getfield 117, 3) := dk_180 0 117 (dk_at dksX3_asks_3 19 rfl rfl)
theorem dX3_asks_91 : decode cX3_asks 91 = .ok (.bipush 8, 2) := dk_16 8 (dk_at dksX3_asks_3 22 rfl rfl)
theorem dX3_asks_93 : decode cX3_asks 93 = .ok (.aload_n 0, 1) := dk_42 (dk_at dksX3_asks_4 0 rfl rfl)
theorem dX3_asks_94 : decode cX3_asks 94 = .ok (.iload_n 3, 1) := dk_29 (dk_at dksX3_asks_4 1 rfl rfl)
theorem dX3_asks_95 : decode cX3_asks 95 = .ok (.invokevirtual 420, 3) := dk_182 1 164 (dk_at dksX3_asks_4 2 rfl rfl)
theorem dX3_asks_98 : decode cX3_asks 98 = .ok (.i2l, 1) := dk_133 (dk_at dksX3_asks_4 5 rfl rfl)
theorem dX3_asks_99 : decode cX3_asks 99 = .ok (.lastore, 1) := dk_80 (dk_at dksX3_asks_4 6 rfl rfl)
theorem dX3_asks_100 : decode cX3_asks 100 = .ok (.aload_n 0, 1) := dk_42 (dk_at dksX3_asks_4 7 rfl rfl)
theorem dX3_asks_101 : decode cX3_asks 101 = .ok (.iload_n 3, 1) := dk_29 (dk_at dksX3_asks_4 8 rfl rfl)
theorem dX3_asks_102 : decode cX3_asks 102 = .ok (.aload_n 0, 1) := dk_42 (dk_at dksX3_asks_4 9 rfl rfl)
theorem dX3_asks_103 : decode cX3_asks 103 = .ok (.getfield 9, 3) := dk_180 0 9 (dk_at dksX3_asks_4 10 rfl rfl)
theorem dX3_asks_106 : decode cX3_asks 106 = .ok (.bipush 9, 2) := dk_16 9 (dk_at dksX3_asks_4 13 rfl rfl)
theorem dX3_asks_108 : decode cX3_asks 108 = .ok (.iaload, 1) := dk_46 (dk_at dksX3_asks_4 15 rfl rfl)
theorem dX3_asks_109 : decode cX3_asks 109 = .ok (.iconst 0, 1) := dk_3 (dk_at dksX3_asks_4 16 rfl rfl)
theorem dX3_asks_110 : decode cX3_asks 110 = .ok (.invokevirtual 392, 3) := dk_182 1 136 (dk_at dksX3_asks_4 17 rfl rfl)
theorem dX3_asks_113 : decode cX3_asks 113 = .ok (.aload_n 0, 1) := dk_42 (dk_at dksX3_asks_4 20 rfl rfl)
theorem dX3_asks_114 : decode cX3_asks 114 = .ok (.getfield 117, 3) := dk_180 0 117 (dk_at dksX3_asks_4 21 rfl rfl)
theorem dX3_asks_117 : decode cX3_asks 117 = .ok (.bipush 7, 2) := dk_16 7 (dk_at dksX3_asks_5 0 rfl rfl)
theorem dX3_asks_119 : decode cX3_asks 119 = .ok (.aload_n 0, 1) := dk_42 (dk_at dksX3_asks_5 2 rfl rfl)
theorem dX3_asks_120 : decode cX3_asks 120 = .ok (.getfield 124, 3) := dk_180 0 124 (dk_at dksX3_asks_5 3 rfl rfl)
theorem dX3_asks_123 : decode cX3_asks 123 = .ok (.iload_n 1, 1) := dk_27 (dk_at dksX3_asks_5 6 rfl rfl)
theorem dX3_asks_124 : decode cX3_asks 124 = .ok (.iaload, 1) := dk_46 (dk_at dksX3_asks_5 7 rfl rfl)
theorem dX3_asks_125 : decode cX3_asks 125 = .ok (.i2l, 1) := dk_133 (dk_at dksX3_asks_5 8 rfl rfl)
theorem dX3_asks_126 : decode cX3_asks 126 = .ok (.lastore, 1) := dk_80 (dk_at dksX3_asks_5 9 rfl rfl)
theorem dX3_asks_127 : decode cX3_asks 127 = .ok (.aload_n 0, 1) := dk_42 (dk_at dksX3_asks_5 10 rfl rfl)
theorem dX3_asks_128 : decode cX3_asks 128 = .ok (.getfield 117, 3) := dk_180 0 117 (dk_at dksX3_asks_5 11 rfl rfl)
theorem dX3_asks_131 : decode cX3_asks 131 = .ok (.bipush 9, 2) := dk_16 9 (dk_at dksX3_asks_5 14 rfl rfl)
theorem dX3_asks_133 : decode cX3_asks 133 = .ok (.aload_n 0, 1) := dk_42 (dk_at dksX3_asks_5 16 rfl rfl)
theorem dX3_asks_134 : decode cX3_asks 134 = .ok (.getfield 31, 3) := dk_180 0 31 (dk_at dksX3_asks_5 17 rfl rfl)
theorem dX3_asks_137 : decode cX3_asks 137 = .ok (.iload_n 2, 1) := dk_28 (dk_at dksX3_asks_5 20 rfl rfl)
theorem dX3_asks_138 : decode cX3_asks 138 = .ok (.iaload, 1) := dk_46 (dk_at dksX3_asks_5 21 rfl rfl)
theorem dX3_asks_139 : decode cX3_asks 139 = .ok (.i2l, 1) := dk_133 (dk_at dksX3_asks_5 22 rfl rfl)
theorem dX3_asks_140 : decode cX3_asks 140 = .ok (.lastore, 1) := dk_80 (dk_at dksX3_asks_5 23 rfl rfl)
theorem dX3_asks_141 : decode cX3_asks 141 = .ok (.aload_n 0, 1) := dk_42 (dk_at dksX3_asks_6 0 rfl rfl)
theorem dX3_asks_142 : decode cX3_asks 142 = .ok (.getfield 117, 3) := dk_180 0 117 (dk_at dksX3_asks_6 1 rfl rfl)
theorem dX3_asks_145 : decode cX3_asks 145 = .ok (.bipush 10, 2) := dk_16 10 (dk_at dksX3_asks_6 4 rfl rfl)
theorem dX3_asks_147 : decode cX3_asks 147 = .ok (.aload_n 0, 1) := dk_42 (dk_at dksX3_asks_6 6 rfl rfl)
theorem dX3_asks_148 : decode cX3_asks 148 = .ok (.getfield 22, 3) := dk_180 0 22 (dk_at dksX3_asks_6 7 rfl rfl)
theorem dX3_asks_151 : decode cX3_asks 151 = .ok (.iload_n 1, 1) := dk_27 (dk_at dksX3_asks_6 10 rfl rfl)
theorem dX3_asks_152 : decode cX3_asks 152 = .ok (.iaload, 1) := dk_46 (dk_at dksX3_asks_6 11 rfl rfl)
theorem dX3_asks_153 : decode cX3_asks 153 = .ok (.i2l, 1) := dk_133 (dk_at dksX3_asks_6 12 rfl rfl)
theorem dX3_asks_154 : decode cX3_asks 154 = .ok (.lastore, 1) := dk_80 (dk_at dksX3_asks_6 13 rfl rfl)
theorem dX3_asks_155 : decode cX3_asks 155 = .ok (.aload_n 0, 1) := dk_42 (dk_at dksX3_asks_6 14 rfl rfl)
theorem dX3_asks_156 : decode cX3_asks 156 = .ok (.getfield 117, 3) := dk_180 0 117 (dk_at dksX3_asks_6 15 rfl rfl)
theorem dX3_asks_159 : decode cX3_asks 159 = .ok (.bipush 11, 2) := dk_16 11 (dk_at dksX3_asks_6 18 rfl rfl)
theorem dX3_asks_161 : decode cX3_asks 161 = .ok (.aload_n 0, 1) := dk_42 (dk_at dksX3_asks_6 20 rfl rfl)
theorem dX3_asks_162 : decode cX3_asks 162 = .ok (.getfield 9, 3) := dk_180 0 9 (dk_at dksX3_asks_6 21 rfl rfl)
theorem dX3_asks_165 : decode cX3_asks 165 = .ok (.bipush 9, 2) := dk_16 9 (dk_at dksX3_asks_7 0 rfl rfl)
theorem dX3_asks_167 : decode cX3_asks 167 = .ok (.iaload, 1) := dk_46 (dk_at dksX3_asks_7 2 rfl rfl)
theorem dX3_asks_168 : decode cX3_asks 168 = .ok (.i2l, 1) := dk_133 (dk_at dksX3_asks_7 3 rfl rfl)
theorem dX3_asks_169 : decode cX3_asks 169 = .ok (.lastore, 1) := dk_80 (dk_at dksX3_asks_7 4 rfl rfl)
theorem dX3_asks_170 : decode cX3_asks 170 = .ok (.aload_n 0, 1) := dk_42 (dk_at dksX3_asks_7 5 rfl rfl)
theorem dX3_asks_171 : decode cX3_asks 171 = .ok (.getfield 117, 3) := dk_180 0 117 (dk_at dksX3_asks_7 6 rfl rfl)
theorem dX3_asks_174 : decode cX3_asks 174 = .ok (.bipush 12, 2) := dk_16 12 (dk_at dksX3_asks_7 9 rfl rfl)
theorem dX3_asks_176 : decode cX3_asks 176 = .ok (.aload_n 0, 1) := dk_42 (dk_at dksX3_asks_7 11 rfl rfl)
theorem dX3_asks_177 : decode cX3_asks 177 = .ok (.aload_n 0, 1) := dk_42 (dk_at dksX3_asks_7 12 rfl rfl)
theorem dX3_asks_178 : decode cX3_asks 178 = .ok (.getfield 9, 3) := dk_180 0 9 (dk_at dksX3_asks_7 13 rfl rfl)
theorem dX3_asks_181 : decode cX3_asks 181 = .ok (.bipush 9, 2) := dk_16 9 (dk_at dksX3_asks_7 16 rfl rfl)
theorem dX3_asks_183 : decode cX3_asks 183 = .ok (.iaload, 1) := dk_46 (dk_at dksX3_asks_7 18 rfl rfl)
theorem dX3_asks_184 : decode cX3_asks 184 = .ok (.invokevirtual 432, 3) := dk_182 1 176 (dk_at dksX3_asks_7 19 rfl rfl)
theorem dX3_asks_187 : decode cX3_asks 187 = .ok (.ifCond .eq 7, 3) := dk_153 0 7 (dk_at dksX3_asks_8 0 rfl rfl)
theorem dX3_asks_190 : decode cX3_asks 190 = .ok (.lconst 1, 1) := dk_10 (dk_at dksX3_asks_8 3 rfl rfl)
theorem dX3_asks_191 : decode cX3_asks 191 = .ok (.goto 4, 3) := dk_167 0 4 (dk_at dksX3_asks_8 4 rfl rfl)
theorem dX3_asks_194 : decode cX3_asks 194 = .ok (.lconst 0, 1) := dk_9 (dk_at dksX3_asks_8 7 rfl rfl)
theorem dX3_asks_195 : decode cX3_asks 195 = .ok (.lastore, 1) := dk_80 (dk_at dksX3_asks_8 8 rfl rfl)
theorem dX3_asks_196 : decode cX3_asks 196 = .ok (.return_, 1) := dk_177 (dk_at dksX3_asks_8 9 rfl rfl)
abbrev cX3_wanted : ByteArray := prog_17_method_48_code
def yX3_wanted : MethodName := ⟨RX3, "wanted", "()J"⟩
def dkwX3_wanted_3 : List UInt8 := [180, 0, 105, 28, 46, 42, 180, 0, 108, 28, 46, 182, 1, 114, 173, 132, 2, 1, 167, 255, 183, 9, 173]
abbrev dktX3_wanted_3 : List UInt8 := dkwX3_wanted_3 ++ []
def dkwX3_wanted_2 : List UInt8 := [180, 0, 108, 28, 46, 42, 180, 0, 111, 28, 46, 182, 1, 114, 10, 148, 154, 0, 21, 42, 27, 42]
abbrev dktX3_wanted_2 : List UInt8 := dkwX3_wanted_2 ++ dktX3_wanted_3
def dkwX3_wanted_1 : List UInt8 := [96, 162, 0, 64, 42, 180, 0, 108, 28, 46, 42, 180, 0, 111, 28, 46, 159, 0, 25, 42, 27, 42]
abbrev dktX3_wanted_1 : List UInt8 := dkwX3_wanted_1 ++ dktX3_wanted_2
def dkwX3_wanted_0 : List UInt8 := [42, 180, 0, 9, 16, 12, 46, 60, 16, 12, 27, 104, 61, 28, 16, 12, 27, 104, 42, 180, 0, 102, 27, 46]
abbrev dktX3_wanted_0 : List UInt8 := dkwX3_wanted_0 ++ dktX3_wanted_1
theorem dksX3_wanted_0 : cX3_wanted.data.toList.drop 0 = dktX3_wanted_0 := by decide +kernel
theorem dksX3_wanted_1 : cX3_wanted.data.toList.drop 24 = dktX3_wanted_1 := dk_seg dksX3_wanted_0 24 rfl rfl
theorem dksX3_wanted_2 : cX3_wanted.data.toList.drop 46 = dktX3_wanted_2 := dk_seg dksX3_wanted_1 22 rfl rfl
theorem dksX3_wanted_3 : cX3_wanted.data.toList.drop 68 = dktX3_wanted_3 := dk_seg dksX3_wanted_2 22 rfl rfl
theorem dX3_wanted_0 : decode cX3_wanted 0 = .ok (.aload_n 0, 1) := dk_42 (dk_at dksX3_wanted_0 0 rfl rfl)
theorem dX3_wanted_1 : decode cX3_wanted 1 = .ok (.getfield 9, 3) := dk_180 0 9 (dk_at dksX3_wanted_0 1 rfl rfl)
theorem dX3_wanted_4 : decode cX3_wanted 4 = .ok (.bipush 12, 2) := dk_16 12 (dk_at dksX3_wanted_0 4 rfl rfl)
theorem dX3_wanted_6 : decode cX3_wanted 6 = .ok (.iaload, 1) := dk_46 (dk_at dksX3_wanted_0 6 rfl rfl)
theorem dX3_wanted_7 : decode cX3_wanted 7 = .ok (.istore_n 1, 1) := dk_60 (dk_at dksX3_wanted_0 7 rfl rfl)
theorem dX3_wanted_8 : decode cX3_wanted 8 = .ok (.bipush 12, 2) := dk_16 12 (dk_at dksX3_wanted_0 8 rfl rfl)
theorem dX3_wanted_10 : decode cX3_wanted 10 = .ok (.iload_n 1, 1) := dk_27 (dk_at dksX3_wanted_0 10 rfl rfl)
theorem dX3_wanted_11 : decode cX3_wanted 11 = .ok (.imul, 1) := dk_104 (dk_at dksX3_wanted_0 11 rfl rfl)
theorem dX3_wanted_12 : decode cX3_wanted 12 = .ok (.istore_n 2, 1) := dk_61 (dk_at dksX3_wanted_0 12 rfl rfl)
theorem dX3_wanted_13 : decode cX3_wanted 13 = .ok (.iload_n 2, 1) := dk_28 (dk_at dksX3_wanted_0 13 rfl rfl)
theorem dX3_wanted_14 : decode cX3_wanted 14 = .ok (.bipush 12, 2) := dk_16 12 (dk_at dksX3_wanted_0 14 rfl rfl)
theorem dX3_wanted_16 : decode cX3_wanted 16 = .ok (.iload_n 1, 1) := dk_27 (dk_at dksX3_wanted_0 16 rfl rfl)
theorem dX3_wanted_17 : decode cX3_wanted 17 = .ok (.imul, 1) := dk_104 (dk_at dksX3_wanted_0 17 rfl rfl)
theorem dX3_wanted_18 : decode cX3_wanted 18 = .ok (.aload_n 0, 1) := dk_42 (dk_at dksX3_wanted_0 18 rfl rfl)
theorem dX3_wanted_19 : decode cX3_wanted 19 = .ok (.getfield 102, 3) := dk_180 0 102 (dk_at dksX3_wanted_0 19 rfl rfl)
theorem dX3_wanted_22 : decode cX3_wanted 22 = .ok (.iload_n 1, 1) := dk_27 (dk_at dksX3_wanted_0 22 rfl rfl)
theorem dX3_wanted_23 : decode cX3_wanted 23 = .ok (.iaload, 1) := dk_46 (dk_at dksX3_wanted_0 23 rfl rfl)
theorem dX3_wanted_24 : decode cX3_wanted 24 = .ok (.iadd, 1) := dk_96 (dk_at dksX3_wanted_1 0 rfl rfl)
theorem dX3_wanted_25 : decode cX3_wanted 25 = .ok (.if_icmp .ge 64, 3) := dk_162 0 64 (dk_at dksX3_wanted_1 1 rfl rfl)
theorem dX3_wanted_28 : decode cX3_wanted 28 = .ok (.aload_n 0, 1) := dk_42 (dk_at dksX3_wanted_1 4 rfl rfl)
theorem dX3_wanted_29 : decode cX3_wanted 29 = .ok (.getfield 108, 3) := dk_180 0 108 (dk_at dksX3_wanted_1 5 rfl rfl)
theorem dX3_wanted_32 : decode cX3_wanted 32 = .ok (.iload_n 2, 1) := dk_28 (dk_at dksX3_wanted_1 8 rfl rfl)
theorem dX3_wanted_33 : decode cX3_wanted 33 = .ok (.iaload, 1) := dk_46 (dk_at dksX3_wanted_1 9 rfl rfl)
theorem dX3_wanted_34 : decode cX3_wanted 34 = .ok (.aload_n 0, 1) := dk_42 (dk_at dksX3_wanted_1 10 rfl rfl)
theorem dX3_wanted_35 : decode cX3_wanted 35 = .ok (.getfield 111, 3) := dk_180 0 111 (dk_at dksX3_wanted_1 11 rfl rfl)
theorem dX3_wanted_38 : decode cX3_wanted 38 = .ok (.iload_n 2, 1) := dk_28 (dk_at dksX3_wanted_1 14 rfl rfl)
theorem dX3_wanted_39 : decode cX3_wanted 39 = .ok (.iaload, 1) := dk_46 (dk_at dksX3_wanted_1 15 rfl rfl)
theorem dX3_wanted_40 : decode cX3_wanted 40 = .ok (.if_icmp .eq 25, 3) := dk_159 0 25 (dk_at dksX3_wanted_1 16 rfl rfl)
theorem dX3_wanted_43 : decode cX3_wanted 43 = .ok (.aload_n 0, 1) := dk_42 (dk_at dksX3_wanted_1 19 rfl rfl)
theorem dX3_wanted_44 : decode cX3_wanted 44 = .ok (.iload_n 1, 1) := dk_27 (dk_at dksX3_wanted_1 20 rfl rfl)
theorem dX3_wanted_45 : decode cX3_wanted 45 = .ok (.aload_n 0, 1) := dk_42 (dk_at dksX3_wanted_1 21 rfl rfl)
theorem dX3_wanted_46 : decode cX3_wanted 46 = .ok (.getfield 108, 3) := dk_180 0 108 (dk_at dksX3_wanted_2 0 rfl rfl)
theorem dX3_wanted_49 : decode cX3_wanted 49 = .ok (.iload_n 2, 1) := dk_28 (dk_at dksX3_wanted_2 3 rfl rfl)
theorem dX3_wanted_50 : decode cX3_wanted 50 = .ok (.iaload, 1) := dk_46 (dk_at dksX3_wanted_2 4 rfl rfl)
theorem dX3_wanted_51 : decode cX3_wanted 51 = .ok (.aload_n 0, 1) := dk_42 (dk_at dksX3_wanted_2 5 rfl rfl)
theorem dX3_wanted_52 : decode cX3_wanted 52 = .ok (.getfield 111, 3) := dk_180 0 111 (dk_at dksX3_wanted_2 6 rfl rfl)
theorem dX3_wanted_55 : decode cX3_wanted 55 = .ok (.iload_n 2, 1) := dk_28 (dk_at dksX3_wanted_2 9 rfl rfl)
theorem dX3_wanted_56 : decode cX3_wanted 56 = .ok (.iaload, 1) := dk_46 (dk_at dksX3_wanted_2 10 rfl rfl)
theorem dX3_wanted_57 : decode cX3_wanted 57 = .ok (.invokevirtual 370, 3) := dk_182 1 114 (dk_at dksX3_wanted_2 11 rfl rfl)
theorem dX3_wanted_60 : decode cX3_wanted 60 = .ok (.lconst 1, 1) := dk_10 (dk_at dksX3_wanted_2 14 rfl rfl)
theorem dX3_wanted_61 : decode cX3_wanted 61 = .ok (.lcmp, 1) := dk_148 (dk_at dksX3_wanted_2 15 rfl rfl)
theorem dX3_wanted_62 : decode cX3_wanted 62 = .ok (.ifCond .ne 21, 3) := dk_154 0 21 (dk_at dksX3_wanted_2 16 rfl rfl)
theorem dX3_wanted_65 : decode cX3_wanted 65 = .ok (.aload_n 0, 1) := dk_42 (dk_at dksX3_wanted_2 19 rfl rfl)
theorem dX3_wanted_66 : decode cX3_wanted 66 = .ok (.iload_n 1, 1) := dk_27 (dk_at dksX3_wanted_2 20 rfl rfl)
theorem dX3_wanted_67 : decode cX3_wanted 67 = .ok (.aload_n 0, 1) := dk_42 (dk_at dksX3_wanted_2 21 rfl rfl)
theorem dX3_wanted_68 : decode cX3_wanted 68 = .ok (.getfield 105, 3) := dk_180 0 105 (dk_at dksX3_wanted_3 0 rfl rfl)
theorem dX3_wanted_71 : decode cX3_wanted 71 = .ok (.iload_n 2, 1) := dk_28 (dk_at dksX3_wanted_3 3 rfl rfl)
theorem dX3_wanted_72 : decode cX3_wanted 72 = .ok (.iaload, 1) := dk_46 (dk_at dksX3_wanted_3 4 rfl rfl)
theorem dX3_wanted_73 : decode cX3_wanted 73 = .ok (.aload_n 0, 1) := dk_42 (dk_at dksX3_wanted_3 5 rfl rfl)
theorem dX3_wanted_74 : decode cX3_wanted 74 = .ok (.getfield 108, 3) := dk_180 0 108 (dk_at dksX3_wanted_3 6 rfl rfl)
theorem dX3_wanted_77 : decode cX3_wanted 77 = .ok (.iload_n 2, 1) := dk_28 (dk_at dksX3_wanted_3 9 rfl rfl)
theorem dX3_wanted_78 : decode cX3_wanted 78 = .ok (.iaload, 1) := dk_46 (dk_at dksX3_wanted_3 10 rfl rfl)
theorem dX3_wanted_79 : decode cX3_wanted 79 = .ok (.invokevirtual 370, 3) := dk_182 1 114 (dk_at dksX3_wanted_3 11 rfl rfl)
theorem dX3_wanted_82 : decode cX3_wanted 82 = .ok (.lreturn, 1) := dk_173 (dk_at dksX3_wanted_3 14 rfl rfl)
theorem dX3_wanted_83 : decode cX3_wanted 83 = .ok (.iinc 2 1, 3) := dk_132 2 1 (dk_at dksX3_wanted_3 15 rfl rfl)
theorem dX3_wanted_86 : decode cX3_wanted 86 = .ok (.goto (-73), 3) := dk_167 255 183 (dk_at dksX3_wanted_3 18 rfl rfl)
theorem dX3_wanted_89 : decode cX3_wanted 89 = .ok (.lconst 0, 1) := dk_9 (dk_at dksX3_wanted_3 21 rfl rfl)
theorem dX3_wanted_90 : decode cX3_wanted 90 = .ok (.lreturn, 1) := dk_173 (dk_at dksX3_wanted_3 22 rfl rfl)
abbrev cX3_answer : ByteArray := prog_17_method_51_code
def yX3_answer : MethodName := ⟨RX3, "answer", "(III)J"⟩
def dkwX3_answer_6 : List UInt8 := [47, 184, 1, 122, 80, 132, 5, 1, 167, 255, 112, 42, 180, 0, 121, 3, 47, 173]
abbrev dktX3_answer_6 : List UInt8 := dkwX3_answer_6 ++ []
def dkwX3_answer_5 : List UInt8 := [180, 0, 121, 21, 4, 4, 100, 21, 6, 42, 180, 0, 121, 21, 4, 4, 100, 47, 42, 180, 0, 121, 21, 4]
abbrev dktX3_answer_5 : List UInt8 := dkwX3_answer_5 ++ dktX3_answer_6
def dkwX3_answer_4 : List UInt8 := [21, 4, 4, 100, 10, 42, 180, 0, 121, 21, 4, 4, 100, 47, 101, 80, 167, 0, 36, 132, 4, 255, 42]
abbrev dktX3_answer_4 : List UInt8 := dkwX3_answer_4 ++ dktX3_answer_5
def dkwX3_answer_3 : List UInt8 := [180, 0, 117, 21, 7, 47, 80, 132, 4, 1, 167, 0, 66, 21, 6, 16, 9, 160, 0, 26, 42, 180, 0, 121]
abbrev dktX3_answer_3 : List UInt8 := dkwX3_answer_3 ++ dktX3_answer_4
def dkwX3_answer_2 : List UInt8 := [21, 6, 4, 160, 0, 34, 42, 180, 0, 121, 21, 4, 21, 6, 154, 0, 9, 21, 7, 133, 167, 0, 10, 42]
abbrev dktX3_answer_2 : List UInt8 := dkwX3_answer_2 ++ dktX3_answer_3
def dkwX3_answer_1 : List UInt8 := [46, 54, 6, 42, 180, 0, 99, 17, 1, 44, 27, 104, 21, 5, 96, 46, 54, 7, 21, 6, 153, 0, 9]
abbrev dktX3_answer_1 : List UInt8 := dkwX3_answer_1 ++ dktX3_answer_2
def dkwX3_answer_0 : List UInt8 := [3, 54, 4, 28, 54, 5, 21, 5, 29, 162, 0, 144, 42, 180, 0, 96, 17, 1, 44, 27, 104, 21, 5, 96]
abbrev dktX3_answer_0 : List UInt8 := dkwX3_answer_0 ++ dktX3_answer_1
theorem dksX3_answer_0 : cX3_answer.data.toList.drop 0 = dktX3_answer_0 := by decide +kernel
theorem dksX3_answer_1 : cX3_answer.data.toList.drop 24 = dktX3_answer_1 := dk_seg dksX3_answer_0 24 rfl rfl
theorem dksX3_answer_2 : cX3_answer.data.toList.drop 47 = dktX3_answer_2 := dk_seg dksX3_answer_1 23 rfl rfl
theorem dksX3_answer_3 : cX3_answer.data.toList.drop 71 = dktX3_answer_3 := dk_seg dksX3_answer_2 24 rfl rfl
theorem dksX3_answer_4 : cX3_answer.data.toList.drop 95 = dktX3_answer_4 := dk_seg dksX3_answer_3 24 rfl rfl
theorem dksX3_answer_5 : cX3_answer.data.toList.drop 118 = dktX3_answer_5 := dk_seg dksX3_answer_4 23 rfl rfl
theorem dksX3_answer_6 : cX3_answer.data.toList.drop 142 = dktX3_answer_6 := dk_seg dksX3_answer_5 24 rfl rfl
theorem dX3_answer_0 : decode cX3_answer 0 = .ok (.iconst 0, 1) := dk_3 (dk_at dksX3_answer_0 0 rfl rfl)
theorem dX3_answer_1 : decode cX3_answer 1 = .ok (.istore 4, 2) := dk_54 4 (dk_at dksX3_answer_0 1 rfl rfl)
theorem dX3_answer_3 : decode cX3_answer 3 = .ok (.iload_n 2, 1) := dk_28 (dk_at dksX3_answer_0 3 rfl rfl)
theorem dX3_answer_4 : decode cX3_answer 4 = .ok (.istore 5, 2) := dk_54 5 (dk_at dksX3_answer_0 4 rfl rfl)
theorem dX3_answer_6 : decode cX3_answer 6 = .ok (.iload 5, 2) := dk_21 5 (dk_at dksX3_answer_0 6 rfl rfl)
theorem dX3_answer_8 : decode cX3_answer 8 = .ok (.iload_n 3, 1) := dk_29 (dk_at dksX3_answer_0 8 rfl rfl)
theorem dX3_answer_9 : decode cX3_answer 9 = .ok (.if_icmp .ge 144, 3) := dk_162 0 144 (dk_at dksX3_answer_0 9 rfl rfl)
theorem dX3_answer_12 : decode cX3_answer 12 = .ok (.aload_n 0, 1) := dk_42 (dk_at dksX3_answer_0 12 rfl rfl)
theorem dX3_answer_13 : decode cX3_answer 13 = .ok (.getfield 96, 3) := dk_180 0 96 (dk_at dksX3_answer_0 13 rfl rfl)
theorem dX3_answer_16 : decode cX3_answer 16 = .ok (.sipush 300, 3) := dk_17 1 44 (dk_at dksX3_answer_0 16 rfl rfl)
theorem dX3_answer_19 : decode cX3_answer 19 = .ok (.iload_n 1, 1) := dk_27 (dk_at dksX3_answer_0 19 rfl rfl)
theorem dX3_answer_20 : decode cX3_answer 20 = .ok (.imul, 1) := dk_104 (dk_at dksX3_answer_0 20 rfl rfl)
theorem dX3_answer_21 : decode cX3_answer 21 = .ok (.iload 5, 2) := dk_21 5 (dk_at dksX3_answer_0 21 rfl rfl)
theorem dX3_answer_23 : decode cX3_answer 23 = .ok (.iadd, 1) := dk_96 (dk_at dksX3_answer_0 23 rfl rfl)
theorem dX3_answer_24 : decode cX3_answer 24 = .ok (.iaload, 1) := dk_46 (dk_at dksX3_answer_1 0 rfl rfl)
theorem dX3_answer_25 : decode cX3_answer 25 = .ok (.istore 6, 2) := dk_54 6 (dk_at dksX3_answer_1 1 rfl rfl)
theorem dX3_answer_27 : decode cX3_answer 27 = .ok (.aload_n 0, 1) := dk_42 (dk_at dksX3_answer_1 3 rfl rfl)
theorem dX3_answer_28 : decode cX3_answer 28 = .ok (.getfield 99, 3) := dk_180 0 99 (dk_at dksX3_answer_1 4 rfl rfl)
theorem dX3_answer_31 : decode cX3_answer 31 = .ok (.sipush 300, 3) := dk_17 1 44 (dk_at dksX3_answer_1 7 rfl rfl)
theorem dX3_answer_34 : decode cX3_answer 34 = .ok (.iload_n 1, 1) := dk_27 (dk_at dksX3_answer_1 10 rfl rfl)
theorem dX3_answer_35 : decode cX3_answer 35 = .ok (.imul, 1) := dk_104 (dk_at dksX3_answer_1 11 rfl rfl)
theorem dX3_answer_36 : decode cX3_answer 36 = .ok (.iload 5, 2) := dk_21 5 (dk_at dksX3_answer_1 12 rfl rfl)
theorem dX3_answer_38 : decode cX3_answer 38 = .ok (.iadd, 1) := dk_96 (dk_at dksX3_answer_1 14 rfl rfl)
theorem dX3_answer_39 : decode cX3_answer 39 = .ok (.iaload, 1) := dk_46 (dk_at dksX3_answer_1 15 rfl rfl)
theorem dX3_answer_40 : decode cX3_answer 40 = .ok (.istore 7, 2) := dk_54 7 (dk_at dksX3_answer_1 16 rfl rfl)
theorem dX3_answer_42 : decode cX3_answer 42 = .ok (.iload 6, 2) := dk_21 6 (dk_at dksX3_answer_1 18 rfl rfl)
theorem dX3_answer_44 : decode cX3_answer 44 = .ok (.ifCond .eq 9, 3) := dk_153 0 9 (dk_at dksX3_answer_1 20 rfl rfl)
theorem dX3_answer_47 : decode cX3_answer 47 = .ok (.iload 6, 2) := dk_21 6 (dk_at dksX3_answer_2 0 rfl rfl)
theorem dX3_answer_49 : decode cX3_answer 49 = .ok (.iconst 1, 1) := dk_4 (dk_at dksX3_answer_2 2 rfl rfl)
theorem dX3_answer_50 : decode cX3_answer 50 = .ok (.if_icmp .ne 34, 3) := dk_160 0 34 (dk_at dksX3_answer_2 3 rfl rfl)
theorem dX3_answer_53 : decode cX3_answer 53 = .ok (.aload_n 0, 1) := dk_42 (dk_at dksX3_answer_2 6 rfl rfl)
theorem dX3_answer_54 : decode cX3_answer 54 = .ok (.getfield 121, 3) := dk_180 0 121 (dk_at dksX3_answer_2 7 rfl rfl)
theorem dX3_answer_57 : decode cX3_answer 57 = .ok (.iload 4, 2) := dk_21 4 (dk_at dksX3_answer_2 10 rfl rfl)
theorem dX3_answer_59 : decode cX3_answer 59 = .ok (.iload 6, 2) := dk_21 6 (dk_at dksX3_answer_2 12 rfl rfl)
theorem dX3_answer_61 : decode cX3_answer 61 = .ok (.ifCond .ne 9, 3) := dk_154 0 9 (dk_at dksX3_answer_2 14 rfl rfl)
theorem dX3_answer_64 : decode cX3_answer 64 = .ok (.iload 7, 2) := dk_21 7 (dk_at dksX3_answer_2 17 rfl rfl)
theorem dX3_answer_66 : decode cX3_answer 66 = .ok (.i2l, 1) := dk_133 (dk_at dksX3_answer_2 19 rfl rfl)
theorem dX3_answer_67 : decode cX3_answer 67 = .ok (.goto 10, 3) := dk_167 0 10 (dk_at dksX3_answer_2 20 rfl rfl)
theorem dX3_answer_70 : decode cX3_answer 70 = .ok (.aload_n 0, 1) := dk_42 (dk_at dksX3_answer_2 23 rfl rfl)
theorem dX3_answer_71 : decode cX3_answer 71 = .ok (.getfield 117, 3) := dk_180 0 117 (dk_at dksX3_answer_3 0 rfl rfl)
theorem dX3_answer_74 : decode cX3_answer 74 = .ok (.iload 7, 2) := dk_21 7 (dk_at dksX3_answer_3 3 rfl rfl)
theorem dX3_answer_76 : decode cX3_answer 76 = .ok (.laload, 1) := dk_47 (dk_at dksX3_answer_3 5 rfl rfl)
theorem dX3_answer_77 : decode cX3_answer 77 = .ok (.lastore, 1) := dk_80 (dk_at dksX3_answer_3 6 rfl rfl)
theorem dX3_answer_78 : decode cX3_answer 78 = .ok (.iinc 4 1, 3) := dk_132 4 1 (dk_at dksX3_answer_3 7 rfl rfl)
theorem dX3_answer_81 : decode cX3_answer 81 = .ok (.goto 66, 3) := dk_167 0 66 (dk_at dksX3_answer_3 10 rfl rfl)
theorem dX3_answer_84 : decode cX3_answer 84 = .ok (.iload 6, 2) := dk_21 6 (dk_at dksX3_answer_3 13 rfl rfl)
theorem dX3_answer_86 : decode cX3_answer 86 = .ok (.bipush 9, 2) := dk_16 9 (dk_at dksX3_answer_3 15 rfl rfl)
theorem dX3_answer_88 : decode cX3_answer 88 = .ok (.if_icmp .ne 26, 3) := dk_160 0 26 (dk_at dksX3_answer_3 17 rfl rfl)
theorem dX3_answer_91 : decode cX3_answer 91 = .ok (.aload_n 0, 1) := dk_42 (dk_at dksX3_answer_3 20 rfl rfl)
theorem dX3_answer_92 : decode cX3_answer 92 = .ok (.getfield 121, 3) := dk_180 0 121 (dk_at dksX3_answer_3 21 rfl rfl)
theorem dX3_answer_95 : decode cX3_answer 95 = .ok (.iload 4, 2) := dk_21 4 (dk_at dksX3_answer_4 0 rfl rfl)
theorem dX3_answer_97 : decode cX3_answer 97 = .ok (.iconst 1, 1) := dk_4 (dk_at dksX3_answer_4 2 rfl rfl)
theorem dX3_answer_98 : decode cX3_answer 98 = .ok (.isub, 1) := dk_100 (dk_at dksX3_answer_4 3 rfl rfl)
theorem dX3_answer_99 : decode cX3_answer 99 = .ok (.lconst 1, 1) := dk_10 (dk_at dksX3_answer_4 4 rfl rfl)
theorem dX3_answer_100 : decode cX3_answer 100 = .ok (.aload_n 0, 1) := dk_42 (dk_at dksX3_answer_4 5 rfl rfl)
theorem dX3_answer_101 : decode cX3_answer 101 = .ok (.getfield 121, 3) := dk_180 0 121 (dk_at dksX3_answer_4 6 rfl rfl)
theorem dX3_answer_104 : decode cX3_answer 104 = .ok (.iload 4, 2) := dk_21 4 (dk_at dksX3_answer_4 9 rfl rfl)
theorem dX3_answer_106 : decode cX3_answer 106 = .ok (.iconst 1, 1) := dk_4 (dk_at dksX3_answer_4 11 rfl rfl)
theorem dX3_answer_107 : decode cX3_answer 107 = .ok (.isub, 1) := dk_100 (dk_at dksX3_answer_4 12 rfl rfl)
theorem dX3_answer_108 : decode cX3_answer 108 = .ok (.laload, 1) := dk_47 (dk_at dksX3_answer_4 13 rfl rfl)
theorem dX3_answer_109 : decode cX3_answer 109 = .ok (.lsub, 1) := dk_101 (dk_at dksX3_answer_4 14 rfl rfl)
theorem dX3_answer_110 : decode cX3_answer 110 = .ok (.lastore, 1) := dk_80 (dk_at dksX3_answer_4 15 rfl rfl)
theorem dX3_answer_111 : decode cX3_answer 111 = .ok (.goto 36, 3) := dk_167 0 36 (dk_at dksX3_answer_4 16 rfl rfl)
theorem dX3_answer_114 : decode cX3_answer 114 = .ok (.iinc 4 (-1), 3) := dk_132 4 255 (dk_at dksX3_answer_4 19 rfl rfl)
theorem dX3_answer_117 : decode cX3_answer 117 = .ok (.aload_n 0, 1) := dk_42 (dk_at dksX3_answer_4 22 rfl rfl)
theorem dX3_answer_118 : decode cX3_answer 118 = .ok (.getfield 121, 3) := dk_180 0 121 (dk_at dksX3_answer_5 0 rfl rfl)
theorem dX3_answer_121 : decode cX3_answer 121 = .ok (.iload 4, 2) := dk_21 4 (dk_at dksX3_answer_5 3 rfl rfl)
theorem dX3_answer_123 : decode cX3_answer 123 = .ok (.iconst 1, 1) := dk_4 (dk_at dksX3_answer_5 5 rfl rfl)
theorem dX3_answer_124 : decode cX3_answer 124 = .ok (.isub, 1) := dk_100 (dk_at dksX3_answer_5 6 rfl rfl)
theorem dX3_answer_125 : decode cX3_answer 125 = .ok (.iload 6, 2) := dk_21 6 (dk_at dksX3_answer_5 7 rfl rfl)
theorem dX3_answer_127 : decode cX3_answer 127 = .ok (.aload_n 0, 1) := dk_42 (dk_at dksX3_answer_5 9 rfl rfl)
theorem dX3_answer_128 : decode cX3_answer 128 = .ok (.getfield 121, 3) := dk_180 0 121 (dk_at dksX3_answer_5 10 rfl rfl)
theorem dX3_answer_131 : decode cX3_answer 131 = .ok (.iload 4, 2) := dk_21 4 (dk_at dksX3_answer_5 13 rfl rfl)
theorem dX3_answer_133 : decode cX3_answer 133 = .ok (.iconst 1, 1) := dk_4 (dk_at dksX3_answer_5 15 rfl rfl)
theorem dX3_answer_134 : decode cX3_answer 134 = .ok (.isub, 1) := dk_100 (dk_at dksX3_answer_5 16 rfl rfl)
theorem dX3_answer_135 : decode cX3_answer 135 = .ok (.laload, 1) := dk_47 (dk_at dksX3_answer_5 17 rfl rfl)
theorem dX3_answer_136 : decode cX3_answer 136 = .ok (.aload_n 0, 1) := dk_42 (dk_at dksX3_answer_5 18 rfl rfl)
theorem dX3_answer_137 : decode cX3_answer 137 = .ok (.getfield 121, 3) := dk_180 0 121 (dk_at dksX3_answer_5 19 rfl rfl)
theorem dX3_answer_140 : decode cX3_answer 140 = .ok (.iload 4, 2) := dk_21 4 (dk_at dksX3_answer_5 22 rfl rfl)
theorem dX3_answer_142 : decode cX3_answer 142 = .ok (.laload, 1) := dk_47 (dk_at dksX3_answer_6 0 rfl rfl)
theorem dX3_answer_143 : decode cX3_answer 143 = .ok (.invokestatic 378, 3) := dk_184 1 122 (dk_at dksX3_answer_6 1 rfl rfl)
theorem dX3_answer_146 : decode cX3_answer 146 = .ok (.lastore, 1) := dk_80 (dk_at dksX3_answer_6 4 rfl rfl)
theorem dX3_answer_147 : decode cX3_answer 147 = .ok (.iinc 5 1, 3) := dk_132 5 1 (dk_at dksX3_answer_6 5 rfl rfl)
theorem dX3_answer_150 : decode cX3_answer 150 = .ok (.goto (-144), 3) := dk_167 255 112 (dk_at dksX3_answer_6 8 rfl rfl)
theorem dX3_answer_153 : decode cX3_answer 153 = .ok (.aload_n 0, 1) := dk_42 (dk_at dksX3_answer_6 11 rfl rfl)
theorem dX3_answer_154 : decode cX3_answer 154 = .ok (.getfield 121, 3) := dk_180 0 121 (dk_at dksX3_answer_6 12 rfl rfl)
theorem dX3_answer_157 : decode cX3_answer 157 = .ok (.iconst 0, 1) := dk_3 (dk_at dksX3_answer_6 15 rfl rfl)
theorem dX3_answer_158 : decode cX3_answer 158 = .ok (.laload, 1) := dk_47 (dk_at dksX3_answer_6 16 rfl rfl)
theorem dX3_answer_159 : decode cX3_answer 159 = .ok (.lreturn, 1) := dk_173 (dk_at dksX3_answer_6 17 rfl rfl)
abbrev cX3_both : ByteArray := prog_17_method_50_code
def yX3_both : MethodName := ⟨RX3, "both", "(IJJ)J"⟩
def dkwX3_both_7 : List UInt8 := [31, 33, 129, 173]
abbrev dktX3_both_7 : List UInt8 := dkwX3_both_7 ++ []
def dkwX3_both_6 : List UInt8 := [3, 184, 1, 118, 173, 31, 33, 148, 158, 0, 7, 4, 167, 0, 4, 3, 184, 1, 118, 173, 31, 33, 127, 173]
abbrev dktX3_both_6 : List UInt8 := dkwX3_both_6 ++ dktX3_both_7
def dkwX3_both_5 : List UInt8 := [33, 148, 154, 0, 7, 4, 167, 0, 4, 3, 184, 1, 118, 173, 31, 33, 148, 155, 0, 7, 4, 167, 0, 4]
abbrev dktX3_both_5 : List UInt8 := dkwX3_both_5 ++ dktX3_both_6
def dkwX3_both_4 : List UInt8 := [167, 0, 4, 3, 184, 1, 118, 173, 31, 33, 148, 157, 0, 7, 4, 167, 0, 4, 3, 184, 1, 118, 173, 31]
abbrev dktX3_both_4 : List UInt8 := dkwX3_both_4 ++ dktX3_both_5
def dkwX3_both_3 : List UInt8 := [109, 173, 33, 9, 148, 154, 0, 7, 9, 167, 0, 6, 31, 33, 113, 173, 31, 33, 148, 156, 0, 7, 4]
abbrev dktX3_both_3 : List UInt8 := dkwX3_both_3 ++ dktX3_both_4
def dkwX3_both_2 : List UInt8 := [31, 33, 97, 173, 31, 33, 101, 173, 31, 33, 105, 173, 33, 9, 148, 154, 0, 7, 9, 167, 0, 6, 31, 33]
abbrev dktX3_both_2 : List UInt8 := dkwX3_both_2 ++ dktX3_both_3
def dkwX3_both_1 : List UInt8 := [170, 0, 0, 0, 0, 0, 190, 0, 0, 0, 2, 0, 0, 0, 15, 0, 0, 0, 71, 0, 0, 0, 75, 0, 0, 0, 111, 0, 0, 0, 126, 0, 0, 0, 141, 0, 0, 0, 156, 0, 0, 0, 171, 0, 0, 0, 190, 0, 0, 0, 186, 0, 0, 0, 190, 0, 0, 0, 190, 0, 0, 0, 79, 0, 0, 0, 83, 0, 0, 0, 97]
abbrev dktX3_both_1 : List UInt8 := dkwX3_both_1 ++ dktX3_both_2
def dkwX3_both_0 : List UInt8 := [26]
abbrev dktX3_both_0 : List UInt8 := dkwX3_both_0 ++ dktX3_both_1
theorem dksX3_both_0 : cX3_both.data.toList.drop 0 = dktX3_both_0 := by decide +kernel
theorem dksX3_both_1 : cX3_both.data.toList.drop 1 = dktX3_both_1 := dk_seg dksX3_both_0 1 rfl rfl
theorem dksX3_both_2 : cX3_both.data.toList.drop 72 = dktX3_both_2 := dk_seg dksX3_both_1 71 rfl rfl
theorem dksX3_both_3 : cX3_both.data.toList.drop 96 = dktX3_both_3 := dk_seg dksX3_both_2 24 rfl rfl
theorem dksX3_both_4 : cX3_both.data.toList.drop 119 = dktX3_both_4 := dk_seg dksX3_both_3 23 rfl rfl
theorem dksX3_both_5 : cX3_both.data.toList.drop 143 = dktX3_both_5 := dk_seg dksX3_both_4 24 rfl rfl
theorem dksX3_both_6 : cX3_both.data.toList.drop 167 = dktX3_both_6 := dk_seg dksX3_both_5 24 rfl rfl
theorem dksX3_both_7 : cX3_both.data.toList.drop 191 = dktX3_both_7 := dk_seg dksX3_both_6 24 rfl rfl
theorem dX3_both_0 : decode cX3_both 0 = .ok (.iload_n 0, 1) := dk_26 (dk_at dksX3_both_0 0 rfl rfl)
theorem dX3_both_1 : decode cX3_both 1 = .ok (.tableswitch 190 2 15 #[71, 75, 111, 126, 141, 156, 171, 190, 186, 190, 190, 79, 83, 97], 71) := by decide +kernel
theorem dX3_both_72 : decode cX3_both 72 = .ok (.lload_n 1, 1) := dk_31 (dk_at dksX3_both_2 0 rfl rfl)
theorem dX3_both_73 : decode cX3_both 73 = .ok (.lload_n 3, 1) := dk_33 (dk_at dksX3_both_2 1 rfl rfl)
theorem dX3_both_74 : decode cX3_both 74 = .ok (.ladd, 1) := dk_97 (dk_at dksX3_both_2 2 rfl rfl)
theorem dX3_both_75 : decode cX3_both 75 = .ok (.lreturn, 1) := dk_173 (dk_at dksX3_both_2 3 rfl rfl)
theorem dX3_both_76 : decode cX3_both 76 = .ok (.lload_n 1, 1) := dk_31 (dk_at dksX3_both_2 4 rfl rfl)
theorem dX3_both_77 : decode cX3_both 77 = .ok (.lload_n 3, 1) := dk_33 (dk_at dksX3_both_2 5 rfl rfl)
theorem dX3_both_78 : decode cX3_both 78 = .ok (.lsub, 1) := dk_101 (dk_at dksX3_both_2 6 rfl rfl)
theorem dX3_both_79 : decode cX3_both 79 = .ok (.lreturn, 1) := dk_173 (dk_at dksX3_both_2 7 rfl rfl)
theorem dX3_both_80 : decode cX3_both 80 = .ok (.lload_n 1, 1) := dk_31 (dk_at dksX3_both_2 8 rfl rfl)
theorem dX3_both_81 : decode cX3_both 81 = .ok (.lload_n 3, 1) := dk_33 (dk_at dksX3_both_2 9 rfl rfl)
theorem dX3_both_82 : decode cX3_both 82 = .ok (.lmul, 1) := dk_105 (dk_at dksX3_both_2 10 rfl rfl)
theorem dX3_both_83 : decode cX3_both 83 = .ok (.lreturn, 1) := dk_173 (dk_at dksX3_both_2 11 rfl rfl)
theorem dX3_both_84 : decode cX3_both 84 = .ok (.lload_n 3, 1) := dk_33 (dk_at dksX3_both_2 12 rfl rfl)
theorem dX3_both_85 : decode cX3_both 85 = .ok (.lconst 0, 1) := dk_9 (dk_at dksX3_both_2 13 rfl rfl)
theorem dX3_both_86 : decode cX3_both 86 = .ok (.lcmp, 1) := dk_148 (dk_at dksX3_both_2 14 rfl rfl)
theorem dX3_both_87 : decode cX3_both 87 = .ok (.ifCond .ne 7, 3) := dk_154 0 7 (dk_at dksX3_both_2 15 rfl rfl)
theorem dX3_both_90 : decode cX3_both 90 = .ok (.lconst 0, 1) := dk_9 (dk_at dksX3_both_2 18 rfl rfl)
theorem dX3_both_91 : decode cX3_both 91 = .ok (.goto 6, 3) := dk_167 0 6 (dk_at dksX3_both_2 19 rfl rfl)
theorem dX3_both_94 : decode cX3_both 94 = .ok (.lload_n 1, 1) := dk_31 (dk_at dksX3_both_2 22 rfl rfl)
theorem dX3_both_95 : decode cX3_both 95 = .ok (.lload_n 3, 1) := dk_33 (dk_at dksX3_both_2 23 rfl rfl)
theorem dX3_both_96 : decode cX3_both 96 = .ok (.ldiv, 1) := dk_109 (dk_at dksX3_both_3 0 rfl rfl)
theorem dX3_both_97 : decode cX3_both 97 = .ok (.lreturn, 1) := dk_173 (dk_at dksX3_both_3 1 rfl rfl)
theorem dX3_both_98 : decode cX3_both 98 = .ok (.lload_n 3, 1) := dk_33 (dk_at dksX3_both_3 2 rfl rfl)
theorem dX3_both_99 : decode cX3_both 99 = .ok (.lconst 0, 1) := dk_9 (dk_at dksX3_both_3 3 rfl rfl)
theorem dX3_both_100 : decode cX3_both 100 = .ok (.lcmp, 1) := dk_148 (dk_at dksX3_both_3 4 rfl rfl)
theorem dX3_both_101 : decode cX3_both 101 = .ok (.ifCond .ne 7, 3) := dk_154 0 7 (dk_at dksX3_both_3 5 rfl rfl)
theorem dX3_both_104 : decode cX3_both 104 = .ok (.lconst 0, 1) := dk_9 (dk_at dksX3_both_3 8 rfl rfl)
theorem dX3_both_105 : decode cX3_both 105 = .ok (.goto 6, 3) := dk_167 0 6 (dk_at dksX3_both_3 9 rfl rfl)
theorem dX3_both_108 : decode cX3_both 108 = .ok (.lload_n 1, 1) := dk_31 (dk_at dksX3_both_3 12 rfl rfl)
theorem dX3_both_109 : decode cX3_both 109 = .ok (.lload_n 3, 1) := dk_33 (dk_at dksX3_both_3 13 rfl rfl)
theorem dX3_both_110 : decode cX3_both 110 = .ok (.lrem, 1) := dk_113 (dk_at dksX3_both_3 14 rfl rfl)
theorem dX3_both_111 : decode cX3_both 111 = .ok (.lreturn, 1) := dk_173 (dk_at dksX3_both_3 15 rfl rfl)
theorem dX3_both_112 : decode cX3_both 112 = .ok (.lload_n 1, 1) := dk_31 (dk_at dksX3_both_3 16 rfl rfl)
theorem dX3_both_113 : decode cX3_both 113 = .ok (.lload_n 3, 1) := dk_33 (dk_at dksX3_both_3 17 rfl rfl)
theorem dX3_both_114 : decode cX3_both 114 = .ok (.lcmp, 1) := dk_148 (dk_at dksX3_both_3 18 rfl rfl)
theorem dX3_both_115 : decode cX3_both 115 = .ok (.ifCond .ge 7, 3) := dk_156 0 7 (dk_at dksX3_both_3 19 rfl rfl)
theorem dX3_both_118 : decode cX3_both 118 = .ok (.iconst 1, 1) := dk_4 (dk_at dksX3_both_3 22 rfl rfl)
theorem dX3_both_119 : decode cX3_both 119 = .ok (.goto 4, 3) := dk_167 0 4 (dk_at dksX3_both_4 0 rfl rfl)
theorem dX3_both_122 : decode cX3_both 122 = .ok (.iconst 0, 1) := dk_3 (dk_at dksX3_both_4 3 rfl rfl)
theorem dX3_both_123 : decode cX3_both 123 = .ok (.invokestatic 374, 3) := dk_184 1 118 (dk_at dksX3_both_4 4 rfl rfl)
theorem dX3_both_126 : decode cX3_both 126 = .ok (.lreturn, 1) := dk_173 (dk_at dksX3_both_4 7 rfl rfl)
theorem dX3_both_127 : decode cX3_both 127 = .ok (.lload_n 1, 1) := dk_31 (dk_at dksX3_both_4 8 rfl rfl)
theorem dX3_both_128 : decode cX3_both 128 = .ok (.lload_n 3, 1) := dk_33 (dk_at dksX3_both_4 9 rfl rfl)
theorem dX3_both_129 : decode cX3_both 129 = .ok (.lcmp, 1) := dk_148 (dk_at dksX3_both_4 10 rfl rfl)
theorem dX3_both_130 : decode cX3_both 130 = .ok (.ifCond .gt 7, 3) := dk_157 0 7 (dk_at dksX3_both_4 11 rfl rfl)
theorem dX3_both_133 : decode cX3_both 133 = .ok (.iconst 1, 1) := dk_4 (dk_at dksX3_both_4 14 rfl rfl)
theorem dX3_both_134 : decode cX3_both 134 = .ok (.goto 4, 3) := dk_167 0 4 (dk_at dksX3_both_4 15 rfl rfl)
theorem dX3_both_137 : decode cX3_both 137 = .ok (.iconst 0, 1) := dk_3 (dk_at dksX3_both_4 18 rfl rfl)
theorem dX3_both_138 : decode cX3_both 138 = .ok (.invokestatic 374, 3) := dk_184 1 118 (dk_at dksX3_both_4 19 rfl rfl)
theorem dX3_both_141 : decode cX3_both 141 = .ok (.lreturn, 1) := dk_173 (dk_at dksX3_both_4 22 rfl rfl)
theorem dX3_both_142 : decode cX3_both 142 = .ok (.lload_n 1, 1) := dk_31 (dk_at dksX3_both_4 23 rfl rfl)
theorem dX3_both_143 : decode cX3_both 143 = .ok (.lload_n 3, 1) := dk_33 (dk_at dksX3_both_5 0 rfl rfl)
theorem dX3_both_144 : decode cX3_both 144 = .ok (.lcmp, 1) := dk_148 (dk_at dksX3_both_5 1 rfl rfl)
theorem dX3_both_145 : decode cX3_both 145 = .ok (.ifCond .ne 7, 3) := dk_154 0 7 (dk_at dksX3_both_5 2 rfl rfl)
theorem dX3_both_148 : decode cX3_both 148 = .ok (.iconst 1, 1) := dk_4 (dk_at dksX3_both_5 5 rfl rfl)
theorem dX3_both_149 : decode cX3_both 149 = .ok (.goto 4, 3) := dk_167 0 4 (dk_at dksX3_both_5 6 rfl rfl)
theorem dX3_both_152 : decode cX3_both 152 = .ok (.iconst 0, 1) := dk_3 (dk_at dksX3_both_5 9 rfl rfl)
theorem dX3_both_153 : decode cX3_both 153 = .ok (.invokestatic 374, 3) := dk_184 1 118 (dk_at dksX3_both_5 10 rfl rfl)
theorem dX3_both_156 : decode cX3_both 156 = .ok (.lreturn, 1) := dk_173 (dk_at dksX3_both_5 13 rfl rfl)
theorem dX3_both_157 : decode cX3_both 157 = .ok (.lload_n 1, 1) := dk_31 (dk_at dksX3_both_5 14 rfl rfl)
theorem dX3_both_158 : decode cX3_both 158 = .ok (.lload_n 3, 1) := dk_33 (dk_at dksX3_both_5 15 rfl rfl)
theorem dX3_both_159 : decode cX3_both 159 = .ok (.lcmp, 1) := dk_148 (dk_at dksX3_both_5 16 rfl rfl)
theorem dX3_both_160 : decode cX3_both 160 = .ok (.ifCond .lt 7, 3) := dk_155 0 7 (dk_at dksX3_both_5 17 rfl rfl)
theorem dX3_both_163 : decode cX3_both 163 = .ok (.iconst 1, 1) := dk_4 (dk_at dksX3_both_5 20 rfl rfl)
theorem dX3_both_164 : decode cX3_both 164 = .ok (.goto 4, 3) := dk_167 0 4 (dk_at dksX3_both_5 21 rfl rfl)
theorem dX3_both_167 : decode cX3_both 167 = .ok (.iconst 0, 1) := dk_3 (dk_at dksX3_both_6 0 rfl rfl)
theorem dX3_both_168 : decode cX3_both 168 = .ok (.invokestatic 374, 3) := dk_184 1 118 (dk_at dksX3_both_6 1 rfl rfl)
theorem dX3_both_171 : decode cX3_both 171 = .ok (.lreturn, 1) := dk_173 (dk_at dksX3_both_6 4 rfl rfl)
theorem dX3_both_172 : decode cX3_both 172 = .ok (.lload_n 1, 1) := dk_31 (dk_at dksX3_both_6 5 rfl rfl)
theorem dX3_both_173 : decode cX3_both 173 = .ok (.lload_n 3, 1) := dk_33 (dk_at dksX3_both_6 6 rfl rfl)
theorem dX3_both_174 : decode cX3_both 174 = .ok (.lcmp, 1) := dk_148 (dk_at dksX3_both_6 7 rfl rfl)
theorem dX3_both_175 : decode cX3_both 175 = .ok (.ifCond .le 7, 3) := dk_158 0 7 (dk_at dksX3_both_6 8 rfl rfl)
theorem dX3_both_178 : decode cX3_both 178 = .ok (.iconst 1, 1) := dk_4 (dk_at dksX3_both_6 11 rfl rfl)
theorem dX3_both_179 : decode cX3_both 179 = .ok (.goto 4, 3) := dk_167 0 4 (dk_at dksX3_both_6 12 rfl rfl)
theorem dX3_both_182 : decode cX3_both 182 = .ok (.iconst 0, 1) := dk_3 (dk_at dksX3_both_6 15 rfl rfl)
theorem dX3_both_183 : decode cX3_both 183 = .ok (.invokestatic 374, 3) := dk_184 1 118 (dk_at dksX3_both_6 16 rfl rfl)
theorem dX3_both_186 : decode cX3_both 186 = .ok (.lreturn, 1) := dk_173 (dk_at dksX3_both_6 19 rfl rfl)
theorem dX3_both_187 : decode cX3_both 187 = .ok (.lload_n 1, 1) := dk_31 (dk_at dksX3_both_6 20 rfl rfl)
theorem dX3_both_188 : decode cX3_both 188 = .ok (.lload_n 3, 1) := dk_33 (dk_at dksX3_both_6 21 rfl rfl)
theorem dX3_both_189 : decode cX3_both 189 = .ok (.land, 1) := dk_127 (dk_at dksX3_both_6 22 rfl rfl)
theorem dX3_both_190 : decode cX3_both 190 = .ok (.lreturn, 1) := dk_173 (dk_at dksX3_both_6 23 rfl rfl)
theorem dX3_both_191 : decode cX3_both 191 = .ok (.lload_n 1, 1) := dk_31 (dk_at dksX3_both_7 0 rfl rfl)
theorem dX3_both_192 : decode cX3_both 192 = .ok (.lload_n 3, 1) := dk_33 (dk_at dksX3_both_7 1 rfl rfl)
theorem dX3_both_193 : decode cX3_both 193 = .ok (.lor, 1) := dk_129 (dk_at dksX3_both_7 2 rfl rfl)
theorem dX3_both_194 : decode cX3_both 194 = .ok (.lreturn, 1) := dk_173 (dk_at dksX3_both_7 3 rfl rfl)
abbrev cX3_truth : ByteArray := prog_17_method_49_code
def yX3_truth : MethodName := ⟨RX3, "truth", "(Z)J"⟩
def dkwX3_truth_0 : List UInt8 := [26, 153, 0, 7, 10, 167, 0, 4, 9, 173]
abbrev dktX3_truth_0 : List UInt8 := dkwX3_truth_0 ++ []
theorem dksX3_truth_0 : cX3_truth.data.toList.drop 0 = dktX3_truth_0 := by decide +kernel
theorem dX3_truth_0 : decode cX3_truth 0 = .ok (.iload_n 0, 1) := dk_26 (dk_at dksX3_truth_0 0 rfl rfl)
theorem dX3_truth_1 : decode cX3_truth 1 = .ok (.ifCond .eq 7, 3) := dk_153 0 7 (dk_at dksX3_truth_0 1 rfl rfl)
theorem dX3_truth_4 : decode cX3_truth 4 = .ok (.lconst 1, 1) := dk_10 (dk_at dksX3_truth_0 4 rfl rfl)
theorem dX3_truth_5 : decode cX3_truth 5 = .ok (.goto 4, 3) := dk_167 0 4 (dk_at dksX3_truth_0 5 rfl rfl)
theorem dX3_truth_8 : decode cX3_truth 8 = .ok (.lconst 0, 1) := dk_9 (dk_at dksX3_truth_0 8 rfl rfl)
theorem dX3_truth_9 : decode cX3_truth 9 = .ok (.lreturn, 1) := dk_173 (dk_at dksX3_truth_0 9 rfl rfl)
abbrev cX3_paints : ByteArray := prog_17_method_71_code
def yX3_paints : MethodName := ⟨RX3, "paints", "(II)V"⟩
def dkwX3_paints_5 : List UInt8 := [177]
abbrev dktX3_paints_5 : List UInt8 := dkwX3_paints_5 ++ []
def dkwX3_paints_4 : List UInt8 := [180, 0, 31, 27, 46, 96, 42, 180, 0, 9, 16, 9, 46, 79, 42, 180, 0, 31, 27, 92, 46, 4, 96, 79]
abbrev dktX3_paints_4 : List UInt8 := dkwX3_paints_4 ++ dktX3_paints_5
def dkwX3_paints_3 : List UInt8 := [180, 0, 34, 8, 27, 104, 42, 180, 0, 31, 27, 46, 96, 28, 79, 42, 180, 0, 37, 8, 27, 104, 42]
abbrev dktX3_paints_3 : List UInt8 := dkwX3_paints_3 ++ dktX3_paints_4
def dkwX3_paints_2 : List UInt8 := [42, 180, 0, 37, 29, 46, 79, 132, 3, 1, 167, 255, 216, 42, 180, 0, 31, 27, 92, 46, 4, 100, 79, 42]
abbrev dktX3_paints_2 : List UInt8 := dkwX3_paints_2 ++ dktX3_paints_3
def dkwX3_paints_1 : List UInt8 := [162, 0, 37, 42, 180, 0, 34, 29, 4, 100, 42, 180, 0, 34, 29, 46, 79, 42, 180, 0, 37, 29, 4, 100]
abbrev dktX3_paints_1 : List UInt8 := dkwX3_paints_1 ++ dktX3_paints_2
def dkwX3_paints_0 : List UInt8 := [42, 180, 0, 31, 27, 46, 8, 160, 0, 62, 8, 27, 104, 4, 96, 62, 29, 8, 27, 104, 8, 96]
abbrev dktX3_paints_0 : List UInt8 := dkwX3_paints_0 ++ dktX3_paints_1
theorem dksX3_paints_0 : cX3_paints.data.toList.drop 0 = dktX3_paints_0 := by decide +kernel
theorem dksX3_paints_1 : cX3_paints.data.toList.drop 22 = dktX3_paints_1 := dk_seg dksX3_paints_0 22 rfl rfl
theorem dksX3_paints_2 : cX3_paints.data.toList.drop 46 = dktX3_paints_2 := dk_seg dksX3_paints_1 24 rfl rfl
theorem dksX3_paints_3 : cX3_paints.data.toList.drop 70 = dktX3_paints_3 := dk_seg dksX3_paints_2 24 rfl rfl
theorem dksX3_paints_4 : cX3_paints.data.toList.drop 93 = dktX3_paints_4 := dk_seg dksX3_paints_3 23 rfl rfl
theorem dksX3_paints_5 : cX3_paints.data.toList.drop 117 = dktX3_paints_5 := dk_seg dksX3_paints_4 24 rfl rfl
theorem dX3_paints_0 : decode cX3_paints 0 = .ok (.aload_n 0, 1) := dk_42 (dk_at dksX3_paints_0 0 rfl rfl)
theorem dX3_paints_1 : decode cX3_paints 1 = .ok (.getfield 31, 3) := dk_180 0 31 (dk_at dksX3_paints_0 1 rfl rfl)
theorem dX3_paints_4 : decode cX3_paints 4 = .ok (.iload_n 1, 1) := dk_27 (dk_at dksX3_paints_0 4 rfl rfl)
theorem dX3_paints_5 : decode cX3_paints 5 = .ok (.iaload, 1) := dk_46 (dk_at dksX3_paints_0 5 rfl rfl)
theorem dX3_paints_6 : decode cX3_paints 6 = .ok (.iconst 5, 1) := dk_8 (dk_at dksX3_paints_0 6 rfl rfl)
theorem dX3_paints_7 : decode cX3_paints 7 = .ok (.if_icmp .ne 62, 3) := dk_160 0 62 (dk_at dksX3_paints_0 7 rfl rfl)
theorem dX3_paints_10 : decode cX3_paints 10 = .ok (.iconst 5, 1) := dk_8 (dk_at dksX3_paints_0 10 rfl rfl)
theorem dX3_paints_11 : decode cX3_paints 11 = .ok (.iload_n 1, 1) := dk_27 (dk_at dksX3_paints_0 11 rfl rfl)
theorem dX3_paints_12 : decode cX3_paints 12 = .ok (.imul, 1) := dk_104 (dk_at dksX3_paints_0 12 rfl rfl)
theorem dX3_paints_13 : decode cX3_paints 13 = .ok (.iconst 1, 1) := dk_4 (dk_at dksX3_paints_0 13 rfl rfl)
theorem dX3_paints_14 : decode cX3_paints 14 = .ok (.iadd, 1) := dk_96 (dk_at dksX3_paints_0 14 rfl rfl)
theorem dX3_paints_15 : decode cX3_paints 15 = .ok (.istore_n 3, 1) := dk_62 (dk_at dksX3_paints_0 15 rfl rfl)
theorem dX3_paints_16 : decode cX3_paints 16 = .ok (.iload_n 3, 1) := dk_29 (dk_at dksX3_paints_0 16 rfl rfl)
theorem dX3_paints_17 : decode cX3_paints 17 = .ok (.iconst 5, 1) := dk_8 (dk_at dksX3_paints_0 17 rfl rfl)
theorem dX3_paints_18 : decode cX3_paints 18 = .ok (.iload_n 1, 1) := dk_27 (dk_at dksX3_paints_0 18 rfl rfl)
theorem dX3_paints_19 : decode cX3_paints 19 = .ok (.imul, 1) := dk_104 (dk_at dksX3_paints_0 19 rfl rfl)
theorem dX3_paints_20 : decode cX3_paints 20 = .ok (.iconst 5, 1) := dk_8 (dk_at dksX3_paints_0 20 rfl rfl)
theorem dX3_paints_21 : decode cX3_paints 21 = .ok (.iadd, 1) := dk_96 (dk_at dksX3_paints_0 21 rfl rfl)
theorem dX3_paints_22 : decode cX3_paints 22 = .ok (.if_icmp .ge 37, 3) := dk_162 0 37 (dk_at dksX3_paints_1 0 rfl rfl)
theorem dX3_paints_25 : decode cX3_paints 25 = .ok (.aload_n 0, 1) := dk_42 (dk_at dksX3_paints_1 3 rfl rfl)
theorem dX3_paints_26 : decode cX3_paints 26 = .ok (.getfield 34, 3) := dk_180 0 34 (dk_at dksX3_paints_1 4 rfl rfl)
theorem dX3_paints_29 : decode cX3_paints 29 = .ok (.iload_n 3, 1) := dk_29 (dk_at dksX3_paints_1 7 rfl rfl)
theorem dX3_paints_30 : decode cX3_paints 30 = .ok (.iconst 1, 1) := dk_4 (dk_at dksX3_paints_1 8 rfl rfl)
theorem dX3_paints_31 : decode cX3_paints 31 = .ok (.isub, 1) := dk_100 (dk_at dksX3_paints_1 9 rfl rfl)
theorem dX3_paints_32 : decode cX3_paints 32 = .ok (.aload_n 0, 1) := dk_42 (dk_at dksX3_paints_1 10 rfl rfl)
theorem dX3_paints_33 : decode cX3_paints 33 = .ok (.getfield 34, 3) := dk_180 0 34 (dk_at dksX3_paints_1 11 rfl rfl)
theorem dX3_paints_36 : decode cX3_paints 36 = .ok (.iload_n 3, 1) := dk_29 (dk_at dksX3_paints_1 14 rfl rfl)
theorem dX3_paints_37 : decode cX3_paints 37 = .ok (.iaload, 1) := dk_46 (dk_at dksX3_paints_1 15 rfl rfl)
theorem dX3_paints_38 : decode cX3_paints 38 = .ok (.iastore, 1) := dk_79 (dk_at dksX3_paints_1 16 rfl rfl)
theorem dX3_paints_39 : decode cX3_paints 39 = .ok (.aload_n 0, 1) := dk_42 (dk_at dksX3_paints_1 17 rfl rfl)
theorem dX3_paints_40 : decode cX3_paints 40 = .ok (.getfield 37, 3) := dk_180 0 37 (dk_at dksX3_paints_1 18 rfl rfl)
theorem dX3_paints_43 : decode cX3_paints 43 = .ok (.iload_n 3, 1) := dk_29 (dk_at dksX3_paints_1 21 rfl rfl)
theorem dX3_paints_44 : decode cX3_paints 44 = .ok (.iconst 1, 1) := dk_4 (dk_at dksX3_paints_1 22 rfl rfl)
theorem dX3_paints_45 : decode cX3_paints 45 = .ok (.isub, 1) := dk_100 (dk_at dksX3_paints_1 23 rfl rfl)
theorem dX3_paints_46 : decode cX3_paints 46 = .ok (.aload_n 0, 1) := dk_42 (dk_at dksX3_paints_2 0 rfl rfl)
theorem dX3_paints_47 : decode cX3_paints 47 = .ok (.getfield 37, 3) := dk_180 0 37 (dk_at dksX3_paints_2 1 rfl rfl)
theorem dX3_paints_50 : decode cX3_paints 50 = .ok (.iload_n 3, 1) := dk_29 (dk_at dksX3_paints_2 4 rfl rfl)
theorem dX3_paints_51 : decode cX3_paints 51 = .ok (.iaload, 1) := dk_46 (dk_at dksX3_paints_2 5 rfl rfl)
theorem dX3_paints_52 : decode cX3_paints 52 = .ok (.iastore, 1) := dk_79 (dk_at dksX3_paints_2 6 rfl rfl)
theorem dX3_paints_53 : decode cX3_paints 53 = .ok (.iinc 3 1, 3) := dk_132 3 1 (dk_at dksX3_paints_2 7 rfl rfl)
theorem dX3_paints_56 : decode cX3_paints 56 = .ok (.goto (-40), 3) := dk_167 255 216 (dk_at dksX3_paints_2 10 rfl rfl)
theorem dX3_paints_59 : decode cX3_paints 59 = .ok (.aload_n 0, 1) := dk_42 (dk_at dksX3_paints_2 13 rfl rfl)
theorem dX3_paints_60 : decode cX3_paints 60 = .ok (.getfield 31, 3) := dk_180 0 31 (dk_at dksX3_paints_2 14 rfl rfl)
theorem dX3_paints_63 : decode cX3_paints 63 = .ok (.iload_n 1, 1) := dk_27 (dk_at dksX3_paints_2 17 rfl rfl)
theorem dX3_paints_64 : decode cX3_paints 64 = .ok (.dup2, 1) := dk_92 (dk_at dksX3_paints_2 18 rfl rfl)
theorem dX3_paints_65 : decode cX3_paints 65 = .ok (.iaload, 1) := dk_46 (dk_at dksX3_paints_2 19 rfl rfl)
theorem dX3_paints_66 : decode cX3_paints 66 = .ok (.iconst 1, 1) := dk_4 (dk_at dksX3_paints_2 20 rfl rfl)
theorem dX3_paints_67 : decode cX3_paints 67 = .ok (.isub, 1) := dk_100 (dk_at dksX3_paints_2 21 rfl rfl)
theorem dX3_paints_68 : decode cX3_paints 68 = .ok (.iastore, 1) := dk_79 (dk_at dksX3_paints_2 22 rfl rfl)
theorem dX3_paints_69 : decode cX3_paints 69 = .ok (.aload_n 0, 1) := dk_42 (dk_at dksX3_paints_2 23 rfl rfl)
theorem dX3_paints_70 : decode cX3_paints 70 = .ok (.getfield 34, 3) := dk_180 0 34 (dk_at dksX3_paints_3 0 rfl rfl)
theorem dX3_paints_73 : decode cX3_paints 73 = .ok (.iconst 5, 1) := dk_8 (dk_at dksX3_paints_3 3 rfl rfl)
theorem dX3_paints_74 : decode cX3_paints 74 = .ok (.iload_n 1, 1) := dk_27 (dk_at dksX3_paints_3 4 rfl rfl)
theorem dX3_paints_75 : decode cX3_paints 75 = .ok (.imul, 1) := dk_104 (dk_at dksX3_paints_3 5 rfl rfl)
theorem dX3_paints_76 : decode cX3_paints 76 = .ok (.aload_n 0, 1) := dk_42 (dk_at dksX3_paints_3 6 rfl rfl)
theorem dX3_paints_77 : decode cX3_paints 77 = .ok (.getfield 31, 3) := dk_180 0 31 (dk_at dksX3_paints_3 7 rfl rfl)
theorem dX3_paints_80 : decode cX3_paints 80 = .ok (.iload_n 1, 1) := dk_27 (dk_at dksX3_paints_3 10 rfl rfl)
theorem dX3_paints_81 : decode cX3_paints 81 = .ok (.iaload, 1) := dk_46 (dk_at dksX3_paints_3 11 rfl rfl)
theorem dX3_paints_82 : decode cX3_paints 82 = .ok (.iadd, 1) := dk_96 (dk_at dksX3_paints_3 12 rfl rfl)
theorem dX3_paints_83 : decode cX3_paints 83 = .ok (.iload_n 2, 1) := dk_28 (dk_at dksX3_paints_3 13 rfl rfl)
theorem dX3_paints_84 : decode cX3_paints 84 = .ok (.iastore, 1) := dk_79 (dk_at dksX3_paints_3 14 rfl rfl)
theorem dX3_paints_85 : decode cX3_paints 85 = .ok (.aload_n 0, 1) := dk_42 (dk_at dksX3_paints_3 15 rfl rfl)
theorem dX3_paints_86 : decode cX3_paints 86 = .ok (.getfield 37, 3) := dk_180 0 37 (dk_at dksX3_paints_3 16 rfl rfl)
theorem dX3_paints_89 : decode cX3_paints 89 = .ok (.iconst 5, 1) := dk_8 (dk_at dksX3_paints_3 19 rfl rfl)
theorem dX3_paints_90 : decode cX3_paints 90 = .ok (.iload_n 1, 1) := dk_27 (dk_at dksX3_paints_3 20 rfl rfl)
theorem dX3_paints_91 : decode cX3_paints 91 = .ok (.imul, 1) := dk_104 (dk_at dksX3_paints_3 21 rfl rfl)
theorem dX3_paints_92 : decode cX3_paints 92 = .ok (.aload_n 0, 1) := dk_42 (dk_at dksX3_paints_3 22 rfl rfl)
theorem dX3_paints_93 : decode cX3_paints 93 = .ok (.getfield 31, 3) := dk_180 0 31 (dk_at dksX3_paints_4 0 rfl rfl)
theorem dX3_paints_96 : decode cX3_paints 96 = .ok (.iload_n 1, 1) := dk_27 (dk_at dksX3_paints_4 3 rfl rfl)
theorem dX3_paints_97 : decode cX3_paints 97 = .ok (.iaload, 1) := dk_46 (dk_at dksX3_paints_4 4 rfl rfl)
theorem dX3_paints_98 : decode cX3_paints 98 = .ok (.iadd, 1) := dk_96 (dk_at dksX3_paints_4 5 rfl rfl)
theorem dX3_paints_99 : decode cX3_paints 99 = .ok (.aload_n 0, 1) := dk_42 (dk_at dksX3_paints_4 6 rfl rfl)
theorem dX3_paints_100 : decode cX3_paints 100 = .ok (.getfield 9, 3) := dk_180 0 9 (dk_at dksX3_paints_4 7 rfl rfl)
theorem dX3_paints_103 : decode cX3_paints 103 = .ok (.bipush 9, 2) := dk_16 9 (dk_at dksX3_paints_4 10 rfl rfl)
theorem dX3_paints_105 : decode cX3_paints 105 = .ok (.iaload, 1) := dk_46 (dk_at dksX3_paints_4 12 rfl rfl)
theorem dX3_paints_106 : decode cX3_paints 106 = .ok (.iastore, 1) := dk_79 (dk_at dksX3_paints_4 13 rfl rfl)
theorem dX3_paints_107 : decode cX3_paints 107 = .ok (.aload_n 0, 1) := dk_42 (dk_at dksX3_paints_4 14 rfl rfl)
theorem dX3_paints_108 : decode cX3_paints 108 = .ok (.getfield 31, 3) := dk_180 0 31 (dk_at dksX3_paints_4 15 rfl rfl)
theorem dX3_paints_111 : decode cX3_paints 111 = .ok (.iload_n 1, 1) := dk_27 (dk_at dksX3_paints_4 18 rfl rfl)
theorem dX3_paints_112 : decode cX3_paints 112 = .ok (.dup2, 1) := dk_92 (dk_at dksX3_paints_4 19 rfl rfl)
theorem dX3_paints_113 : decode cX3_paints 113 = .ok (.iaload, 1) := dk_46 (dk_at dksX3_paints_4 20 rfl rfl)
theorem dX3_paints_114 : decode cX3_paints 114 = .ok (.iconst 1, 1) := dk_4 (dk_at dksX3_paints_4 21 rfl rfl)
theorem dX3_paints_115 : decode cX3_paints 115 = .ok (.iadd, 1) := dk_96 (dk_at dksX3_paints_4 22 rfl rfl)
theorem dX3_paints_116 : decode cX3_paints 116 = .ok (.iastore, 1) := dk_79 (dk_at dksX3_paints_4 23 rfl rfl)
theorem dX3_paints_117 : decode cX3_paints 117 = .ok (.return_, 1) := dk_177 (dk_at dksX3_paints_5 0 rfl rfl)
abbrev cX3_ends : ByteArray := prog_17_method_77_code
def yX3_ends : MethodName := ⟨RX3, "ends", "()V"⟩
def dkwX3_ends_5 : List UInt8 := [42, 180, 0, 16, 27, 46, 96, 79, 132, 1, 1, 167, 255, 158, 177]
abbrev dktX3_ends_5 : List UInt8 := dkwX3_ends_5 ++ []
def dkwX3_ends_4 : List UInt8 := [180, 0, 16, 27, 46, 96, 17, 3, 231, 164, 0, 9, 17, 3, 231, 167, 0, 16, 42, 180, 0, 22, 28, 46]
abbrev dktX3_ends_4 : List UInt8 := dkwX3_ends_4 ++ dktX3_ends_5
def dkwX3_ends_3 : List UInt8 := [92, 46, 42, 180, 0, 16, 27, 46, 96, 79, 42, 180, 0, 22, 28, 42, 180, 0, 22, 28, 46, 42]
abbrev dktX3_ends_3 : List UInt8 := dkwX3_ends_3 ++ dktX3_ends_4
def dkwX3_ends_2 : List UInt8 := [16, 24, 112, 16, 12, 160, 0, 79, 42, 27, 182, 1, 164, 61, 28, 2, 159, 0, 62, 42, 180, 0, 127, 28]
abbrev dktX3_ends_2 : List UInt8 := dkwX3_ends_2 ++ dktX3_ends_3
def dkwX3_ends_1 : List UInt8 := [92, 46, 4, 96, 79, 3, 60, 27, 42, 180, 0, 9, 6, 46, 162, 0, 94, 42, 180, 0, 9, 16, 9, 46]
abbrev dktX3_ends_1 : List UInt8 := dkwX3_ends_1 ++ dktX3_ends_2
def dkwX3_ends_0 : List UInt8 := [42, 42, 180, 0, 9, 16, 9, 46, 182, 1, 176, 153, 0, 7, 42, 182, 1, 195, 42, 180, 0, 9, 16, 9]
abbrev dktX3_ends_0 : List UInt8 := dkwX3_ends_0 ++ dktX3_ends_1
theorem dksX3_ends_0 : cX3_ends.data.toList.drop 0 = dktX3_ends_0 := by decide +kernel
theorem dksX3_ends_1 : cX3_ends.data.toList.drop 24 = dktX3_ends_1 := dk_seg dksX3_ends_0 24 rfl rfl
theorem dksX3_ends_2 : cX3_ends.data.toList.drop 48 = dktX3_ends_2 := dk_seg dksX3_ends_1 24 rfl rfl
theorem dksX3_ends_3 : cX3_ends.data.toList.drop 72 = dktX3_ends_3 := dk_seg dksX3_ends_2 24 rfl rfl
theorem dksX3_ends_4 : cX3_ends.data.toList.drop 94 = dktX3_ends_4 := dk_seg dksX3_ends_3 22 rfl rfl
theorem dksX3_ends_5 : cX3_ends.data.toList.drop 118 = dktX3_ends_5 := dk_seg dksX3_ends_4 24 rfl rfl
theorem dX3_ends_0 : decode cX3_ends 0 = .ok (.aload_n 0, 1) := dk_42 (dk_at dksX3_ends_0 0 rfl rfl)
theorem dX3_ends_1 : decode cX3_ends 1 = .ok (.aload_n 0, 1) := dk_42 (dk_at dksX3_ends_0 1 rfl rfl)
theorem dX3_ends_2 : decode cX3_ends 2 = .ok (.getfield 9, 3) := dk_180 0 9 (dk_at dksX3_ends_0 2 rfl rfl)
theorem dX3_ends_5 : decode cX3_ends 5 = .ok (.bipush 9, 2) := dk_16 9 (dk_at dksX3_ends_0 5 rfl rfl)
theorem dX3_ends_7 : decode cX3_ends 7 = .ok (.iaload, 1) := dk_46 (dk_at dksX3_ends_0 7 rfl rfl)
theorem dX3_ends_8 : decode cX3_ends 8 = .ok (.invokevirtual 432, 3) := dk_182 1 176 (dk_at dksX3_ends_0 8 rfl rfl)
theorem dX3_ends_11 : decode cX3_ends 11 = .ok (.ifCond .eq 7, 3) := dk_153 0 7 (dk_at dksX3_ends_0 11 rfl rfl)
theorem dX3_ends_14 : decode cX3_ends 14 = .ok (.aload_n 0, 1) := dk_42 (dk_at dksX3_ends_0 14 rfl rfl)
theorem dX3_ends_15 : decode cX3_ends 15 = .ok (.invokevirtual 451, 3) := dk_182 1 195 (dk_at dksX3_ends_0 15 rfl rfl)
theorem dX3_ends_18 : decode cX3_ends 18 = .ok (.aload_n 0, 1) := dk_42 (dk_at dksX3_ends_0 18 rfl rfl)
theorem dX3_ends_19 : decode cX3_ends 19 = .ok (.getfield 9, 3) := dk_180 0 9 (dk_at dksX3_ends_0 19 rfl rfl)
theorem dX3_ends_22 : decode cX3_ends 22 = .ok (.bipush 9, 2) := dk_16 9 (dk_at dksX3_ends_0 22 rfl rfl)
theorem dX3_ends_24 : decode cX3_ends 24 = .ok (.dup2, 1) := dk_92 (dk_at dksX3_ends_1 0 rfl rfl)
theorem dX3_ends_25 : decode cX3_ends 25 = .ok (.iaload, 1) := dk_46 (dk_at dksX3_ends_1 1 rfl rfl)
theorem dX3_ends_26 : decode cX3_ends 26 = .ok (.iconst 1, 1) := dk_4 (dk_at dksX3_ends_1 2 rfl rfl)
theorem dX3_ends_27 : decode cX3_ends 27 = .ok (.iadd, 1) := dk_96 (dk_at dksX3_ends_1 3 rfl rfl)
theorem dX3_ends_28 : decode cX3_ends 28 = .ok (.iastore, 1) := dk_79 (dk_at dksX3_ends_1 4 rfl rfl)
theorem dX3_ends_29 : decode cX3_ends 29 = .ok (.iconst 0, 1) := dk_3 (dk_at dksX3_ends_1 5 rfl rfl)
theorem dX3_ends_30 : decode cX3_ends 30 = .ok (.istore_n 1, 1) := dk_60 (dk_at dksX3_ends_1 6 rfl rfl)
theorem dX3_ends_31 : decode cX3_ends 31 = .ok (.iload_n 1, 1) := dk_27 (dk_at dksX3_ends_1 7 rfl rfl)
theorem dX3_ends_32 : decode cX3_ends 32 = .ok (.aload_n 0, 1) := dk_42 (dk_at dksX3_ends_1 8 rfl rfl)
theorem dX3_ends_33 : decode cX3_ends 33 = .ok (.getfield 9, 3) := dk_180 0 9 (dk_at dksX3_ends_1 9 rfl rfl)
theorem dX3_ends_36 : decode cX3_ends 36 = .ok (.iconst 3, 1) := dk_6 (dk_at dksX3_ends_1 12 rfl rfl)
theorem dX3_ends_37 : decode cX3_ends 37 = .ok (.iaload, 1) := dk_46 (dk_at dksX3_ends_1 13 rfl rfl)
theorem dX3_ends_38 : decode cX3_ends 38 = .ok (.if_icmp .ge 94, 3) := dk_162 0 94 (dk_at dksX3_ends_1 14 rfl rfl)
theorem dX3_ends_41 : decode cX3_ends 41 = .ok (.aload_n 0, 1) := dk_42 (dk_at dksX3_ends_1 17 rfl rfl)
theorem dX3_ends_42 : decode cX3_ends 42 = .ok (.getfield 9, 3) := dk_180 0 9 (dk_at dksX3_ends_1 18 rfl rfl)
theorem dX3_ends_45 : decode cX3_ends 45 = .ok (.bipush 9, 2) := dk_16 9 (dk_at dksX3_ends_1 21 rfl rfl)
theorem dX3_ends_47 : decode cX3_ends 47 = .ok (.iaload, 1) := dk_46 (dk_at dksX3_ends_1 23 rfl rfl)
theorem dX3_ends_48 : decode cX3_ends 48 = .ok (.bipush 24, 2) := dk_16 24 (dk_at dksX3_ends_2 0 rfl rfl)
theorem dX3_ends_50 : decode cX3_ends 50 = .ok (.irem, 1) := dk_112 (dk_at dksX3_ends_2 2 rfl rfl)
theorem dX3_ends_51 : decode cX3_ends 51 = .ok (.bipush 12, 2) := dk_16 12 (dk_at dksX3_ends_2 3 rfl rfl)
theorem dX3_ends_53 : decode cX3_ends 53 = .ok (.if_icmp .ne 79, 3) := dk_160 0 79 (dk_at dksX3_ends_2 5 rfl rfl)
theorem dX3_ends_56 : decode cX3_ends 56 = .ok (.aload_n 0, 1) := dk_42 (dk_at dksX3_ends_2 8 rfl rfl)
theorem dX3_ends_57 : decode cX3_ends 57 = .ok (.iload_n 1, 1) := dk_27 (dk_at dksX3_ends_2 9 rfl rfl)
theorem dX3_ends_58 : decode cX3_ends 58 = .ok (.invokevirtual 420, 3) := dk_182 1 164 (dk_at dksX3_ends_2 10 rfl rfl)
theorem dX3_ends_61 : decode cX3_ends 61 = .ok (.istore_n 2, 1) := dk_61 (dk_at dksX3_ends_2 13 rfl rfl)
theorem dX3_ends_62 : decode cX3_ends 62 = .ok (.iload_n 2, 1) := dk_28 (dk_at dksX3_ends_2 14 rfl rfl)
theorem dX3_ends_63 : decode cX3_ends 63 = .ok (.iconst (-1), 1) := dk_2 (dk_at dksX3_ends_2 15 rfl rfl)
theorem dX3_ends_64 : decode cX3_ends 64 = .ok (.if_icmp .eq 62, 3) := dk_159 0 62 (dk_at dksX3_ends_2 16 rfl rfl)
theorem dX3_ends_67 : decode cX3_ends 67 = .ok (.aload_n 0, 1) := dk_42 (dk_at dksX3_ends_2 19 rfl rfl)
theorem dX3_ends_68 : decode cX3_ends 68 = .ok (.getfield 127, 3) := dk_180 0 127 (dk_at dksX3_ends_2 20 rfl rfl)
theorem dX3_ends_71 : decode cX3_ends 71 = .ok (.iload_n 2, 1) := dk_28 (dk_at dksX3_ends_2 23 rfl rfl)
theorem dX3_ends_72 : decode cX3_ends 72 = .ok (.dup2, 1) := dk_92 (dk_at dksX3_ends_3 0 rfl rfl)
theorem dX3_ends_73 : decode cX3_ends 73 = .ok (.iaload, 1) := dk_46 (dk_at dksX3_ends_3 1 rfl rfl)
theorem dX3_ends_74 : decode cX3_ends 74 = .ok (.aload_n 0, 1) := dk_42 (dk_at dksX3_ends_3 2 rfl rfl)
theorem dX3_ends_75 : decode cX3_ends 75 = .ok (.getfield 16, 3) := dk_180 0 16 (dk_at dksX3_ends_3 3 rfl rfl)
theorem dX3_ends_78 : decode cX3_ends 78 = .ok (.iload_n 1, 1) := dk_27 (dk_at dksX3_ends_3 6 rfl rfl)
theorem dX3_ends_79 : decode cX3_ends 79 = .ok (.iaload, 1) := dk_46 (dk_at dksX3_ends_3 7 rfl rfl)
theorem dX3_ends_80 : decode cX3_ends 80 = .ok (.iadd, 1) := dk_96 (dk_at dksX3_ends_3 8 rfl rfl)
theorem dX3_ends_81 : decode cX3_ends 81 = .ok (.iastore, 1) := dk_79 (dk_at dksX3_ends_3 9 rfl rfl)
theorem dX3_ends_82 : decode cX3_ends 82 = .ok (.aload_n 0, 1) := dk_42 (dk_at dksX3_ends_3 10 rfl rfl)
theorem dX3_ends_83 : decode cX3_ends 83 = .ok (.getfield 22, 3) := dk_180 0 22 (dk_at dksX3_ends_3 11 rfl rfl)
theorem dX3_ends_86 : decode cX3_ends 86 = .ok (.iload_n 2, 1) := dk_28 (dk_at dksX3_ends_3 14 rfl rfl)
theorem dX3_ends_87 : decode cX3_ends 87 = .ok (.aload_n 0, 1) := dk_42 (dk_at dksX3_ends_3 15 rfl rfl)
theorem dX3_ends_88 : decode cX3_ends 88 = .ok (.getfield 22, 3) := dk_180 0 22 (dk_at dksX3_ends_3 16 rfl rfl)
theorem dX3_ends_91 : decode cX3_ends 91 = .ok (.iload_n 2, 1) := dk_28 (dk_at dksX3_ends_3 19 rfl rfl)
theorem dX3_ends_92 : decode cX3_ends 92 = .ok (.iaload, 1) := dk_46 (dk_at dksX3_ends_3 20 rfl rfl)
theorem dX3_ends_93 : decode cX3_ends 93 = .ok (.aload_n 0, 1) := dk_42 (dk_at dksX3_ends_3 21 rfl rfl)
theorem dX3_ends_94 : decode cX3_ends 94 = .ok (.getfield 16, 3) := dk_180 0 16 (dk_at dksX3_ends_4 0 rfl rfl)
theorem dX3_ends_97 : decode cX3_ends 97 = .ok (.iload_n 1, 1) := dk_27 (dk_at dksX3_ends_4 3 rfl rfl)
theorem dX3_ends_98 : decode cX3_ends 98 = .ok (.iaload, 1) := dk_46 (dk_at dksX3_ends_4 4 rfl rfl)
theorem dX3_ends_99 : decode cX3_ends 99 = .ok (.iadd, 1) := dk_96 (dk_at dksX3_ends_4 5 rfl rfl)
theorem dX3_ends_100 : decode cX3_ends 100 = .ok (.sipush 999, 3) := dk_17 3 231 (dk_at dksX3_ends_4 6 rfl rfl)
theorem dX3_ends_103 : decode cX3_ends 103 = .ok (.if_icmp .le 9, 3) := dk_164 0 9 (dk_at dksX3_ends_4 9 rfl rfl)
theorem dX3_ends_106 : decode cX3_ends 106 = .ok (.sipush 999, 3) := dk_17 3 231 (dk_at dksX3_ends_4 12 rfl rfl)
theorem dX3_ends_109 : decode cX3_ends 109 = .ok (.goto 16, 3) := dk_167 0 16 (dk_at dksX3_ends_4 15 rfl rfl)
theorem dX3_ends_112 : decode cX3_ends 112 = .ok (.aload_n 0, 1) := dk_42 (dk_at dksX3_ends_4 18 rfl rfl)
theorem dX3_ends_113 : decode cX3_ends 113 = .ok (.getfield 22, 3) := dk_180 0 22 (dk_at dksX3_ends_4 19 rfl rfl)
theorem dX3_ends_116 : decode cX3_ends 116 = .ok (.iload_n 2, 1) := dk_28 (dk_at dksX3_ends_4 22 rfl rfl)
theorem dX3_ends_117 : decode cX3_ends 117 = .ok (.iaload, 1) := dk_46 (dk_at dksX3_ends_4 23 rfl rfl)
theorem dX3_ends_118 : decode cX3_ends 118 = .ok (.aload_n 0, 1) := dk_42 (dk_at dksX3_ends_5 0 rfl rfl)
theorem dX3_ends_119 : decode cX3_ends 119 = .ok (.getfield 16, 3) := dk_180 0 16 (dk_at dksX3_ends_5 1 rfl rfl)
theorem dX3_ends_122 : decode cX3_ends 122 = .ok (.iload_n 1, 1) := dk_27 (dk_at dksX3_ends_5 4 rfl rfl)
theorem dX3_ends_123 : decode cX3_ends 123 = .ok (.iaload, 1) := dk_46 (dk_at dksX3_ends_5 5 rfl rfl)
theorem dX3_ends_124 : decode cX3_ends 124 = .ok (.iadd, 1) := dk_96 (dk_at dksX3_ends_5 6 rfl rfl)
theorem dX3_ends_125 : decode cX3_ends 125 = .ok (.iastore, 1) := dk_79 (dk_at dksX3_ends_5 7 rfl rfl)
theorem dX3_ends_126 : decode cX3_ends 126 = .ok (.iinc 1 1, 3) := dk_132 1 1 (dk_at dksX3_ends_5 8 rfl rfl)
theorem dX3_ends_129 : decode cX3_ends 129 = .ok (.goto (-98), 3) := dk_167 255 158 (dk_at dksX3_ends_5 11 rfl rfl)
theorem dX3_ends_132 : decode cX3_ends 132 = .ok (.return_, 1) := dk_177 (dk_at dksX3_ends_5 14 rfl rfl)
abbrev cX3_washes : ByteArray := prog_17_method_76_code
def yX3_washes : MethodName := ⟨RX3, "washes", "()V"⟩
def dkwX3_washes_1 : List UInt8 := [27, 92, 46, 4, 100, 79, 167, 255, 238, 132, 1, 1, 167, 255, 222, 177]
abbrev dktX3_washes_1 : List UInt8 := dkwX3_washes_1 ++ []
def dkwX3_washes_0 : List UInt8 := [3, 60, 27, 42, 180, 0, 9, 7, 46, 162, 0, 30, 42, 27, 182, 1, 158, 153, 0, 16, 42, 180, 0, 31]
abbrev dktX3_washes_0 : List UInt8 := dkwX3_washes_0 ++ dktX3_washes_1
theorem dksX3_washes_0 : cX3_washes.data.toList.drop 0 = dktX3_washes_0 := by decide +kernel
theorem dksX3_washes_1 : cX3_washes.data.toList.drop 24 = dktX3_washes_1 := dk_seg dksX3_washes_0 24 rfl rfl
theorem dX3_washes_0 : decode cX3_washes 0 = .ok (.iconst 0, 1) := dk_3 (dk_at dksX3_washes_0 0 rfl rfl)
theorem dX3_washes_1 : decode cX3_washes 1 = .ok (.istore_n 1, 1) := dk_60 (dk_at dksX3_washes_0 1 rfl rfl)
theorem dX3_washes_2 : decode cX3_washes 2 = .ok (.iload_n 1, 1) := dk_27 (dk_at dksX3_washes_0 2 rfl rfl)
theorem dX3_washes_3 : decode cX3_washes 3 = .ok (.aload_n 0, 1) := dk_42 (dk_at dksX3_washes_0 3 rfl rfl)
theorem dX3_washes_4 : decode cX3_washes 4 = .ok (.getfield 9, 3) := dk_180 0 9 (dk_at dksX3_washes_0 4 rfl rfl)
theorem dX3_washes_7 : decode cX3_washes 7 = .ok (.iconst 4, 1) := dk_7 (dk_at dksX3_washes_0 7 rfl rfl)
theorem dX3_washes_8 : decode cX3_washes 8 = .ok (.iaload, 1) := dk_46 (dk_at dksX3_washes_0 8 rfl rfl)
theorem dX3_washes_9 : decode cX3_washes 9 = .ok (.if_icmp .ge 30, 3) := dk_162 0 30 (dk_at dksX3_washes_0 9 rfl rfl)
theorem dX3_washes_12 : decode cX3_washes 12 = .ok (.aload_n 0, 1) := dk_42 (dk_at dksX3_washes_0 12 rfl rfl)
theorem dX3_washes_13 : decode cX3_washes 13 = .ok (.iload_n 1, 1) := dk_27 (dk_at dksX3_washes_0 13 rfl rfl)
theorem dX3_washes_14 : decode cX3_washes 14 = .ok (.invokevirtual 414, 3) := dk_182 1 158 (dk_at dksX3_washes_0 14 rfl rfl)
theorem dX3_washes_17 : decode cX3_washes 17 = .ok (.ifCond .eq 16, 3) := dk_153 0 16 (dk_at dksX3_washes_0 17 rfl rfl)
theorem dX3_washes_20 : decode cX3_washes 20 = .ok (.aload_n 0, 1) := dk_42 (dk_at dksX3_washes_0 20 rfl rfl)
theorem dX3_washes_21 : decode cX3_washes 21 = .ok (.getfield 31, 3) := dk_180 0 31 (dk_at dksX3_washes_0 21 rfl rfl)
theorem dX3_washes_24 : decode cX3_washes 24 = .ok (.iload_n 1, 1) := dk_27 (dk_at dksX3_washes_1 0 rfl rfl)
theorem dX3_washes_25 : decode cX3_washes 25 = .ok (.dup2, 1) := dk_92 (dk_at dksX3_washes_1 1 rfl rfl)
theorem dX3_washes_26 : decode cX3_washes 26 = .ok (.iaload, 1) := dk_46 (dk_at dksX3_washes_1 2 rfl rfl)
theorem dX3_washes_27 : decode cX3_washes 27 = .ok (.iconst 1, 1) := dk_4 (dk_at dksX3_washes_1 3 rfl rfl)
theorem dX3_washes_28 : decode cX3_washes 28 = .ok (.isub, 1) := dk_100 (dk_at dksX3_washes_1 4 rfl rfl)
theorem dX3_washes_29 : decode cX3_washes 29 = .ok (.iastore, 1) := dk_79 (dk_at dksX3_washes_1 5 rfl rfl)
theorem dX3_washes_30 : decode cX3_washes 30 = .ok (.goto (-18), 3) := dk_167 255 238 (dk_at dksX3_washes_1 6 rfl rfl)
theorem dX3_washes_33 : decode cX3_washes 33 = .ok (.iinc 1 1, 3) := dk_132 1 1 (dk_at dksX3_washes_1 9 rfl rfl)
theorem dX3_washes_36 : decode cX3_washes 36 = .ok (.goto (-34), 3) := dk_167 255 222 (dk_at dksX3_washes_1 12 rfl rfl)
theorem dX3_washes_39 : decode cX3_washes 39 = .ok (.return_, 1) := dk_177 (dk_at dksX3_washes_1 15 rfl rfl)
abbrev cX3_paint : ByteArray := prog_17_method_85_code
def yX3_paint : MethodName := ⟨RX3, "paint", "(II)I"⟩
def dkwX3_paint_2 : List UInt8 := [180, 0, 9, 5, 46, 100, 79, 42, 180, 0, 31, 27, 46, 172]
abbrev dktX3_paint_2 : List UInt8 := dkwX3_paint_2 ++ []
def dkwX3_paint_1 : List UInt8 := [154, 0, 5, 2, 172, 42, 182, 1, 222, 42, 27, 28, 182, 1, 192, 42, 180, 0, 22, 28, 92, 46, 42]
abbrev dktX3_paint_1 : List UInt8 := dkwX3_paint_1 ++ dktX3_paint_2
def dkwX3_paint_0 : List UInt8 := [42, 27, 182, 1, 149, 153, 0, 20, 42, 28, 182, 1, 167, 153, 0, 12, 42, 27, 28, 182, 1, 179]
abbrev dktX3_paint_0 : List UInt8 := dkwX3_paint_0 ++ dktX3_paint_1
theorem dksX3_paint_0 : cX3_paint.data.toList.drop 0 = dktX3_paint_0 := by decide +kernel
theorem dksX3_paint_1 : cX3_paint.data.toList.drop 22 = dktX3_paint_1 := dk_seg dksX3_paint_0 22 rfl rfl
theorem dksX3_paint_2 : cX3_paint.data.toList.drop 45 = dktX3_paint_2 := dk_seg dksX3_paint_1 23 rfl rfl
theorem dX3_paint_0 : decode cX3_paint 0 = .ok (.aload_n 0, 1) := dk_42 (dk_at dksX3_paint_0 0 rfl rfl)
theorem dX3_paint_1 : decode cX3_paint 1 = .ok (.iload_n 1, 1) := dk_27 (dk_at dksX3_paint_0 1 rfl rfl)
theorem dX3_paint_2 : decode cX3_paint 2 = .ok (.invokevirtual 405, 3) := dk_182 1 149 (dk_at dksX3_paint_0 2 rfl rfl)
theorem dX3_paint_5 : decode cX3_paint 5 = .ok (.ifCond .eq 20, 3) := dk_153 0 20 (dk_at dksX3_paint_0 5 rfl rfl)
theorem dX3_paint_8 : decode cX3_paint 8 = .ok (.aload_n 0, 1) := dk_42 (dk_at dksX3_paint_0 8 rfl rfl)
theorem dX3_paint_9 : decode cX3_paint 9 = .ok (.iload_n 2, 1) := dk_28 (dk_at dksX3_paint_0 9 rfl rfl)
theorem dX3_paint_10 : decode cX3_paint 10 = .ok (.invokevirtual 423, 3) := dk_182 1 167 (dk_at dksX3_paint_0 10 rfl rfl)
theorem dX3_paint_13 : decode cX3_paint 13 = .ok (.ifCond .eq 12, 3) := dk_153 0 12 (dk_at dksX3_paint_0 13 rfl rfl)
theorem dX3_paint_16 : decode cX3_paint 16 = .ok (.aload_n 0, 1) := dk_42 (dk_at dksX3_paint_0 16 rfl rfl)
theorem dX3_paint_17 : decode cX3_paint 17 = .ok (.iload_n 1, 1) := dk_27 (dk_at dksX3_paint_0 17 rfl rfl)
theorem dX3_paint_18 : decode cX3_paint 18 = .ok (.iload_n 2, 1) := dk_28 (dk_at dksX3_paint_0 18 rfl rfl)
theorem dX3_paint_19 : decode cX3_paint 19 = .ok (.invokevirtual 435, 3) := dk_182 1 179 (dk_at dksX3_paint_0 19 rfl rfl)
theorem dX3_paint_22 : decode cX3_paint 22 = .ok (.ifCond .ne 5, 3) := dk_154 0 5 (dk_at dksX3_paint_1 0 rfl rfl)
theorem dX3_paint_25 : decode cX3_paint 25 = .ok (.iconst (-1), 1) := dk_2 (dk_at dksX3_paint_1 3 rfl rfl)
theorem dX3_paint_26 : decode cX3_paint 26 = .ok (.ireturn, 1) := dk_172 (dk_at dksX3_paint_1 4 rfl rfl)
theorem dX3_paint_27 : decode cX3_paint 27 = .ok (.aload_n 0, 1) := dk_42 (dk_at dksX3_paint_1 5 rfl rfl)
theorem dX3_paint_28 : decode cX3_paint 28 = .ok (.invokevirtual 478, 3) := dk_182 1 222 (dk_at dksX3_paint_1 6 rfl rfl)
theorem dX3_paint_31 : decode cX3_paint 31 = .ok (.aload_n 0, 1) := dk_42 (dk_at dksX3_paint_1 9 rfl rfl)
theorem dX3_paint_32 : decode cX3_paint 32 = .ok (.iload_n 1, 1) := dk_27 (dk_at dksX3_paint_1 10 rfl rfl)
theorem dX3_paint_33 : decode cX3_paint 33 = .ok (.iload_n 2, 1) := dk_28 (dk_at dksX3_paint_1 11 rfl rfl)
theorem dX3_paint_34 : decode cX3_paint 34 = .ok (.invokevirtual 448, 3) := dk_182 1 192 (dk_at dksX3_paint_1 12 rfl rfl)
theorem dX3_paint_37 : decode cX3_paint 37 = .ok (.aload_n 0, 1) := dk_42 (dk_at dksX3_paint_1 15 rfl rfl)
theorem dX3_paint_38 : decode cX3_paint 38 = .ok (.getfield 22, 3) := dk_180 0 22 (dk_at dksX3_paint_1 16 rfl rfl)
theorem dX3_paint_41 : decode cX3_paint 41 = .ok (.iload_n 2, 1) := dk_28 (dk_at dksX3_paint_1 19 rfl rfl)
theorem dX3_paint_42 : decode cX3_paint 42 = .ok (.dup2, 1) := dk_92 (dk_at dksX3_paint_1 20 rfl rfl)
theorem dX3_paint_43 : decode cX3_paint 43 = .ok (.iaload, 1) := dk_46 (dk_at dksX3_paint_1 21 rfl rfl)
theorem dX3_paint_44 : decode cX3_paint 44 = .ok (.aload_n 0, 1) := dk_42 (dk_at dksX3_paint_1 22 rfl rfl)
theorem dX3_paint_45 : decode cX3_paint 45 = .ok (.getfield 9, 3) := dk_180 0 9 (dk_at dksX3_paint_2 0 rfl rfl)
theorem dX3_paint_48 : decode cX3_paint 48 = .ok (.iconst 2, 1) := dk_5 (dk_at dksX3_paint_2 3 rfl rfl)
theorem dX3_paint_49 : decode cX3_paint 49 = .ok (.iaload, 1) := dk_46 (dk_at dksX3_paint_2 4 rfl rfl)
theorem dX3_paint_50 : decode cX3_paint 50 = .ok (.isub, 1) := dk_100 (dk_at dksX3_paint_2 5 rfl rfl)
theorem dX3_paint_51 : decode cX3_paint 51 = .ok (.iastore, 1) := dk_79 (dk_at dksX3_paint_2 6 rfl rfl)
theorem dX3_paint_52 : decode cX3_paint 52 = .ok (.aload_n 0, 1) := dk_42 (dk_at dksX3_paint_2 7 rfl rfl)
theorem dX3_paint_53 : decode cX3_paint 53 = .ok (.getfield 31, 3) := dk_180 0 31 (dk_at dksX3_paint_2 8 rfl rfl)
theorem dX3_paint_56 : decode cX3_paint 56 = .ok (.iload_n 1, 1) := dk_27 (dk_at dksX3_paint_2 11 rfl rfl)
theorem dX3_paint_57 : decode cX3_paint 57 = .ok (.iaload, 1) := dk_46 (dk_at dksX3_paint_2 12 rfl rfl)
theorem dX3_paint_58 : decode cX3_paint 58 = .ok (.ireturn, 1) := dk_172 (dk_at dksX3_paint_2 13 rfl rfl)
abbrev cX3_scrape : ByteArray := prog_17_method_86_code
def yX3_scrape : MethodName := ⟨RX3, "scrape", "(I)I"⟩
def dkwX3_scrape_1 : List UInt8 := [27, 182, 1, 155, 61, 42, 180, 0, 31, 27, 92, 46, 4, 100, 79, 28, 172]
abbrev dktX3_scrape_1 : List UInt8 := dkwX3_scrape_1 ++ []
def dkwX3_scrape_0 : List UInt8 := [42, 27, 182, 1, 149, 153, 0, 12, 42, 180, 0, 31, 27, 46, 154, 0, 5, 2, 172, 42, 182, 1, 222, 42]
abbrev dktX3_scrape_0 : List UInt8 := dkwX3_scrape_0 ++ dktX3_scrape_1
theorem dksX3_scrape_0 : cX3_scrape.data.toList.drop 0 = dktX3_scrape_0 := by decide +kernel
theorem dksX3_scrape_1 : cX3_scrape.data.toList.drop 24 = dktX3_scrape_1 := dk_seg dksX3_scrape_0 24 rfl rfl
theorem dX3_scrape_0 : decode cX3_scrape 0 = .ok (.aload_n 0, 1) := dk_42 (dk_at dksX3_scrape_0 0 rfl rfl)
theorem dX3_scrape_1 : decode cX3_scrape 1 = .ok (.iload_n 1, 1) := dk_27 (dk_at dksX3_scrape_0 1 rfl rfl)
theorem dX3_scrape_2 : decode cX3_scrape 2 = .ok (.invokevirtual 405, 3) := dk_182 1 149 (dk_at dksX3_scrape_0 2 rfl rfl)
theorem dX3_scrape_5 : decode cX3_scrape 5 = .ok (.ifCond .eq 12, 3) := dk_153 0 12 (dk_at dksX3_scrape_0 5 rfl rfl)
theorem dX3_scrape_8 : decode cX3_scrape 8 = .ok (.aload_n 0, 1) := dk_42 (dk_at dksX3_scrape_0 8 rfl rfl)
theorem dX3_scrape_9 : decode cX3_scrape 9 = .ok (.getfield 31, 3) := dk_180 0 31 (dk_at dksX3_scrape_0 9 rfl rfl)
theorem dX3_scrape_12 : decode cX3_scrape 12 = .ok (.iload_n 1, 1) := dk_27 (dk_at dksX3_scrape_0 12 rfl rfl)
theorem dX3_scrape_13 : decode cX3_scrape 13 = .ok (.iaload, 1) := dk_46 (dk_at dksX3_scrape_0 13 rfl rfl)
theorem dX3_scrape_14 : decode cX3_scrape 14 = .ok (.ifCond .ne 5, 3) := dk_154 0 5 (dk_at dksX3_scrape_0 14 rfl rfl)
theorem dX3_scrape_17 : decode cX3_scrape 17 = .ok (.iconst (-1), 1) := dk_2 (dk_at dksX3_scrape_0 17 rfl rfl)
theorem dX3_scrape_18 : decode cX3_scrape 18 = .ok (.ireturn, 1) := dk_172 (dk_at dksX3_scrape_0 18 rfl rfl)
theorem dX3_scrape_19 : decode cX3_scrape 19 = .ok (.aload_n 0, 1) := dk_42 (dk_at dksX3_scrape_0 19 rfl rfl)
theorem dX3_scrape_20 : decode cX3_scrape 20 = .ok (.invokevirtual 478, 3) := dk_182 1 222 (dk_at dksX3_scrape_0 20 rfl rfl)
theorem dX3_scrape_23 : decode cX3_scrape 23 = .ok (.aload_n 0, 1) := dk_42 (dk_at dksX3_scrape_0 23 rfl rfl)
theorem dX3_scrape_24 : decode cX3_scrape 24 = .ok (.iload_n 1, 1) := dk_27 (dk_at dksX3_scrape_1 0 rfl rfl)
theorem dX3_scrape_25 : decode cX3_scrape 25 = .ok (.invokevirtual 411, 3) := dk_182 1 155 (dk_at dksX3_scrape_1 1 rfl rfl)
theorem dX3_scrape_28 : decode cX3_scrape 28 = .ok (.istore_n 2, 1) := dk_61 (dk_at dksX3_scrape_1 4 rfl rfl)
theorem dX3_scrape_29 : decode cX3_scrape 29 = .ok (.aload_n 0, 1) := dk_42 (dk_at dksX3_scrape_1 5 rfl rfl)
theorem dX3_scrape_30 : decode cX3_scrape 30 = .ok (.getfield 31, 3) := dk_180 0 31 (dk_at dksX3_scrape_1 6 rfl rfl)
theorem dX3_scrape_33 : decode cX3_scrape 33 = .ok (.iload_n 1, 1) := dk_27 (dk_at dksX3_scrape_1 9 rfl rfl)
theorem dX3_scrape_34 : decode cX3_scrape 34 = .ok (.dup2, 1) := dk_92 (dk_at dksX3_scrape_1 10 rfl rfl)
theorem dX3_scrape_35 : decode cX3_scrape 35 = .ok (.iaload, 1) := dk_46 (dk_at dksX3_scrape_1 11 rfl rfl)
theorem dX3_scrape_36 : decode cX3_scrape 36 = .ok (.iconst 1, 1) := dk_4 (dk_at dksX3_scrape_1 12 rfl rfl)
theorem dX3_scrape_37 : decode cX3_scrape 37 = .ok (.isub, 1) := dk_100 (dk_at dksX3_scrape_1 13 rfl rfl)
theorem dX3_scrape_38 : decode cX3_scrape 38 = .ok (.iastore, 1) := dk_79 (dk_at dksX3_scrape_1 14 rfl rfl)
theorem dX3_scrape_39 : decode cX3_scrape 39 = .ok (.iload_n 2, 1) := dk_28 (dk_at dksX3_scrape_1 15 rfl rfl)
theorem dX3_scrape_40 : decode cX3_scrape 40 = .ok (.ireturn, 1) := dk_172 (dk_at dksX3_scrape_1 16 rfl rfl)
abbrev cX3_vote : ByteArray := prog_17_method_87_code
def yX3_vote : MethodName := ⟨RX3, "vote", "(I)I"⟩
def dkwX3_vote_1 : List UInt8 := [180, 0, 9, 16, 8, 92, 46, 4, 27, 120, 128, 79, 42, 27, 182, 1, 84, 172]
abbrev dktX3_vote_1 : List UInt8 := dkwX3_vote_1 ++ []
def dkwX3_vote_0 : List UInt8 := [42, 27, 182, 1, 161, 153, 0, 11, 42, 27, 182, 1, 80, 153, 0, 5, 2, 172, 42, 182, 1, 222, 42]
abbrev dktX3_vote_0 : List UInt8 := dkwX3_vote_0 ++ dktX3_vote_1
theorem dksX3_vote_0 : cX3_vote.data.toList.drop 0 = dktX3_vote_0 := by decide +kernel
theorem dksX3_vote_1 : cX3_vote.data.toList.drop 23 = dktX3_vote_1 := dk_seg dksX3_vote_0 23 rfl rfl
theorem dX3_vote_0 : decode cX3_vote 0 = .ok (.aload_n 0, 1) := dk_42 (dk_at dksX3_vote_0 0 rfl rfl)
theorem dX3_vote_1 : decode cX3_vote 1 = .ok (.iload_n 1, 1) := dk_27 (dk_at dksX3_vote_0 1 rfl rfl)
theorem dX3_vote_2 : decode cX3_vote 2 = .ok (.invokevirtual 417, 3) := dk_182 1 161 (dk_at dksX3_vote_0 2 rfl rfl)
theorem dX3_vote_5 : decode cX3_vote 5 = .ok (.ifCond .eq 11, 3) := dk_153 0 11 (dk_at dksX3_vote_0 5 rfl rfl)
theorem dX3_vote_8 : decode cX3_vote 8 = .ok (.aload_n 0, 1) := dk_42 (dk_at dksX3_vote_0 8 rfl rfl)
theorem dX3_vote_9 : decode cX3_vote 9 = .ok (.iload_n 1, 1) := dk_27 (dk_at dksX3_vote_0 9 rfl rfl)
theorem dX3_vote_10 : decode cX3_vote 10 = .ok (.invokevirtual 336, 3) := dk_182 1 80 (dk_at dksX3_vote_0 10 rfl rfl)
theorem dX3_vote_13 : decode cX3_vote 13 = .ok (.ifCond .eq 5, 3) := dk_153 0 5 (dk_at dksX3_vote_0 13 rfl rfl)
theorem dX3_vote_16 : decode cX3_vote 16 = .ok (.iconst (-1), 1) := dk_2 (dk_at dksX3_vote_0 16 rfl rfl)
theorem dX3_vote_17 : decode cX3_vote 17 = .ok (.ireturn, 1) := dk_172 (dk_at dksX3_vote_0 17 rfl rfl)
theorem dX3_vote_18 : decode cX3_vote 18 = .ok (.aload_n 0, 1) := dk_42 (dk_at dksX3_vote_0 18 rfl rfl)
theorem dX3_vote_19 : decode cX3_vote 19 = .ok (.invokevirtual 478, 3) := dk_182 1 222 (dk_at dksX3_vote_0 19 rfl rfl)
theorem dX3_vote_22 : decode cX3_vote 22 = .ok (.aload_n 0, 1) := dk_42 (dk_at dksX3_vote_0 22 rfl rfl)
theorem dX3_vote_23 : decode cX3_vote 23 = .ok (.getfield 9, 3) := dk_180 0 9 (dk_at dksX3_vote_1 0 rfl rfl)
theorem dX3_vote_26 : decode cX3_vote 26 = .ok (.bipush 8, 2) := dk_16 8 (dk_at dksX3_vote_1 3 rfl rfl)
theorem dX3_vote_28 : decode cX3_vote 28 = .ok (.dup2, 1) := dk_92 (dk_at dksX3_vote_1 5 rfl rfl)
theorem dX3_vote_29 : decode cX3_vote 29 = .ok (.iaload, 1) := dk_46 (dk_at dksX3_vote_1 6 rfl rfl)
theorem dX3_vote_30 : decode cX3_vote 30 = .ok (.iconst 1, 1) := dk_4 (dk_at dksX3_vote_1 7 rfl rfl)
theorem dX3_vote_31 : decode cX3_vote 31 = .ok (.iload_n 1, 1) := dk_27 (dk_at dksX3_vote_1 8 rfl rfl)
theorem dX3_vote_32 : decode cX3_vote 32 = .ok (.ishl, 1) := dk_120 (dk_at dksX3_vote_1 9 rfl rfl)
theorem dX3_vote_33 : decode cX3_vote 33 = .ok (.ior, 1) := dk_128 (dk_at dksX3_vote_1 10 rfl rfl)
theorem dX3_vote_34 : decode cX3_vote 34 = .ok (.iastore, 1) := dk_79 (dk_at dksX3_vote_1 11 rfl rfl)
theorem dX3_vote_35 : decode cX3_vote 35 = .ok (.aload_n 0, 1) := dk_42 (dk_at dksX3_vote_1 12 rfl rfl)
theorem dX3_vote_36 : decode cX3_vote 36 = .ok (.iload_n 1, 1) := dk_27 (dk_at dksX3_vote_1 13 rfl rfl)
theorem dX3_vote_37 : decode cX3_vote 37 = .ok (.invokevirtual 340, 3) := dk_182 1 84 (dk_at dksX3_vote_1 14 rfl rfl)
theorem dX3_vote_40 : decode cX3_vote 40 = .ok (.ireturn, 1) := dk_172 (dk_at dksX3_vote_1 17 rfl rfl)
abbrev cX3_ahead : ByteArray := prog_17_method_91_code
def yX3_ahead : MethodName := ⟨RX3, "ahead", "(III)I"⟩
def dkwX3_ahead_3 : List UInt8 := [167, 0, 8, 42, 27, 182, 1, 146, 54, 4, 42, 182, 1, 241, 21, 4, 172]
abbrev dktX3_ahead_3 : List UInt8 := dkwX3_ahead_3 ++ []
def dkwX3_ahead_2 : List UInt8 := [154, 0, 11, 42, 27, 182, 1, 164, 167, 0, 22, 29, 4, 160, 0, 12, 42, 180, 0, 22, 27, 46]
abbrev dktX3_ahead_2 : List UInt8 := dkwX3_ahead_2 ++ dktX3_ahead_3
def dkwX3_ahead_1 : List UInt8 := [20, 1, 233, 184, 0, 164, 154, 0, 6, 16, 254, 172, 42, 182, 1, 235, 42, 28, 182, 1, 238, 29]
abbrev dktX3_ahead_1 : List UInt8 := dkwX3_ahead_1 ++ dktX3_ahead_2
def dkwX3_ahead_0 : List UInt8 := [29, 133, 9, 20, 1, 228, 184, 0, 164, 153, 0, 24, 42, 27, 29, 182, 1, 230, 153, 0, 15, 28, 133, 9]
abbrev dktX3_ahead_0 : List UInt8 := dkwX3_ahead_0 ++ dktX3_ahead_1
theorem dksX3_ahead_0 : cX3_ahead.data.toList.drop 0 = dktX3_ahead_0 := by decide +kernel
theorem dksX3_ahead_1 : cX3_ahead.data.toList.drop 24 = dktX3_ahead_1 := dk_seg dksX3_ahead_0 24 rfl rfl
theorem dksX3_ahead_2 : cX3_ahead.data.toList.drop 46 = dktX3_ahead_2 := dk_seg dksX3_ahead_1 22 rfl rfl
theorem dksX3_ahead_3 : cX3_ahead.data.toList.drop 68 = dktX3_ahead_3 := dk_seg dksX3_ahead_2 22 rfl rfl
theorem dX3_ahead_0 : decode cX3_ahead 0 = .ok (.iload_n 3, 1) := dk_29 (dk_at dksX3_ahead_0 0 rfl rfl)
theorem dX3_ahead_1 : decode cX3_ahead 1 = .ok (.i2l, 1) := dk_133 (dk_at dksX3_ahead_0 1 rfl rfl)
theorem dX3_ahead_2 : decode cX3_ahead 2 = .ok (.lconst 0, 1) := dk_9 (dk_at dksX3_ahead_0 2 rfl rfl)
theorem dX3_ahead_3 : decode cX3_ahead 3 = .ok (.ldc2_w 484, 3) := dk_20 1 228 (dk_at dksX3_ahead_0 3 rfl rfl)
theorem dX3_ahead_6 : decode cX3_ahead 6 = .ok (.invokestatic 164, 3) := dk_184 0 164 (dk_at dksX3_ahead_0 6 rfl rfl)
theorem dX3_ahead_9 : decode cX3_ahead 9 = .ok (.ifCond .eq 24, 3) := dk_153 0 24 (dk_at dksX3_ahead_0 9 rfl rfl)
theorem dX3_ahead_12 : decode cX3_ahead 12 = .ok (.aload_n 0, 1) := dk_42 (dk_at dksX3_ahead_0 12 rfl rfl)
theorem dX3_ahead_13 : decode cX3_ahead 13 = .ok (.iload_n 1, 1) := dk_27 (dk_at dksX3_ahead_0 13 rfl rfl)
theorem dX3_ahead_14 : decode cX3_ahead 14 = .ok (.iload_n 3, 1) := dk_29 (dk_at dksX3_ahead_0 14 rfl rfl)
theorem dX3_ahead_15 : decode cX3_ahead 15 = .ok (.invokevirtual 486, 3) := dk_182 1 230 (dk_at dksX3_ahead_0 15 rfl rfl)
theorem dX3_ahead_18 : decode cX3_ahead 18 = .ok (.ifCond .eq 15, 3) := dk_153 0 15 (dk_at dksX3_ahead_0 18 rfl rfl)
theorem dX3_ahead_21 : decode cX3_ahead 21 = .ok (.iload_n 2, 1) := dk_28 (dk_at dksX3_ahead_0 21 rfl rfl)
theorem dX3_ahead_22 : decode cX3_ahead 22 = .ok (.i2l, 1) := dk_133 (dk_at dksX3_ahead_0 22 rfl rfl)
theorem dX3_ahead_23 : decode cX3_ahead 23 = .ok (.lconst 0, 1) := dk_9 (dk_at dksX3_ahead_0 23 rfl rfl)
theorem dX3_ahead_24 : decode cX3_ahead 24 = .ok (.ldc2_w 489, 3) := dk_20 1 233 (dk_at dksX3_ahead_1 0 rfl rfl)
theorem dX3_ahead_27 : decode cX3_ahead 27 = .ok (.invokestatic 164, 3) := dk_184 0 164 (dk_at dksX3_ahead_1 3 rfl rfl)
theorem dX3_ahead_30 : decode cX3_ahead 30 = .ok (.ifCond .ne 6, 3) := dk_154 0 6 (dk_at dksX3_ahead_1 6 rfl rfl)
theorem dX3_ahead_33 : decode cX3_ahead 33 = .ok (.bipush (-2), 2) := dk_16 254 (dk_at dksX3_ahead_1 9 rfl rfl)
theorem dX3_ahead_35 : decode cX3_ahead 35 = .ok (.ireturn, 1) := dk_172 (dk_at dksX3_ahead_1 11 rfl rfl)
theorem dX3_ahead_36 : decode cX3_ahead 36 = .ok (.aload_n 0, 1) := dk_42 (dk_at dksX3_ahead_1 12 rfl rfl)
theorem dX3_ahead_37 : decode cX3_ahead 37 = .ok (.invokevirtual 491, 3) := dk_182 1 235 (dk_at dksX3_ahead_1 13 rfl rfl)
theorem dX3_ahead_40 : decode cX3_ahead 40 = .ok (.aload_n 0, 1) := dk_42 (dk_at dksX3_ahead_1 16 rfl rfl)
theorem dX3_ahead_41 : decode cX3_ahead 41 = .ok (.iload_n 2, 1) := dk_28 (dk_at dksX3_ahead_1 17 rfl rfl)
theorem dX3_ahead_42 : decode cX3_ahead 42 = .ok (.invokevirtual 494, 3) := dk_182 1 238 (dk_at dksX3_ahead_1 18 rfl rfl)
theorem dX3_ahead_45 : decode cX3_ahead 45 = .ok (.iload_n 3, 1) := dk_29 (dk_at dksX3_ahead_1 21 rfl rfl)
theorem dX3_ahead_46 : decode cX3_ahead 46 = .ok (.ifCond .ne 11, 3) := dk_154 0 11 (dk_at dksX3_ahead_2 0 rfl rfl)
theorem dX3_ahead_49 : decode cX3_ahead 49 = .ok (.aload_n 0, 1) := dk_42 (dk_at dksX3_ahead_2 3 rfl rfl)
theorem dX3_ahead_50 : decode cX3_ahead 50 = .ok (.iload_n 1, 1) := dk_27 (dk_at dksX3_ahead_2 4 rfl rfl)
theorem dX3_ahead_51 : decode cX3_ahead 51 = .ok (.invokevirtual 420, 3) := dk_182 1 164 (dk_at dksX3_ahead_2 5 rfl rfl)
theorem dX3_ahead_54 : decode cX3_ahead 54 = .ok (.goto 22, 3) := dk_167 0 22 (dk_at dksX3_ahead_2 8 rfl rfl)
theorem dX3_ahead_57 : decode cX3_ahead 57 = .ok (.iload_n 3, 1) := dk_29 (dk_at dksX3_ahead_2 11 rfl rfl)
theorem dX3_ahead_58 : decode cX3_ahead 58 = .ok (.iconst 1, 1) := dk_4 (dk_at dksX3_ahead_2 12 rfl rfl)
theorem dX3_ahead_59 : decode cX3_ahead 59 = .ok (.if_icmp .ne 12, 3) := dk_160 0 12 (dk_at dksX3_ahead_2 13 rfl rfl)
theorem dX3_ahead_62 : decode cX3_ahead 62 = .ok (.aload_n 0, 1) := dk_42 (dk_at dksX3_ahead_2 16 rfl rfl)
theorem dX3_ahead_63 : decode cX3_ahead 63 = .ok (.getfield 22, 3) := dk_180 0 22 (dk_at dksX3_ahead_2 17 rfl rfl)
theorem dX3_ahead_66 : decode cX3_ahead 66 = .ok (.iload_n 1, 1) := dk_27 (dk_at dksX3_ahead_2 20 rfl rfl)
theorem dX3_ahead_67 : decode cX3_ahead 67 = .ok (.iaload, 1) := dk_46 (dk_at dksX3_ahead_2 21 rfl rfl)
theorem dX3_ahead_68 : decode cX3_ahead 68 = .ok (.goto 8, 3) := dk_167 0 8 (dk_at dksX3_ahead_3 0 rfl rfl)
theorem dX3_ahead_71 : decode cX3_ahead 71 = .ok (.aload_n 0, 1) := dk_42 (dk_at dksX3_ahead_3 3 rfl rfl)
theorem dX3_ahead_72 : decode cX3_ahead 72 = .ok (.iload_n 1, 1) := dk_27 (dk_at dksX3_ahead_3 4 rfl rfl)
theorem dX3_ahead_73 : decode cX3_ahead 73 = .ok (.invokevirtual 402, 3) := dk_182 1 146 (dk_at dksX3_ahead_3 5 rfl rfl)
theorem dX3_ahead_76 : decode cX3_ahead 76 = .ok (.istore 4, 2) := dk_54 4 (dk_at dksX3_ahead_3 8 rfl rfl)
theorem dX3_ahead_78 : decode cX3_ahead 78 = .ok (.aload_n 0, 1) := dk_42 (dk_at dksX3_ahead_3 10 rfl rfl)
theorem dX3_ahead_79 : decode cX3_ahead 79 = .ok (.invokevirtual 497, 3) := dk_182 1 241 (dk_at dksX3_ahead_3 11 rfl rfl)
theorem dX3_ahead_82 : decode cX3_ahead 82 = .ok (.iload 4, 2) := dk_21 4 (dk_at dksX3_ahead_3 14 rfl rfl)
theorem dX3_ahead_84 : decode cX3_ahead 84 = .ok (.ireturn, 1) := dk_172 (dk_at dksX3_ahead_3 16 rfl rfl)
abbrev cX3_isNumber : ByteArray := prog_17_method_90_code
def yX3_isNumber : MethodName := ⟨RX3, "isNumber", "(II)Z"⟩
def dkwX3_isNumber_1 : List UInt8 := [167, 0, 8, 42, 27, 182, 1, 149, 172]
abbrev dktX3_isNumber_1 : List UInt8 := dkwX3_isNumber_1 ++ []
def dkwX3_isNumber_0 : List UInt8 := [28, 154, 0, 11, 42, 27, 182, 1, 161, 167, 0, 21, 28, 4, 160, 0, 11, 42, 27, 182, 1, 167]
abbrev dktX3_isNumber_0 : List UInt8 := dkwX3_isNumber_0 ++ dktX3_isNumber_1
theorem dksX3_isNumber_0 : cX3_isNumber.data.toList.drop 0 = dktX3_isNumber_0 := by decide +kernel
theorem dksX3_isNumber_1 : cX3_isNumber.data.toList.drop 22 = dktX3_isNumber_1 := dk_seg dksX3_isNumber_0 22 rfl rfl
theorem dX3_isNumber_0 : decode cX3_isNumber 0 = .ok (.iload_n 2, 1) := dk_28 (dk_at dksX3_isNumber_0 0 rfl rfl)
theorem dX3_isNumber_1 : decode cX3_isNumber 1 = .ok (.ifCond .ne 11, 3) := dk_154 0 11 (dk_at dksX3_isNumber_0 1 rfl rfl)
theorem dX3_isNumber_4 : decode cX3_isNumber 4 = .ok (.aload_n 0, 1) := dk_42 (dk_at dksX3_isNumber_0 4 rfl rfl)
theorem dX3_isNumber_5 : decode cX3_isNumber 5 = .ok (.iload_n 1, 1) := dk_27 (dk_at dksX3_isNumber_0 5 rfl rfl)
theorem dX3_isNumber_6 : decode cX3_isNumber 6 = .ok (.invokevirtual 417, 3) := dk_182 1 161 (dk_at dksX3_isNumber_0 6 rfl rfl)
theorem dX3_isNumber_9 : decode cX3_isNumber 9 = .ok (.goto 21, 3) := dk_167 0 21 (dk_at dksX3_isNumber_0 9 rfl rfl)
theorem dX3_isNumber_12 : decode cX3_isNumber 12 = .ok (.iload_n 2, 1) := dk_28 (dk_at dksX3_isNumber_0 12 rfl rfl)
theorem dX3_isNumber_13 : decode cX3_isNumber 13 = .ok (.iconst 1, 1) := dk_4 (dk_at dksX3_isNumber_0 13 rfl rfl)
theorem dX3_isNumber_14 : decode cX3_isNumber 14 = .ok (.if_icmp .ne 11, 3) := dk_160 0 11 (dk_at dksX3_isNumber_0 14 rfl rfl)
theorem dX3_isNumber_17 : decode cX3_isNumber 17 = .ok (.aload_n 0, 1) := dk_42 (dk_at dksX3_isNumber_0 17 rfl rfl)
theorem dX3_isNumber_18 : decode cX3_isNumber 18 = .ok (.iload_n 1, 1) := dk_27 (dk_at dksX3_isNumber_0 18 rfl rfl)
theorem dX3_isNumber_19 : decode cX3_isNumber 19 = .ok (.invokevirtual 423, 3) := dk_182 1 167 (dk_at dksX3_isNumber_0 19 rfl rfl)
theorem dX3_isNumber_22 : decode cX3_isNumber 22 = .ok (.goto 8, 3) := dk_167 0 8 (dk_at dksX3_isNumber_1 0 rfl rfl)
theorem dX3_isNumber_25 : decode cX3_isNumber 25 = .ok (.aload_n 0, 1) := dk_42 (dk_at dksX3_isNumber_1 3 rfl rfl)
theorem dX3_isNumber_26 : decode cX3_isNumber 26 = .ok (.iload_n 1, 1) := dk_27 (dk_at dksX3_isNumber_1 4 rfl rfl)
theorem dX3_isNumber_27 : decode cX3_isNumber 27 = .ok (.invokevirtual 405, 3) := dk_182 1 149 (dk_at dksX3_isNumber_1 5 rfl rfl)
theorem dX3_isNumber_30 : decode cX3_isNumber 30 = .ok (.ireturn, 1) := dk_172 (dk_at dksX3_isNumber_1 8 rfl rfl)
abbrev cX3_keepsAll : ByteArray := prog_17_method_88_code
def yX3_keepsAll : MethodName := ⟨RX3, "keepsAll", "()V"⟩
def dkwX3_keepsAll_1 : List UInt8 := [167, 255, 241, 177]
abbrev dktX3_keepsAll_1 : List UInt8 := dkwX3_keepsAll_1 ++ []
def dkwX3_keepsAll_0 : List UInt8 := [42, 7, 3, 182, 1, 225, 3, 60, 27, 7, 162, 0, 16, 42, 180, 0, 127, 27, 3, 79, 132, 1, 1]
abbrev dktX3_keepsAll_0 : List UInt8 := dkwX3_keepsAll_0 ++ dktX3_keepsAll_1
theorem dksX3_keepsAll_0 : cX3_keepsAll.data.toList.drop 0 = dktX3_keepsAll_0 := by decide +kernel
theorem dksX3_keepsAll_1 : cX3_keepsAll.data.toList.drop 23 = dktX3_keepsAll_1 := dk_seg dksX3_keepsAll_0 23 rfl rfl
theorem dX3_keepsAll_0 : decode cX3_keepsAll 0 = .ok (.aload_n 0, 1) := dk_42 (dk_at dksX3_keepsAll_0 0 rfl rfl)
theorem dX3_keepsAll_1 : decode cX3_keepsAll 1 = .ok (.iconst 4, 1) := dk_7 (dk_at dksX3_keepsAll_0 1 rfl rfl)
theorem dX3_keepsAll_2 : decode cX3_keepsAll 2 = .ok (.iconst 0, 1) := dk_3 (dk_at dksX3_keepsAll_0 2 rfl rfl)
theorem dX3_keepsAll_3 : decode cX3_keepsAll 3 = .ok (.invokevirtual 481, 3) := dk_182 1 225 (dk_at dksX3_keepsAll_0 3 rfl rfl)
theorem dX3_keepsAll_6 : decode cX3_keepsAll 6 = .ok (.iconst 0, 1) := dk_3 (dk_at dksX3_keepsAll_0 6 rfl rfl)
theorem dX3_keepsAll_7 : decode cX3_keepsAll 7 = .ok (.istore_n 1, 1) := dk_60 (dk_at dksX3_keepsAll_0 7 rfl rfl)
theorem dX3_keepsAll_8 : decode cX3_keepsAll 8 = .ok (.iload_n 1, 1) := dk_27 (dk_at dksX3_keepsAll_0 8 rfl rfl)
theorem dX3_keepsAll_9 : decode cX3_keepsAll 9 = .ok (.iconst 4, 1) := dk_7 (dk_at dksX3_keepsAll_0 9 rfl rfl)
theorem dX3_keepsAll_10 : decode cX3_keepsAll 10 = .ok (.if_icmp .ge 16, 3) := dk_162 0 16 (dk_at dksX3_keepsAll_0 10 rfl rfl)
theorem dX3_keepsAll_13 : decode cX3_keepsAll 13 = .ok (.aload_n 0, 1) := dk_42 (dk_at dksX3_keepsAll_0 13 rfl rfl)
theorem dX3_keepsAll_14 : decode cX3_keepsAll 14 = .ok (.getfield 127, 3) := dk_180 0 127 (dk_at dksX3_keepsAll_0 14 rfl rfl)
theorem dX3_keepsAll_17 : decode cX3_keepsAll 17 = .ok (.iload_n 1, 1) := dk_27 (dk_at dksX3_keepsAll_0 17 rfl rfl)
theorem dX3_keepsAll_18 : decode cX3_keepsAll 18 = .ok (.iconst 0, 1) := dk_3 (dk_at dksX3_keepsAll_0 18 rfl rfl)
theorem dX3_keepsAll_19 : decode cX3_keepsAll 19 = .ok (.iastore, 1) := dk_79 (dk_at dksX3_keepsAll_0 19 rfl rfl)
theorem dX3_keepsAll_20 : decode cX3_keepsAll 20 = .ok (.iinc 1 1, 3) := dk_132 1 1 (dk_at dksX3_keepsAll_0 20 rfl rfl)
theorem dX3_keepsAll_23 : decode cX3_keepsAll 23 = .ok (.goto (-15), 3) := dk_167 255 241 (dk_at dksX3_keepsAll_1 0 rfl rfl)
theorem dX3_keepsAll_26 : decode cX3_keepsAll 26 = .ok (.return_, 1) := dk_177 (dk_at dksX3_keepsAll_1 3 rfl rfl)
abbrev cX3_carriesAll : ByteArray := prog_17_method_123_code
def yX3_carriesAll : MethodName := ⟨RX3, "carriesAll", "(IZ)V"⟩
def dkwX3_carriesAll_8 : List UInt8 := [177]
abbrev dktX3_carriesAll_8 : List UInt8 := dkwX3_carriesAll_8 ++ []
def dkwX3_carriesAll_7 : List UInt8 := [42, 42, 180, 0, 55, 182, 2, 63, 42, 42, 180, 0, 58, 182, 2, 63, 42, 42, 180, 0, 130, 182, 2, 63]
abbrev dktX3_carriesAll_7 : List UInt8 := dkwX3_carriesAll_7 ++ dktX3_carriesAll_8
def dkwX3_carriesAll_6 : List UInt8 := [42, 42, 180, 0, 46, 182, 2, 63, 42, 42, 180, 0, 49, 182, 2, 63, 42, 42, 180, 0, 52, 182, 2, 63]
abbrev dktX3_carriesAll_6 : List UInt8 := dkwX3_carriesAll_6 ++ dktX3_carriesAll_7
def dkwX3_carriesAll_5 : List UInt8 := [42, 42, 180, 0, 28, 182, 2, 63, 42, 42, 180, 0, 40, 182, 2, 63, 42, 42, 180, 0, 43, 182, 2, 63]
abbrev dktX3_carriesAll_5 : List UInt8 := dkwX3_carriesAll_5 ++ dktX3_carriesAll_6
def dkwX3_carriesAll_4 : List UInt8 := [42, 42, 180, 0, 16, 182, 2, 63, 42, 42, 180, 0, 19, 182, 2, 63, 42, 42, 180, 0, 25, 182, 2, 63]
abbrev dktX3_carriesAll_4 : List UInt8 := dkwX3_carriesAll_4 ++ dktX3_carriesAll_5
def dkwX3_carriesAll_3 : List UInt8 := [180, 0, 133, 182, 2, 63, 42, 42, 180, 0, 133, 3, 46, 181, 1, 93, 42, 42, 180, 0, 13, 182, 2, 63]
abbrev dktX3_carriesAll_3 : List UInt8 := dkwX3_carriesAll_3 ++ dktX3_carriesAll_4
def dkwX3_carriesAll_2 : List UInt8 := [180, 0, 37, 182, 2, 63, 27, 7, 160, 0, 4, 177, 42, 180, 0, 133, 3, 42, 180, 1, 93, 79, 42, 42]
abbrev dktX3_carriesAll_2 : List UInt8 := dkwX3_carriesAll_2 ++ dktX3_carriesAll_3
def dkwX3_carriesAll_1 : List UInt8 := [180, 0, 22, 182, 2, 63, 42, 42, 180, 0, 31, 182, 2, 63, 42, 42, 180, 0, 34, 182, 2, 63, 42, 42]
abbrev dktX3_carriesAll_1 : List UInt8 := dkwX3_carriesAll_1 ++ dktX3_carriesAll_2
def dkwX3_carriesAll_0 : List UInt8 := [42, 17, 16, 4, 27, 104, 181, 2, 60, 42, 28, 181, 2, 57, 42, 42, 180, 0, 9, 182, 2, 63, 42, 42]
abbrev dktX3_carriesAll_0 : List UInt8 := dkwX3_carriesAll_0 ++ dktX3_carriesAll_1
theorem dksX3_carriesAll_0 : cX3_carriesAll.data.toList.drop 0 = dktX3_carriesAll_0 := by decide +kernel
theorem dksX3_carriesAll_1 : cX3_carriesAll.data.toList.drop 24 = dktX3_carriesAll_1 := dk_seg dksX3_carriesAll_0 24 rfl rfl
theorem dksX3_carriesAll_2 : cX3_carriesAll.data.toList.drop 48 = dktX3_carriesAll_2 := dk_seg dksX3_carriesAll_1 24 rfl rfl
theorem dksX3_carriesAll_3 : cX3_carriesAll.data.toList.drop 72 = dktX3_carriesAll_3 := dk_seg dksX3_carriesAll_2 24 rfl rfl
theorem dksX3_carriesAll_4 : cX3_carriesAll.data.toList.drop 96 = dktX3_carriesAll_4 := dk_seg dksX3_carriesAll_3 24 rfl rfl
theorem dksX3_carriesAll_5 : cX3_carriesAll.data.toList.drop 120 = dktX3_carriesAll_5 := dk_seg dksX3_carriesAll_4 24 rfl rfl
theorem dksX3_carriesAll_6 : cX3_carriesAll.data.toList.drop 144 = dktX3_carriesAll_6 := dk_seg dksX3_carriesAll_5 24 rfl rfl
theorem dksX3_carriesAll_7 : cX3_carriesAll.data.toList.drop 168 = dktX3_carriesAll_7 := dk_seg dksX3_carriesAll_6 24 rfl rfl
theorem dksX3_carriesAll_8 : cX3_carriesAll.data.toList.drop 192 = dktX3_carriesAll_8 := dk_seg dksX3_carriesAll_7 24 rfl rfl
theorem dX3_carriesAll_0 : decode cX3_carriesAll 0 = .ok (.aload_n 0, 1) := dk_42 (dk_at dksX3_carriesAll_0 0 rfl rfl)
theorem dX3_carriesAll_1 : decode cX3_carriesAll 1 = .ok (.sipush 4100, 3) := dk_17 16 4 (dk_at dksX3_carriesAll_0 1 rfl rfl)
theorem dX3_carriesAll_4 : decode cX3_carriesAll 4 = .ok (.iload_n 1, 1) := dk_27 (dk_at dksX3_carriesAll_0 4 rfl rfl)
theorem dX3_carriesAll_5 : decode cX3_carriesAll 5 = .ok (.imul, 1) := dk_104 (dk_at dksX3_carriesAll_0 5 rfl rfl)
theorem dX3_carriesAll_6 : decode cX3_carriesAll 6 = .ok (.putfield 572, 3) := dk_181 2 60 (dk_at dksX3_carriesAll_0 6 rfl rfl)
theorem dX3_carriesAll_9 : decode cX3_carriesAll 9 = .ok (.aload_n 0, 1) := dk_42 (dk_at dksX3_carriesAll_0 9 rfl rfl)
theorem dX3_carriesAll_10 : decode cX3_carriesAll 10 = .ok (.iload_n 2, 1) := dk_28 (dk_at dksX3_carriesAll_0 10 rfl rfl)
theorem dX3_carriesAll_11 : decode cX3_carriesAll 11 = .ok (.putfield 569, 3) := dk_181 2 57 (dk_at dksX3_carriesAll_0 11 rfl rfl)
theorem dX3_carriesAll_14 : decode cX3_carriesAll 14 = .ok (.aload_n 0, 1) := dk_42 (dk_at dksX3_carriesAll_0 14 rfl rfl)
theorem dX3_carriesAll_15 : decode cX3_carriesAll 15 = .ok (.aload_n 0, 1) := dk_42 (dk_at dksX3_carriesAll_0 15 rfl rfl)
theorem dX3_carriesAll_16 : decode cX3_carriesAll 16 = .ok (.getfield 9, 3) := dk_180 0 9 (dk_at dksX3_carriesAll_0 16 rfl rfl)
theorem dX3_carriesAll_19 : decode cX3_carriesAll 19 = .ok (.invokevirtual 575, 3) := dk_182 2 63 (dk_at dksX3_carriesAll_0 19 rfl rfl)
theorem dX3_carriesAll_22 : decode cX3_carriesAll 22 = .ok (.aload_n 0, 1) := dk_42 (dk_at dksX3_carriesAll_0 22 rfl rfl)
theorem dX3_carriesAll_23 : decode cX3_carriesAll 23 = .ok (.aload_n 0, 1) := dk_42 (dk_at dksX3_carriesAll_0 23 rfl rfl)
theorem dX3_carriesAll_24 : decode cX3_carriesAll 24 = .ok (.getfield 22, 3) := dk_180 0 22 (dk_at dksX3_carriesAll_1 0 rfl rfl)
theorem dX3_carriesAll_27 : decode cX3_carriesAll 27 = .ok (.invokevirtual 575, 3) := dk_182 2 63 (dk_at dksX3_carriesAll_1 3 rfl rfl)
theorem dX3_carriesAll_30 : decode cX3_carriesAll 30 = .ok (.aload_n 0, 1) := dk_42 (dk_at dksX3_carriesAll_1 6 rfl rfl)
theorem dX3_carriesAll_31 : decode cX3_carriesAll 31 = .ok (.aload_n 0, 1) := dk_42 (dk_at dksX3_carriesAll_1 7 rfl rfl)
theorem dX3_carriesAll_32 : decode cX3_carriesAll 32 = .ok (.getfield 31, 3) := dk_180 0 31 (dk_at dksX3_carriesAll_1 8 rfl rfl)
theorem dX3_carriesAll_35 : decode cX3_carriesAll 35 = .ok (.invokevirtual 575, 3) := dk_182 2 63 (dk_at dksX3_carriesAll_1 11 rfl rfl)
theorem dX3_carriesAll_38 : decode cX3_carriesAll 38 = .ok (.aload_n 0, 1) := dk_42 (dk_at dksX3_carriesAll_1 14 rfl rfl)
theorem dX3_carriesAll_39 : decode cX3_carriesAll 39 = .ok (.aload_n 0, 1) := dk_42 (dk_at dksX3_carriesAll_1 15 rfl rfl)
theorem dX3_carriesAll_40 : decode cX3_carriesAll 40 = .ok (.getfield 34, 3) := dk_180 0 34 (dk_at dksX3_carriesAll_1 16 rfl rfl)
theorem dX3_carriesAll_43 : decode cX3_carriesAll 43 = .ok (.invokevirtual 575, 3) := dk_182 2 63 (dk_at dksX3_carriesAll_1 19 rfl rfl)
theorem dX3_carriesAll_46 : decode cX3_carriesAll 46 = .ok (.aload_n 0, 1) := dk_42 (dk_at dksX3_carriesAll_1 22 rfl rfl)
theorem dX3_carriesAll_47 : decode cX3_carriesAll 47 = .ok (.aload_n 0, 1) := dk_42 (dk_at dksX3_carriesAll_1 23 rfl rfl)
theorem dX3_carriesAll_48 : decode cX3_carriesAll 48 = .ok (.getfield 37, 3) := dk_180 0 37 (dk_at dksX3_carriesAll_2 0 rfl rfl)
theorem dX3_carriesAll_51 : decode cX3_carriesAll 51 = .ok (.invokevirtual 575, 3) := dk_182 2 63 (dk_at dksX3_carriesAll_2 3 rfl rfl)
theorem dX3_carriesAll_54 : decode cX3_carriesAll 54 = .ok (.iload_n 1, 1) := dk_27 (dk_at dksX3_carriesAll_2 6 rfl rfl)
theorem dX3_carriesAll_55 : decode cX3_carriesAll 55 = .ok (.iconst 4, 1) := dk_7 (dk_at dksX3_carriesAll_2 7 rfl rfl)
theorem dX3_carriesAll_56 : decode cX3_carriesAll 56 = .ok (.if_icmp .ne 4, 3) := dk_160 0 4 (dk_at dksX3_carriesAll_2 8 rfl rfl)
theorem dX3_carriesAll_59 : decode cX3_carriesAll 59 = .ok (.return_, 1) := dk_177 (dk_at dksX3_carriesAll_2 11 rfl rfl)
theorem dX3_carriesAll_60 : decode cX3_carriesAll 60 = .ok (.aload_n 0, 1) := dk_42 (dk_at dksX3_carriesAll_2 12 rfl rfl)
theorem dX3_carriesAll_61 : decode cX3_carriesAll 61 = .ok (.getfield 133, 3) := dk_180 0 133 (dk_at dksX3_carriesAll_2 13 rfl rfl)
theorem dX3_carriesAll_64 : decode cX3_carriesAll 64 = .ok (.iconst 0, 1) := dk_3 (dk_at dksX3_carriesAll_2 16 rfl rfl)
theorem dX3_carriesAll_65 : decode cX3_carriesAll 65 = .ok (.aload_n 0, 1) := dk_42 (dk_at dksX3_carriesAll_2 17 rfl rfl)
theorem dX3_carriesAll_66 : decode cX3_carriesAll 66 = .ok (.getfield 349, 3) := dk_180 1 93 (dk_at dksX3_carriesAll_2 18 rfl rfl)
theorem dX3_carriesAll_69 : decode cX3_carriesAll 69 = .ok (.iastore, 1) := dk_79 (dk_at dksX3_carriesAll_2 21 rfl rfl)
theorem dX3_carriesAll_70 : decode cX3_carriesAll 70 = .ok (.aload_n 0, 1) := dk_42 (dk_at dksX3_carriesAll_2 22 rfl rfl)
theorem dX3_carriesAll_71 : decode cX3_carriesAll 71 = .ok (.aload_n 0, 1) := dk_42 (dk_at dksX3_carriesAll_2 23 rfl rfl)
theorem dX3_carriesAll_72 : decode cX3_carriesAll 72 = .ok (.getfield 133, 3) := dk_180 0 133 (dk_at dksX3_carriesAll_3 0 rfl rfl)
theorem dX3_carriesAll_75 : decode cX3_carriesAll 75 = .ok (.invokevirtual 575, 3) := dk_182 2 63 (dk_at dksX3_carriesAll_3 3 rfl rfl)
theorem dX3_carriesAll_78 : decode cX3_carriesAll 78 = .ok (.aload_n 0, 1) := dk_42 (dk_at dksX3_carriesAll_3 6 rfl rfl)
theorem dX3_carriesAll_79 : decode cX3_carriesAll 79 = .ok (.aload_n 0, 1) := dk_42 (dk_at dksX3_carriesAll_3 7 rfl rfl)
theorem dX3_carriesAll_80 : decode cX3_carriesAll 80 = .ok (.getfield 133, 3) := dk_180 0 133 (dk_at dksX3_carriesAll_3 8 rfl rfl)
theorem dX3_carriesAll_83 : decode cX3_carriesAll 83 = .ok (.iconst 0, 1) := dk_3 (dk_at dksX3_carriesAll_3 11 rfl rfl)
theorem dX3_carriesAll_84 : decode cX3_carriesAll 84 = .ok (.iaload, 1) := dk_46 (dk_at dksX3_carriesAll_3 12 rfl rfl)
theorem dX3_carriesAll_85 : decode cX3_carriesAll 85 = .ok (.putfield 349, 3) := dk_181 1 93 (dk_at dksX3_carriesAll_3 13 rfl rfl)
theorem dX3_carriesAll_88 : decode cX3_carriesAll 88 = .ok (.aload_n 0, 1) := dk_42 (dk_at dksX3_carriesAll_3 16 rfl rfl)
theorem dX3_carriesAll_89 : decode cX3_carriesAll 89 = .ok (.aload_n 0, 1) := dk_42 (dk_at dksX3_carriesAll_3 17 rfl rfl)
theorem dX3_carriesAll_90 : decode cX3_carriesAll 90 = .ok (.getfield 13, 3) := dk_180 0 13 (dk_at dksX3_carriesAll_3 18 rfl rfl)
theorem dX3_carriesAll_93 : decode cX3_carriesAll 93 = .ok (.invokevirtual 575, 3) := dk_182 2 63 (dk_at dksX3_carriesAll_3 21 rfl rfl)
theorem dX3_carriesAll_96 : decode cX3_carriesAll 96 = .ok (.aload_n 0, 1) := dk_42 (dk_at dksX3_carriesAll_4 0 rfl rfl)
theorem dX3_carriesAll_97 : decode cX3_carriesAll 97 = .ok (.aload_n 0, 1) := dk_42 (dk_at dksX3_carriesAll_4 1 rfl rfl)
theorem dX3_carriesAll_98 : decode cX3_carriesAll 98 = .ok (.getfield 16, 3) := dk_180 0 16 (dk_at dksX3_carriesAll_4 2 rfl rfl)
theorem dX3_carriesAll_101 : decode cX3_carriesAll 101 = .ok (.invokevirtual 575, 3) := dk_182 2 63 (dk_at dksX3_carriesAll_4 5 rfl rfl)
theorem dX3_carriesAll_104 : decode cX3_carriesAll 104 = .ok (.aload_n 0, 1) := dk_42 (dk_at dksX3_carriesAll_4 8 rfl rfl)
theorem dX3_carriesAll_105 : decode cX3_carriesAll 105 = .ok (.aload_n 0, 1) := dk_42 (dk_at dksX3_carriesAll_4 9 rfl rfl)
theorem dX3_carriesAll_106 : decode cX3_carriesAll 106 = .ok (.getfield 19, 3) := dk_180 0 19 (dk_at dksX3_carriesAll_4 10 rfl rfl)
theorem dX3_carriesAll_109 : decode cX3_carriesAll 109 = .ok (.invokevirtual 575, 3) := dk_182 2 63 (dk_at dksX3_carriesAll_4 13 rfl rfl)
theorem dX3_carriesAll_112 : decode cX3_carriesAll 112 = .ok (.aload_n 0, 1) := dk_42 (dk_at dksX3_carriesAll_4 16 rfl rfl)
theorem dX3_carriesAll_113 : decode cX3_carriesAll 113 = .ok (.aload_n 0, 1) := dk_42 (dk_at dksX3_carriesAll_4 17 rfl rfl)
theorem dX3_carriesAll_114 : decode cX3_carriesAll 114 = .ok (.getfield 25, 3) := dk_180 0 25 (dk_at dksX3_carriesAll_4 18 rfl rfl)
theorem dX3_carriesAll_117 : decode cX3_carriesAll 117 = .ok (.invokevirtual 575, 3) := dk_182 2 63 (dk_at dksX3_carriesAll_4 21 rfl rfl)
theorem dX3_carriesAll_120 : decode cX3_carriesAll 120 = .ok (.aload_n 0, 1) := dk_42 (dk_at dksX3_carriesAll_5 0 rfl rfl)
theorem dX3_carriesAll_121 : decode cX3_carriesAll 121 = .ok (.aload_n 0, 1) := dk_42 (dk_at dksX3_carriesAll_5 1 rfl rfl)
theorem dX3_carriesAll_122 : decode cX3_carriesAll 122 = .ok (.getfield 28, 3) := dk_180 0 28 (dk_at dksX3_carriesAll_5 2 rfl rfl)
theorem dX3_carriesAll_125 : decode cX3_carriesAll 125 = .ok (.invokevirtual 575, 3) := dk_182 2 63 (dk_at dksX3_carriesAll_5 5 rfl rfl)
theorem dX3_carriesAll_128 : decode cX3_carriesAll 128 = .ok (.aload_n 0, 1) := dk_42 (dk_at dksX3_carriesAll_5 8 rfl rfl)
theorem dX3_carriesAll_129 : decode cX3_carriesAll 129 = .ok (.aload_n 0, 1) := dk_42 (dk_at dksX3_carriesAll_5 9 rfl rfl)
theorem dX3_carriesAll_130 : decode cX3_carriesAll 130 = .ok (.getfield 40, 3) := dk_180 0 40 (dk_at dksX3_carriesAll_5 10 rfl rfl)
theorem dX3_carriesAll_133 : decode cX3_carriesAll 133 = .ok (.invokevirtual 575, 3) := dk_182 2 63 (dk_at dksX3_carriesAll_5 13 rfl rfl)
theorem dX3_carriesAll_136 : decode cX3_carriesAll 136 = .ok (.aload_n 0, 1) := dk_42 (dk_at dksX3_carriesAll_5 16 rfl rfl)
theorem dX3_carriesAll_137 : decode cX3_carriesAll 137 = .ok (.aload_n 0, 1) := dk_42 (dk_at dksX3_carriesAll_5 17 rfl rfl)
theorem dX3_carriesAll_138 : decode cX3_carriesAll 138 = .ok (.getfield 43, 3) := dk_180 0 43 (dk_at dksX3_carriesAll_5 18 rfl rfl)
theorem dX3_carriesAll_141 : decode cX3_carriesAll 141 = .ok (.invokevirtual 575, 3) := dk_182 2 63 (dk_at dksX3_carriesAll_5 21 rfl rfl)
theorem dX3_carriesAll_144 : decode cX3_carriesAll 144 = .ok (.aload_n 0, 1) := dk_42 (dk_at dksX3_carriesAll_6 0 rfl rfl)
theorem dX3_carriesAll_145 : decode cX3_carriesAll 145 = .ok (.aload_n 0, 1) := dk_42 (dk_at dksX3_carriesAll_6 1 rfl rfl)
theorem dX3_carriesAll_146 : decode cX3_carriesAll 146 = .ok (.getfield 46, 3) := dk_180 0 46 (dk_at dksX3_carriesAll_6 2 rfl rfl)
theorem dX3_carriesAll_149 : decode cX3_carriesAll 149 = .ok (.invokevirtual 575, 3) := dk_182 2 63 (dk_at dksX3_carriesAll_6 5 rfl rfl)
theorem dX3_carriesAll_152 : decode cX3_carriesAll 152 = .ok (.aload_n 0, 1) := dk_42 (dk_at dksX3_carriesAll_6 8 rfl rfl)
theorem dX3_carriesAll_153 : decode cX3_carriesAll 153 = .ok (.aload_n 0, 1) := dk_42 (dk_at dksX3_carriesAll_6 9 rfl rfl)
theorem dX3_carriesAll_154 : decode cX3_carriesAll 154 = .ok (.getfield 49, 3) := dk_180 0 49 (dk_at dksX3_carriesAll_6 10 rfl rfl)
theorem dX3_carriesAll_157 : decode cX3_carriesAll 157 = .ok (.invokevirtual 575, 3) := dk_182 2 63 (dk_at dksX3_carriesAll_6 13 rfl rfl)
theorem dX3_carriesAll_160 : decode cX3_carriesAll 160 = .ok (.aload_n 0, 1) := dk_42 (dk_at dksX3_carriesAll_6 16 rfl rfl)
theorem dX3_carriesAll_161 : decode cX3_carriesAll 161 = .ok (.aload_n 0, 1) := dk_42 (dk_at dksX3_carriesAll_6 17 rfl rfl)
theorem dX3_carriesAll_162 : decode cX3_carriesAll 162 = .ok (.getfield 52, 3) := dk_180 0 52 (dk_at dksX3_carriesAll_6 18 rfl rfl)
theorem dX3_carriesAll_165 : decode cX3_carriesAll 165 = .ok (.invokevirtual 575, 3) := dk_182 2 63 (dk_at dksX3_carriesAll_6 21 rfl rfl)
theorem dX3_carriesAll_168 : decode cX3_carriesAll 168 = .ok (.aload_n 0, 1) := dk_42 (dk_at dksX3_carriesAll_7 0 rfl rfl)
theorem dX3_carriesAll_169 : decode cX3_carriesAll 169 = .ok (.aload_n 0, 1) := dk_42 (dk_at dksX3_carriesAll_7 1 rfl rfl)
theorem dX3_carriesAll_170 : decode cX3_carriesAll 170 = .ok (.getfield 55, 3) := dk_180 0 55 (dk_at dksX3_carriesAll_7 2 rfl rfl)
theorem dX3_carriesAll_173 : decode cX3_carriesAll 173 = .ok (.invokevirtual 575, 3) := dk_182 2 63 (dk_at dksX3_carriesAll_7 5 rfl rfl)
theorem dX3_carriesAll_176 : decode cX3_carriesAll 176 = .ok (.aload_n 0, 1) := dk_42 (dk_at dksX3_carriesAll_7 8 rfl rfl)
theorem dX3_carriesAll_177 : decode cX3_carriesAll 177 = .ok (.aload_n 0, 1) := dk_42 (dk_at dksX3_carriesAll_7 9 rfl rfl)
theorem dX3_carriesAll_178 : decode cX3_carriesAll 178 = .ok (.getfield 58, 3) := dk_180 0 58 (dk_at dksX3_carriesAll_7 10 rfl rfl)
theorem dX3_carriesAll_181 : decode cX3_carriesAll 181 = .ok (.invokevirtual 575, 3) := dk_182 2 63 (dk_at dksX3_carriesAll_7 13 rfl rfl)
theorem dX3_carriesAll_184 : decode cX3_carriesAll 184 = .ok (.aload_n 0, 1) := dk_42 (dk_at dksX3_carriesAll_7 16 rfl rfl)
theorem dX3_carriesAll_185 : decode cX3_carriesAll 185 = .ok (.aload_n 0, 1) := dk_42 (dk_at dksX3_carriesAll_7 17 rfl rfl)
theorem dX3_carriesAll_186 : decode cX3_carriesAll 186 = .ok (.getfield 130, 3) := dk_180 0 130 (dk_at dksX3_carriesAll_7 18 rfl rfl)
theorem dX3_carriesAll_189 : decode cX3_carriesAll 189 = .ok (.invokevirtual 575, 3) := dk_182 2 63 (dk_at dksX3_carriesAll_7 21 rfl rfl)
theorem dX3_carriesAll_192 : decode cX3_carriesAll 192 = .ok (.return_, 1) := dk_177 (dk_at dksX3_carriesAll_8 0 rfl rfl)
abbrev cX3_carryRow : ByteArray := prog_17_method_122_code
def yX3_carryRow : MethodName := ⟨RX3, "carryRow", "([I)V"⟩
def dkwX3_carryRow_2 : List UInt8 := [180, 2, 60, 4, 96, 181, 2, 60, 132, 2, 1, 167, 255, 203, 177]
abbrev dktX3_carryRow_2 : List UInt8 := dkwX3_carryRow_2 ++ []
def dkwX3_carryRow_1 : List UInt8 := [180, 2, 60, 46, 79, 167, 0, 15, 42, 180, 0, 154, 42, 180, 2, 60, 43, 28, 46, 79, 42, 89]
abbrev dktX3_carryRow_1 : List UInt8 := dkwX3_carryRow_1 ++ dktX3_carryRow_2
def dkwX3_carryRow_0 : List UInt8 := [3, 61, 28, 43, 190, 162, 0, 53, 42, 180, 2, 57, 153, 0, 18, 43, 28, 42, 180, 0, 154, 42]
abbrev dktX3_carryRow_0 : List UInt8 := dkwX3_carryRow_0 ++ dktX3_carryRow_1
theorem dksX3_carryRow_0 : cX3_carryRow.data.toList.drop 0 = dktX3_carryRow_0 := by decide +kernel
theorem dksX3_carryRow_1 : cX3_carryRow.data.toList.drop 22 = dktX3_carryRow_1 := dk_seg dksX3_carryRow_0 22 rfl rfl
theorem dksX3_carryRow_2 : cX3_carryRow.data.toList.drop 44 = dktX3_carryRow_2 := dk_seg dksX3_carryRow_1 22 rfl rfl
theorem dX3_carryRow_0 : decode cX3_carryRow 0 = .ok (.iconst 0, 1) := dk_3 (dk_at dksX3_carryRow_0 0 rfl rfl)
theorem dX3_carryRow_1 : decode cX3_carryRow 1 = .ok (.istore_n 2, 1) := dk_61 (dk_at dksX3_carryRow_0 1 rfl rfl)
theorem dX3_carryRow_2 : decode cX3_carryRow 2 = .ok (.iload_n 2, 1) := dk_28 (dk_at dksX3_carryRow_0 2 rfl rfl)
theorem dX3_carryRow_3 : decode cX3_carryRow 3 = .ok (.aload_n 1, 1) := dk_43 (dk_at dksX3_carryRow_0 3 rfl rfl)
theorem dX3_carryRow_4 : decode cX3_carryRow 4 = .ok (.arraylength, 1) := dk_190 (dk_at dksX3_carryRow_0 4 rfl rfl)
theorem dX3_carryRow_5 : decode cX3_carryRow 5 = .ok (.if_icmp .ge 53, 3) := dk_162 0 53 (dk_at dksX3_carryRow_0 5 rfl rfl)
theorem dX3_carryRow_8 : decode cX3_carryRow 8 = .ok (.aload_n 0, 1) := dk_42 (dk_at dksX3_carryRow_0 8 rfl rfl)
theorem dX3_carryRow_9 : decode cX3_carryRow 9 = .ok (.getfield 569, 3) := dk_180 2 57 (dk_at dksX3_carryRow_0 9 rfl rfl)
theorem dX3_carryRow_12 : decode cX3_carryRow 12 = .ok (.ifCond .eq 18, 3) := dk_153 0 18 (dk_at dksX3_carryRow_0 12 rfl rfl)
theorem dX3_carryRow_15 : decode cX3_carryRow 15 = .ok (.aload_n 1, 1) := dk_43 (dk_at dksX3_carryRow_0 15 rfl rfl)
theorem dX3_carryRow_16 : decode cX3_carryRow 16 = .ok (.iload_n 2, 1) := dk_28 (dk_at dksX3_carryRow_0 16 rfl rfl)
theorem dX3_carryRow_17 : decode cX3_carryRow 17 = .ok (.aload_n 0, 1) := dk_42 (dk_at dksX3_carryRow_0 17 rfl rfl)
theorem dX3_carryRow_18 : decode cX3_carryRow 18 = .ok (.getfield 154, 3) := dk_180 0 154 (dk_at dksX3_carryRow_0 18 rfl rfl)
theorem dX3_carryRow_21 : decode cX3_carryRow 21 = .ok (.aload_n 0, 1) := dk_42 (dk_at dksX3_carryRow_0 21 rfl rfl)
theorem dX3_carryRow_22 : decode cX3_carryRow 22 = .ok (.getfield 572, 3) := dk_180 2 60 (dk_at dksX3_carryRow_1 0 rfl rfl)
theorem dX3_carryRow_25 : decode cX3_carryRow 25 = .ok (.iaload, 1) := dk_46 (dk_at dksX3_carryRow_1 3 rfl rfl)
theorem dX3_carryRow_26 : decode cX3_carryRow 26 = .ok (.iastore, 1) := dk_79 (dk_at dksX3_carryRow_1 4 rfl rfl)
theorem dX3_carryRow_27 : decode cX3_carryRow 27 = .ok (.goto 15, 3) := dk_167 0 15 (dk_at dksX3_carryRow_1 5 rfl rfl)
theorem dX3_carryRow_30 : decode cX3_carryRow 30 = .ok (.aload_n 0, 1) := dk_42 (dk_at dksX3_carryRow_1 8 rfl rfl)
theorem dX3_carryRow_31 : decode cX3_carryRow 31 = .ok (.getfield 154, 3) := dk_180 0 154 (dk_at dksX3_carryRow_1 9 rfl rfl)
theorem dX3_carryRow_34 : decode cX3_carryRow 34 = .ok (.aload_n 0, 1) := dk_42 (dk_at dksX3_carryRow_1 12 rfl rfl)
theorem dX3_carryRow_35 : decode cX3_carryRow 35 = .ok (.getfield 572, 3) := dk_180 2 60 (dk_at dksX3_carryRow_1 13 rfl rfl)
theorem dX3_carryRow_38 : decode cX3_carryRow 38 = .ok (.aload_n 1, 1) := dk_43 (dk_at dksX3_carryRow_1 16 rfl rfl)
theorem dX3_carryRow_39 : decode cX3_carryRow 39 = .ok (.iload_n 2, 1) := dk_28 (dk_at dksX3_carryRow_1 17 rfl rfl)
theorem dX3_carryRow_40 : decode cX3_carryRow 40 = .ok (.iaload, 1) := dk_46 (dk_at dksX3_carryRow_1 18 rfl rfl)
theorem dX3_carryRow_41 : decode cX3_carryRow 41 = .ok (.iastore, 1) := dk_79 (dk_at dksX3_carryRow_1 19 rfl rfl)
theorem dX3_carryRow_42 : decode cX3_carryRow 42 = .ok (.aload_n 0, 1) := dk_42 (dk_at dksX3_carryRow_1 20 rfl rfl)
theorem dX3_carryRow_43 : decode cX3_carryRow 43 = .ok (.dup, 1) := dk_89 (dk_at dksX3_carryRow_1 21 rfl rfl)
theorem dX3_carryRow_44 : decode cX3_carryRow 44 = .ok (.getfield 572, 3) := dk_180 2 60 (dk_at dksX3_carryRow_2 0 rfl rfl)
theorem dX3_carryRow_47 : decode cX3_carryRow 47 = .ok (.iconst 1, 1) := dk_4 (dk_at dksX3_carryRow_2 3 rfl rfl)
theorem dX3_carryRow_48 : decode cX3_carryRow 48 = .ok (.iadd, 1) := dk_96 (dk_at dksX3_carryRow_2 4 rfl rfl)
theorem dX3_carryRow_49 : decode cX3_carryRow 49 = .ok (.putfield 572, 3) := dk_181 2 60 (dk_at dksX3_carryRow_2 5 rfl rfl)
theorem dX3_carryRow_52 : decode cX3_carryRow 52 = .ok (.iinc 2 1, 3) := dk_132 2 1 (dk_at dksX3_carryRow_2 8 rfl rfl)
theorem dX3_carryRow_55 : decode cX3_carryRow 55 = .ok (.goto (-53), 3) := dk_167 255 203 (dk_at dksX3_carryRow_2 11 rfl rfl)
theorem dX3_carryRow_58 : decode cX3_carryRow 58 = .ok (.return_, 1) := dk_177 (dk_at dksX3_carryRow_2 14 rfl rfl)
abbrev cX3_goes : ByteArray := prog_17_method_78_code
def yX3_goes : MethodName := ⟨RX3, "goes", "(I)V"⟩
def dkwX3_goes_0 : List UInt8 := [3, 61, 28, 27, 162, 0, 18, 42, 182, 1, 198, 87, 42, 182, 1, 201, 132, 2, 1, 167, 255, 239, 177]
abbrev dktX3_goes_0 : List UInt8 := dkwX3_goes_0 ++ []
theorem dksX3_goes_0 : cX3_goes.data.toList.drop 0 = dktX3_goes_0 := by decide +kernel
theorem dX3_goes_0 : decode cX3_goes 0 = .ok (.iconst 0, 1) := dk_3 (dk_at dksX3_goes_0 0 rfl rfl)
theorem dX3_goes_1 : decode cX3_goes 1 = .ok (.istore_n 2, 1) := dk_61 (dk_at dksX3_goes_0 1 rfl rfl)
theorem dX3_goes_2 : decode cX3_goes 2 = .ok (.iload_n 2, 1) := dk_28 (dk_at dksX3_goes_0 2 rfl rfl)
theorem dX3_goes_3 : decode cX3_goes 3 = .ok (.iload_n 1, 1) := dk_27 (dk_at dksX3_goes_0 3 rfl rfl)
theorem dX3_goes_4 : decode cX3_goes 4 = .ok (.if_icmp .ge 18, 3) := dk_162 0 18 (dk_at dksX3_goes_0 4 rfl rfl)
theorem dX3_goes_7 : decode cX3_goes 7 = .ok (.aload_n 0, 1) := dk_42 (dk_at dksX3_goes_0 7 rfl rfl)
theorem dX3_goes_8 : decode cX3_goes 8 = .ok (.invokevirtual 454, 3) := dk_182 1 198 (dk_at dksX3_goes_0 8 rfl rfl)
theorem dX3_goes_11 : decode cX3_goes 11 = .ok (.pop, 1) := dk_87 (dk_at dksX3_goes_0 11 rfl rfl)
theorem dX3_goes_12 : decode cX3_goes 12 = .ok (.aload_n 0, 1) := dk_42 (dk_at dksX3_goes_0 12 rfl rfl)
theorem dX3_goes_13 : decode cX3_goes 13 = .ok (.invokevirtual 457, 3) := dk_182 1 201 (dk_at dksX3_goes_0 13 rfl rfl)
theorem dX3_goes_16 : decode cX3_goes 16 = .ok (.iinc 2 1, 3) := dk_132 2 1 (dk_at dksX3_goes_0 16 rfl rfl)
theorem dX3_goes_19 : decode cX3_goes 19 = .ok (.goto (-17), 3) := dk_167 255 239 (dk_at dksX3_goes_0 19 rfl rfl)
theorem dX3_goes_22 : decode cX3_goes 22 = .ok (.return_, 1) := dk_177 (dk_at dksX3_goes_0 22 rfl rfl)
abbrev cX3_laysBack : ByteArray := prog_17_method_89_code
def yX3_laysBack : MethodName := ⟨RX3, "laysBack", "()V"⟩
def dkwX3_laysBack_0 : List UInt8 := [42, 7, 4, 182, 1, 225, 177]
abbrev dktX3_laysBack_0 : List UInt8 := dkwX3_laysBack_0 ++ []
theorem dksX3_laysBack_0 : cX3_laysBack.data.toList.drop 0 = dktX3_laysBack_0 := by decide +kernel
theorem dX3_laysBack_0 : decode cX3_laysBack 0 = .ok (.aload_n 0, 1) := dk_42 (dk_at dksX3_laysBack_0 0 rfl rfl)
theorem dX3_laysBack_1 : decode cX3_laysBack 1 = .ok (.iconst 4, 1) := dk_7 (dk_at dksX3_laysBack_0 1 rfl rfl)
theorem dX3_laysBack_2 : decode cX3_laysBack 2 = .ok (.iconst 1, 1) := dk_4 (dk_at dksX3_laysBack_0 2 rfl rfl)
theorem dX3_laysBack_3 : decode cX3_laysBack 3 = .ok (.invokevirtual 481, 3) := dk_182 1 225 (dk_at dksX3_laysBack_0 3 rfl rfl)
theorem dX3_laysBack_6 : decode cX3_laysBack 6 = .ok (.return_, 1) := dk_177 (dk_at dksX3_laysBack_0 6 rfl rfl)
abbrev cX3_rents : ByteArray := prog_17_method_92_code
def yX3_rents : MethodName := ⟨RX3, "rents", "(II)I"⟩
def dkwX3_rents_1 : List UInt8 := [182, 1, 235, 42, 28, 182, 1, 238, 42, 182, 1, 241, 42, 180, 0, 127, 27, 46, 172]
abbrev dktX3_rents_1 : List UInt8 := dkwX3_rents_1 ++ []
def dkwX3_rents_0 : List UInt8 := [42, 27, 182, 1, 167, 153, 0, 15, 28, 133, 10, 20, 1, 233, 184, 0, 164, 154, 0, 5, 2, 172, 42]
abbrev dktX3_rents_0 : List UInt8 := dkwX3_rents_0 ++ dktX3_rents_1
theorem dksX3_rents_0 : cX3_rents.data.toList.drop 0 = dktX3_rents_0 := by decide +kernel
theorem dksX3_rents_1 : cX3_rents.data.toList.drop 23 = dktX3_rents_1 := dk_seg dksX3_rents_0 23 rfl rfl
theorem dX3_rents_0 : decode cX3_rents 0 = .ok (.aload_n 0, 1) := dk_42 (dk_at dksX3_rents_0 0 rfl rfl)
theorem dX3_rents_1 : decode cX3_rents 1 = .ok (.iload_n 1, 1) := dk_27 (dk_at dksX3_rents_0 1 rfl rfl)
theorem dX3_rents_2 : decode cX3_rents 2 = .ok (.invokevirtual 423, 3) := dk_182 1 167 (dk_at dksX3_rents_0 2 rfl rfl)
theorem dX3_rents_5 : decode cX3_rents 5 = .ok (.ifCond .eq 15, 3) := dk_153 0 15 (dk_at dksX3_rents_0 5 rfl rfl)
theorem dX3_rents_8 : decode cX3_rents 8 = .ok (.iload_n 2, 1) := dk_28 (dk_at dksX3_rents_0 8 rfl rfl)
theorem dX3_rents_9 : decode cX3_rents 9 = .ok (.i2l, 1) := dk_133 (dk_at dksX3_rents_0 9 rfl rfl)
theorem dX3_rents_10 : decode cX3_rents 10 = .ok (.lconst 1, 1) := dk_10 (dk_at dksX3_rents_0 10 rfl rfl)
theorem dX3_rents_11 : decode cX3_rents 11 = .ok (.ldc2_w 489, 3) := dk_20 1 233 (dk_at dksX3_rents_0 11 rfl rfl)
theorem dX3_rents_14 : decode cX3_rents 14 = .ok (.invokestatic 164, 3) := dk_184 0 164 (dk_at dksX3_rents_0 14 rfl rfl)
theorem dX3_rents_17 : decode cX3_rents 17 = .ok (.ifCond .ne 5, 3) := dk_154 0 5 (dk_at dksX3_rents_0 17 rfl rfl)
theorem dX3_rents_20 : decode cX3_rents 20 = .ok (.iconst (-1), 1) := dk_2 (dk_at dksX3_rents_0 20 rfl rfl)
theorem dX3_rents_21 : decode cX3_rents 21 = .ok (.ireturn, 1) := dk_172 (dk_at dksX3_rents_0 21 rfl rfl)
theorem dX3_rents_22 : decode cX3_rents 22 = .ok (.aload_n 0, 1) := dk_42 (dk_at dksX3_rents_0 22 rfl rfl)
theorem dX3_rents_23 : decode cX3_rents 23 = .ok (.invokevirtual 491, 3) := dk_182 1 235 (dk_at dksX3_rents_1 0 rfl rfl)
theorem dX3_rents_26 : decode cX3_rents 26 = .ok (.aload_n 0, 1) := dk_42 (dk_at dksX3_rents_1 3 rfl rfl)
theorem dX3_rents_27 : decode cX3_rents 27 = .ok (.iload_n 2, 1) := dk_28 (dk_at dksX3_rents_1 4 rfl rfl)
theorem dX3_rents_28 : decode cX3_rents 28 = .ok (.invokevirtual 494, 3) := dk_182 1 238 (dk_at dksX3_rents_1 5 rfl rfl)
theorem dX3_rents_31 : decode cX3_rents 31 = .ok (.aload_n 0, 1) := dk_42 (dk_at dksX3_rents_1 8 rfl rfl)
theorem dX3_rents_32 : decode cX3_rents 32 = .ok (.invokevirtual 497, 3) := dk_182 1 241 (dk_at dksX3_rents_1 9 rfl rfl)
theorem dX3_rents_35 : decode cX3_rents 35 = .ok (.aload_n 0, 1) := dk_42 (dk_at dksX3_rents_1 12 rfl rfl)
theorem dX3_rents_36 : decode cX3_rents 36 = .ok (.getfield 127, 3) := dk_180 0 127 (dk_at dksX3_rents_1 13 rfl rfl)
theorem dX3_rents_39 : decode cX3_rents 39 = .ok (.iload_n 1, 1) := dk_27 (dk_at dksX3_rents_1 16 rfl rfl)
theorem dX3_rents_40 : decode cX3_rents 40 = .ok (.iaload, 1) := dk_46 (dk_at dksX3_rents_1 17 rfl rfl)
theorem dX3_rents_41 : decode cX3_rents 41 = .ok (.ireturn, 1) := dk_172 (dk_at dksX3_rents_1 18 rfl rfl)
abbrev cX3_worth : ByteArray := prog_17_method_93_code
def yX3_worth : MethodName := ⟨RX3, "worth", "(III)I"⟩
def dkwX3_worth_4 : List UInt8 := [172]
abbrev dktX3_worth_4 : List UInt8 := dkwX3_worth_4 ++ []
def dkwX3_worth_3 : List UInt8 := [54, 4, 42, 182, 1, 235, 42, 29, 182, 1, 238, 42, 182, 1, 241, 21, 4, 42, 180, 0, 127, 28, 46, 100]
abbrev dktX3_worth_3 : List UInt8 := dkwX3_worth_3 ++ dktX3_worth_4
def dkwX3_worth_2 : List UInt8 := [182, 1, 235, 42, 27, 28, 182, 1, 192, 42, 29, 182, 1, 238, 42, 182, 1, 241, 42, 180, 0, 127, 28, 46]
abbrev dktX3_worth_2 : List UInt8 := dkwX3_worth_2 ++ dktX3_worth_3
def dkwX3_worth_1 : List UInt8 := [182, 1, 167, 153, 0, 15, 29, 133, 10, 20, 1, 233, 184, 0, 164, 154, 0, 7, 19, 1, 244, 172, 42]
abbrev dktX3_worth_1 : List UInt8 := dkwX3_worth_1 ++ dktX3_worth_2
def dkwX3_worth_0 : List UInt8 := [42, 27, 182, 1, 149, 153, 0, 35, 42, 42, 27, 182, 1, 152, 182, 1, 80, 154, 0, 23, 42, 28]
abbrev dktX3_worth_0 : List UInt8 := dkwX3_worth_0 ++ dktX3_worth_1
theorem dksX3_worth_0 : cX3_worth.data.toList.drop 0 = dktX3_worth_0 := by decide +kernel
theorem dksX3_worth_1 : cX3_worth.data.toList.drop 22 = dktX3_worth_1 := dk_seg dksX3_worth_0 22 rfl rfl
theorem dksX3_worth_2 : cX3_worth.data.toList.drop 45 = dktX3_worth_2 := dk_seg dksX3_worth_1 23 rfl rfl
theorem dksX3_worth_3 : cX3_worth.data.toList.drop 69 = dktX3_worth_3 := dk_seg dksX3_worth_2 24 rfl rfl
theorem dksX3_worth_4 : cX3_worth.data.toList.drop 93 = dktX3_worth_4 := dk_seg dksX3_worth_3 24 rfl rfl
theorem dX3_worth_0 : decode cX3_worth 0 = .ok (.aload_n 0, 1) := dk_42 (dk_at dksX3_worth_0 0 rfl rfl)
theorem dX3_worth_1 : decode cX3_worth 1 = .ok (.iload_n 1, 1) := dk_27 (dk_at dksX3_worth_0 1 rfl rfl)
theorem dX3_worth_2 : decode cX3_worth 2 = .ok (.invokevirtual 405, 3) := dk_182 1 149 (dk_at dksX3_worth_0 2 rfl rfl)
theorem dX3_worth_5 : decode cX3_worth 5 = .ok (.ifCond .eq 35, 3) := dk_153 0 35 (dk_at dksX3_worth_0 5 rfl rfl)
theorem dX3_worth_8 : decode cX3_worth 8 = .ok (.aload_n 0, 1) := dk_42 (dk_at dksX3_worth_0 8 rfl rfl)
theorem dX3_worth_9 : decode cX3_worth 9 = .ok (.aload_n 0, 1) := dk_42 (dk_at dksX3_worth_0 9 rfl rfl)
theorem dX3_worth_10 : decode cX3_worth 10 = .ok (.iload_n 1, 1) := dk_27 (dk_at dksX3_worth_0 10 rfl rfl)
theorem dX3_worth_11 : decode cX3_worth 11 = .ok (.invokevirtual 408, 3) := dk_182 1 152 (dk_at dksX3_worth_0 11 rfl rfl)
theorem dX3_worth_14 : decode cX3_worth 14 = .ok (.invokevirtual 336, 3) := dk_182 1 80 (dk_at dksX3_worth_0 14 rfl rfl)
theorem dX3_worth_17 : decode cX3_worth 17 = .ok (.ifCond .ne 23, 3) := dk_154 0 23 (dk_at dksX3_worth_0 17 rfl rfl)
theorem dX3_worth_20 : decode cX3_worth 20 = .ok (.aload_n 0, 1) := dk_42 (dk_at dksX3_worth_0 20 rfl rfl)
theorem dX3_worth_21 : decode cX3_worth 21 = .ok (.iload_n 2, 1) := dk_28 (dk_at dksX3_worth_0 21 rfl rfl)
theorem dX3_worth_22 : decode cX3_worth 22 = .ok (.invokevirtual 423, 3) := dk_182 1 167 (dk_at dksX3_worth_1 0 rfl rfl)
theorem dX3_worth_25 : decode cX3_worth 25 = .ok (.ifCond .eq 15, 3) := dk_153 0 15 (dk_at dksX3_worth_1 3 rfl rfl)
theorem dX3_worth_28 : decode cX3_worth 28 = .ok (.iload_n 3, 1) := dk_29 (dk_at dksX3_worth_1 6 rfl rfl)
theorem dX3_worth_29 : decode cX3_worth 29 = .ok (.i2l, 1) := dk_133 (dk_at dksX3_worth_1 7 rfl rfl)
theorem dX3_worth_30 : decode cX3_worth 30 = .ok (.lconst 1, 1) := dk_10 (dk_at dksX3_worth_1 8 rfl rfl)
theorem dX3_worth_31 : decode cX3_worth 31 = .ok (.ldc2_w 489, 3) := dk_20 1 233 (dk_at dksX3_worth_1 9 rfl rfl)
theorem dX3_worth_34 : decode cX3_worth 34 = .ok (.invokestatic 164, 3) := dk_184 0 164 (dk_at dksX3_worth_1 12 rfl rfl)
theorem dX3_worth_37 : decode cX3_worth 37 = .ok (.ifCond .ne 7, 3) := dk_154 0 7 (dk_at dksX3_worth_1 15 rfl rfl)
theorem dX3_worth_40 : decode cX3_worth 40 = .ok (.ldc_w 500, 3) := dk_19 1 244 (dk_at dksX3_worth_1 18 rfl rfl)
theorem dX3_worth_43 : decode cX3_worth 43 = .ok (.ireturn, 1) := dk_172 (dk_at dksX3_worth_1 21 rfl rfl)
theorem dX3_worth_44 : decode cX3_worth 44 = .ok (.aload_n 0, 1) := dk_42 (dk_at dksX3_worth_1 22 rfl rfl)
theorem dX3_worth_45 : decode cX3_worth 45 = .ok (.invokevirtual 491, 3) := dk_182 1 235 (dk_at dksX3_worth_2 0 rfl rfl)
theorem dX3_worth_48 : decode cX3_worth 48 = .ok (.aload_n 0, 1) := dk_42 (dk_at dksX3_worth_2 3 rfl rfl)
theorem dX3_worth_49 : decode cX3_worth 49 = .ok (.iload_n 1, 1) := dk_27 (dk_at dksX3_worth_2 4 rfl rfl)
theorem dX3_worth_50 : decode cX3_worth 50 = .ok (.iload_n 2, 1) := dk_28 (dk_at dksX3_worth_2 5 rfl rfl)
theorem dX3_worth_51 : decode cX3_worth 51 = .ok (.invokevirtual 448, 3) := dk_182 1 192 (dk_at dksX3_worth_2 6 rfl rfl)
theorem dX3_worth_54 : decode cX3_worth 54 = .ok (.aload_n 0, 1) := dk_42 (dk_at dksX3_worth_2 9 rfl rfl)
theorem dX3_worth_55 : decode cX3_worth 55 = .ok (.iload_n 3, 1) := dk_29 (dk_at dksX3_worth_2 10 rfl rfl)
theorem dX3_worth_56 : decode cX3_worth 56 = .ok (.invokevirtual 494, 3) := dk_182 1 238 (dk_at dksX3_worth_2 11 rfl rfl)
theorem dX3_worth_59 : decode cX3_worth 59 = .ok (.aload_n 0, 1) := dk_42 (dk_at dksX3_worth_2 14 rfl rfl)
theorem dX3_worth_60 : decode cX3_worth 60 = .ok (.invokevirtual 497, 3) := dk_182 1 241 (dk_at dksX3_worth_2 15 rfl rfl)
theorem dX3_worth_63 : decode cX3_worth 63 = .ok (.aload_n 0, 1) := dk_42 (dk_at dksX3_worth_2 18 rfl rfl)
theorem dX3_worth_64 : decode cX3_worth 64 = .ok (.getfield 127, 3) := dk_180 0 127 (dk_at dksX3_worth_2 19 rfl rfl)
theorem dX3_worth_67 : decode cX3_worth 67 = .ok (.iload_n 2, 1) := dk_28 (dk_at dksX3_worth_2 22 rfl rfl)
theorem dX3_worth_68 : decode cX3_worth 68 = .ok (.iaload, 1) := dk_46 (dk_at dksX3_worth_2 23 rfl rfl)
theorem dX3_worth_69 : decode cX3_worth 69 = .ok (.istore 4, 2) := dk_54 4 (dk_at dksX3_worth_3 0 rfl rfl)
theorem dX3_worth_71 : decode cX3_worth 71 = .ok (.aload_n 0, 1) := dk_42 (dk_at dksX3_worth_3 2 rfl rfl)
theorem dX3_worth_72 : decode cX3_worth 72 = .ok (.invokevirtual 491, 3) := dk_182 1 235 (dk_at dksX3_worth_3 3 rfl rfl)
theorem dX3_worth_75 : decode cX3_worth 75 = .ok (.aload_n 0, 1) := dk_42 (dk_at dksX3_worth_3 6 rfl rfl)
theorem dX3_worth_76 : decode cX3_worth 76 = .ok (.iload_n 3, 1) := dk_29 (dk_at dksX3_worth_3 7 rfl rfl)
theorem dX3_worth_77 : decode cX3_worth 77 = .ok (.invokevirtual 494, 3) := dk_182 1 238 (dk_at dksX3_worth_3 8 rfl rfl)
theorem dX3_worth_80 : decode cX3_worth 80 = .ok (.aload_n 0, 1) := dk_42 (dk_at dksX3_worth_3 11 rfl rfl)
theorem dX3_worth_81 : decode cX3_worth 81 = .ok (.invokevirtual 497, 3) := dk_182 1 241 (dk_at dksX3_worth_3 12 rfl rfl)
theorem dX3_worth_84 : decode cX3_worth 84 = .ok (.iload 4, 2) := dk_21 4 (dk_at dksX3_worth_3 15 rfl rfl)
theorem dX3_worth_86 : decode cX3_worth 86 = .ok (.aload_n 0, 1) := dk_42 (dk_at dksX3_worth_3 17 rfl rfl)
theorem dX3_worth_87 : decode cX3_worth 87 = .ok (.getfield 127, 3) := dk_180 0 127 (dk_at dksX3_worth_3 18 rfl rfl)
theorem dX3_worth_90 : decode cX3_worth 90 = .ok (.iload_n 2, 1) := dk_28 (dk_at dksX3_worth_3 21 rfl rfl)
theorem dX3_worth_91 : decode cX3_worth 91 = .ok (.iaload, 1) := dk_46 (dk_at dksX3_worth_3 22 rfl rfl)
theorem dX3_worth_92 : decode cX3_worth 92 = .ok (.isub, 1) := dk_100 (dk_at dksX3_worth_3 23 rfl rfl)
theorem dX3_worth_93 : decode cX3_worth 93 = .ok (.ireturn, 1) := dk_172 (dk_at dksX3_worth_4 0 rfl rfl)
abbrev cX3_least : ByteArray := prog_17_method_96_code
def yX3_least : MethodName := ⟨RX3, "least", "(IIII)I"⟩
def dkwX3_least_5 : List UInt8 := [159, 0, 9, 21, 4, 4, 160, 0, 8, 21, 5, 167, 0, 8, 21, 5, 184, 1, 250, 172]
abbrev dktX3_least_5 : List UInt8 := dkwX3_least_5 ++ []
def dkwX3_least_4 : List UInt8 := [21, 6, 29, 182, 1, 253, 153, 0, 7, 21, 6, 54, 5, 132, 6, 1, 167, 255, 205, 21, 5, 16, 254]
abbrev dktX3_least_4 : List UInt8 := dkwX3_least_4 ++ dktX3_least_5
def dkwX3_least_3 : List UInt8 := [21, 5, 16, 254, 159, 0, 16, 21, 6, 184, 1, 250, 21, 5, 184, 1, 250, 162, 0, 19, 42, 27, 28]
abbrev dktX3_least_3 : List UInt8 := dkwX3_least_3 ++ dktX3_least_4
def dkwX3_least_2 : List UInt8 := [172, 16, 254, 54, 5, 42, 182, 1, 235, 3, 54, 6, 21, 6, 4, 42, 28, 182, 1, 140, 120, 162, 0, 45]
abbrev dktX3_least_2 : List UInt8 := dkwX3_least_2 ++ dktX3_least_3
def dkwX3_least_1 : List UInt8 := [29, 133, 9, 20, 1, 248, 184, 0, 164, 153, 0, 14, 21, 4, 133, 9, 10, 184, 0, 164, 154, 0, 5, 2]
abbrev dktX3_least_1 : List UInt8 := dkwX3_least_1 ++ dktX3_least_2
def dkwX3_least_0 : List UInt8 := [42, 27, 182, 1, 167, 153, 0, 42, 42, 28, 182, 1, 161, 153, 0, 34, 42, 28, 182, 1, 80, 154, 0, 26]
abbrev dktX3_least_0 : List UInt8 := dkwX3_least_0 ++ dktX3_least_1
theorem dksX3_least_0 : cX3_least.data.toList.drop 0 = dktX3_least_0 := by decide +kernel
theorem dksX3_least_1 : cX3_least.data.toList.drop 24 = dktX3_least_1 := dk_seg dksX3_least_0 24 rfl rfl
theorem dksX3_least_2 : cX3_least.data.toList.drop 48 = dktX3_least_2 := dk_seg dksX3_least_1 24 rfl rfl
theorem dksX3_least_3 : cX3_least.data.toList.drop 72 = dktX3_least_3 := dk_seg dksX3_least_2 24 rfl rfl
theorem dksX3_least_4 : cX3_least.data.toList.drop 95 = dktX3_least_4 := dk_seg dksX3_least_3 23 rfl rfl
theorem dksX3_least_5 : cX3_least.data.toList.drop 118 = dktX3_least_5 := dk_seg dksX3_least_4 23 rfl rfl
theorem dX3_least_0 : decode cX3_least 0 = .ok (.aload_n 0, 1) := dk_42 (dk_at dksX3_least_0 0 rfl rfl)
theorem dX3_least_1 : decode cX3_least 1 = .ok (.iload_n 1, 1) := dk_27 (dk_at dksX3_least_0 1 rfl rfl)
theorem dX3_least_2 : decode cX3_least 2 = .ok (.invokevirtual 423, 3) := dk_182 1 167 (dk_at dksX3_least_0 2 rfl rfl)
theorem dX3_least_5 : decode cX3_least 5 = .ok (.ifCond .eq 42, 3) := dk_153 0 42 (dk_at dksX3_least_0 5 rfl rfl)
theorem dX3_least_8 : decode cX3_least 8 = .ok (.aload_n 0, 1) := dk_42 (dk_at dksX3_least_0 8 rfl rfl)
theorem dX3_least_9 : decode cX3_least 9 = .ok (.iload_n 2, 1) := dk_28 (dk_at dksX3_least_0 9 rfl rfl)
theorem dX3_least_10 : decode cX3_least 10 = .ok (.invokevirtual 417, 3) := dk_182 1 161 (dk_at dksX3_least_0 10 rfl rfl)
theorem dX3_least_13 : decode cX3_least 13 = .ok (.ifCond .eq 34, 3) := dk_153 0 34 (dk_at dksX3_least_0 13 rfl rfl)
theorem dX3_least_16 : decode cX3_least 16 = .ok (.aload_n 0, 1) := dk_42 (dk_at dksX3_least_0 16 rfl rfl)
theorem dX3_least_17 : decode cX3_least 17 = .ok (.iload_n 2, 1) := dk_28 (dk_at dksX3_least_0 17 rfl rfl)
theorem dX3_least_18 : decode cX3_least 18 = .ok (.invokevirtual 336, 3) := dk_182 1 80 (dk_at dksX3_least_0 18 rfl rfl)
theorem dX3_least_21 : decode cX3_least 21 = .ok (.ifCond .ne 26, 3) := dk_154 0 26 (dk_at dksX3_least_0 21 rfl rfl)
theorem dX3_least_24 : decode cX3_least 24 = .ok (.iload_n 3, 1) := dk_29 (dk_at dksX3_least_1 0 rfl rfl)
theorem dX3_least_25 : decode cX3_least 25 = .ok (.i2l, 1) := dk_133 (dk_at dksX3_least_1 1 rfl rfl)
theorem dX3_least_26 : decode cX3_least 26 = .ok (.lconst 0, 1) := dk_9 (dk_at dksX3_least_1 2 rfl rfl)
theorem dX3_least_27 : decode cX3_least 27 = .ok (.ldc2_w 504, 3) := dk_20 1 248 (dk_at dksX3_least_1 3 rfl rfl)
theorem dX3_least_30 : decode cX3_least 30 = .ok (.invokestatic 164, 3) := dk_184 0 164 (dk_at dksX3_least_1 6 rfl rfl)
theorem dX3_least_33 : decode cX3_least 33 = .ok (.ifCond .eq 14, 3) := dk_153 0 14 (dk_at dksX3_least_1 9 rfl rfl)
theorem dX3_least_36 : decode cX3_least 36 = .ok (.iload 4, 2) := dk_21 4 (dk_at dksX3_least_1 12 rfl rfl)
theorem dX3_least_38 : decode cX3_least 38 = .ok (.i2l, 1) := dk_133 (dk_at dksX3_least_1 14 rfl rfl)
theorem dX3_least_39 : decode cX3_least 39 = .ok (.lconst 0, 1) := dk_9 (dk_at dksX3_least_1 15 rfl rfl)
theorem dX3_least_40 : decode cX3_least 40 = .ok (.lconst 1, 1) := dk_10 (dk_at dksX3_least_1 16 rfl rfl)
theorem dX3_least_41 : decode cX3_least 41 = .ok (.invokestatic 164, 3) := dk_184 0 164 (dk_at dksX3_least_1 17 rfl rfl)
theorem dX3_least_44 : decode cX3_least 44 = .ok (.ifCond .ne 5, 3) := dk_154 0 5 (dk_at dksX3_least_1 20 rfl rfl)
theorem dX3_least_47 : decode cX3_least 47 = .ok (.iconst (-1), 1) := dk_2 (dk_at dksX3_least_1 23 rfl rfl)
theorem dX3_least_48 : decode cX3_least 48 = .ok (.ireturn, 1) := dk_172 (dk_at dksX3_least_2 0 rfl rfl)
theorem dX3_least_49 : decode cX3_least 49 = .ok (.bipush (-2), 2) := dk_16 254 (dk_at dksX3_least_2 1 rfl rfl)
theorem dX3_least_51 : decode cX3_least 51 = .ok (.istore 5, 2) := dk_54 5 (dk_at dksX3_least_2 3 rfl rfl)
theorem dX3_least_53 : decode cX3_least 53 = .ok (.aload_n 0, 1) := dk_42 (dk_at dksX3_least_2 5 rfl rfl)
theorem dX3_least_54 : decode cX3_least 54 = .ok (.invokevirtual 491, 3) := dk_182 1 235 (dk_at dksX3_least_2 6 rfl rfl)
theorem dX3_least_57 : decode cX3_least 57 = .ok (.iconst 0, 1) := dk_3 (dk_at dksX3_least_2 9 rfl rfl)
theorem dX3_least_58 : decode cX3_least 58 = .ok (.istore 6, 2) := dk_54 6 (dk_at dksX3_least_2 10 rfl rfl)
theorem dX3_least_60 : decode cX3_least 60 = .ok (.iload 6, 2) := dk_21 6 (dk_at dksX3_least_2 12 rfl rfl)
theorem dX3_least_62 : decode cX3_least 62 = .ok (.iconst 1, 1) := dk_4 (dk_at dksX3_least_2 14 rfl rfl)
theorem dX3_least_63 : decode cX3_least 63 = .ok (.aload_n 0, 1) := dk_42 (dk_at dksX3_least_2 15 rfl rfl)
theorem dX3_least_64 : decode cX3_least 64 = .ok (.iload_n 2, 1) := dk_28 (dk_at dksX3_least_2 16 rfl rfl)
theorem dX3_least_65 : decode cX3_least 65 = .ok (.invokevirtual 396, 3) := dk_182 1 140 (dk_at dksX3_least_2 17 rfl rfl)
theorem dX3_least_68 : decode cX3_least 68 = .ok (.ishl, 1) := dk_120 (dk_at dksX3_least_2 20 rfl rfl)
theorem dX3_least_69 : decode cX3_least 69 = .ok (.if_icmp .ge 45, 3) := dk_162 0 45 (dk_at dksX3_least_2 21 rfl rfl)
theorem dX3_least_72 : decode cX3_least 72 = .ok (.iload 5, 2) := dk_21 5 (dk_at dksX3_least_3 0 rfl rfl)
theorem dX3_least_74 : decode cX3_least 74 = .ok (.bipush (-2), 2) := dk_16 254 (dk_at dksX3_least_3 2 rfl rfl)
theorem dX3_least_76 : decode cX3_least 76 = .ok (.if_icmp .eq 16, 3) := dk_159 0 16 (dk_at dksX3_least_3 4 rfl rfl)
theorem dX3_least_79 : decode cX3_least 79 = .ok (.iload 6, 2) := dk_21 6 (dk_at dksX3_least_3 7 rfl rfl)
theorem dX3_least_81 : decode cX3_least 81 = .ok (.invokestatic 506, 3) := dk_184 1 250 (dk_at dksX3_least_3 9 rfl rfl)
theorem dX3_least_84 : decode cX3_least 84 = .ok (.iload 5, 2) := dk_21 5 (dk_at dksX3_least_3 12 rfl rfl)
theorem dX3_least_86 : decode cX3_least 86 = .ok (.invokestatic 506, 3) := dk_184 1 250 (dk_at dksX3_least_3 14 rfl rfl)
theorem dX3_least_89 : decode cX3_least 89 = .ok (.if_icmp .ge 19, 3) := dk_162 0 19 (dk_at dksX3_least_3 17 rfl rfl)
theorem dX3_least_92 : decode cX3_least 92 = .ok (.aload_n 0, 1) := dk_42 (dk_at dksX3_least_3 20 rfl rfl)
theorem dX3_least_93 : decode cX3_least 93 = .ok (.iload_n 1, 1) := dk_27 (dk_at dksX3_least_3 21 rfl rfl)
theorem dX3_least_94 : decode cX3_least 94 = .ok (.iload_n 2, 1) := dk_28 (dk_at dksX3_least_3 22 rfl rfl)
theorem dX3_least_95 : decode cX3_least 95 = .ok (.iload 6, 2) := dk_21 6 (dk_at dksX3_least_4 0 rfl rfl)
theorem dX3_least_97 : decode cX3_least 97 = .ok (.iload_n 3, 1) := dk_29 (dk_at dksX3_least_4 2 rfl rfl)
theorem dX3_least_98 : decode cX3_least 98 = .ok (.invokevirtual 509, 3) := dk_182 1 253 (dk_at dksX3_least_4 3 rfl rfl)
theorem dX3_least_101 : decode cX3_least 101 = .ok (.ifCond .eq 7, 3) := dk_153 0 7 (dk_at dksX3_least_4 6 rfl rfl)
theorem dX3_least_104 : decode cX3_least 104 = .ok (.iload 6, 2) := dk_21 6 (dk_at dksX3_least_4 9 rfl rfl)
theorem dX3_least_106 : decode cX3_least 106 = .ok (.istore 5, 2) := dk_54 5 (dk_at dksX3_least_4 11 rfl rfl)
theorem dX3_least_108 : decode cX3_least 108 = .ok (.iinc 6 1, 3) := dk_132 6 1 (dk_at dksX3_least_4 13 rfl rfl)
theorem dX3_least_111 : decode cX3_least 111 = .ok (.goto (-51), 3) := dk_167 255 205 (dk_at dksX3_least_4 16 rfl rfl)
theorem dX3_least_114 : decode cX3_least 114 = .ok (.iload 5, 2) := dk_21 5 (dk_at dksX3_least_4 19 rfl rfl)
theorem dX3_least_116 : decode cX3_least 116 = .ok (.bipush (-2), 2) := dk_16 254 (dk_at dksX3_least_4 21 rfl rfl)
theorem dX3_least_118 : decode cX3_least 118 = .ok (.if_icmp .eq 9, 3) := dk_159 0 9 (dk_at dksX3_least_5 0 rfl rfl)
theorem dX3_least_121 : decode cX3_least 121 = .ok (.iload 4, 2) := dk_21 4 (dk_at dksX3_least_5 3 rfl rfl)
theorem dX3_least_123 : decode cX3_least 123 = .ok (.iconst 1, 1) := dk_4 (dk_at dksX3_least_5 5 rfl rfl)
theorem dX3_least_124 : decode cX3_least 124 = .ok (.if_icmp .ne 8, 3) := dk_160 0 8 (dk_at dksX3_least_5 6 rfl rfl)
theorem dX3_least_127 : decode cX3_least 127 = .ok (.iload 5, 2) := dk_21 5 (dk_at dksX3_least_5 9 rfl rfl)
theorem dX3_least_129 : decode cX3_least 129 = .ok (.goto 8, 3) := dk_167 0 8 (dk_at dksX3_least_5 11 rfl rfl)
theorem dX3_least_132 : decode cX3_least 132 = .ok (.iload 5, 2) := dk_21 5 (dk_at dksX3_least_5 14 rfl rfl)
theorem dX3_least_134 : decode cX3_least 134 = .ok (.invokestatic 506, 3) := dk_184 1 250 (dk_at dksX3_least_5 16 rfl rfl)
theorem dX3_least_137 : decode cX3_least 137 = .ok (.ireturn, 1) := dk_172 (dk_at dksX3_least_5 19 rfl rfl)
abbrev cX3_bits : ByteArray := prog_17_method_4_code
def yX3_bits : MethodName := ⟨RX3, "bits", "(I)I"⟩
def dkwX3_bits_1 : List UInt8 := [27, 172]
abbrev dktX3_bits_1 : List UInt8 := dkwX3_bits_1 ++ []
def dkwX3_bits_0 : List UInt8 := [3, 60, 3, 61, 28, 16, 16, 162, 0, 17, 27, 26, 28, 122, 4, 126, 96, 60, 132, 2, 1, 167, 255, 239]
abbrev dktX3_bits_0 : List UInt8 := dkwX3_bits_0 ++ dktX3_bits_1
theorem dksX3_bits_0 : cX3_bits.data.toList.drop 0 = dktX3_bits_0 := by decide +kernel
theorem dksX3_bits_1 : cX3_bits.data.toList.drop 24 = dktX3_bits_1 := dk_seg dksX3_bits_0 24 rfl rfl
theorem dX3_bits_0 : decode cX3_bits 0 = .ok (.iconst 0, 1) := dk_3 (dk_at dksX3_bits_0 0 rfl rfl)
theorem dX3_bits_1 : decode cX3_bits 1 = .ok (.istore_n 1, 1) := dk_60 (dk_at dksX3_bits_0 1 rfl rfl)
theorem dX3_bits_2 : decode cX3_bits 2 = .ok (.iconst 0, 1) := dk_3 (dk_at dksX3_bits_0 2 rfl rfl)
theorem dX3_bits_3 : decode cX3_bits 3 = .ok (.istore_n 2, 1) := dk_61 (dk_at dksX3_bits_0 3 rfl rfl)
theorem dX3_bits_4 : decode cX3_bits 4 = .ok (.iload_n 2, 1) := dk_28 (dk_at dksX3_bits_0 4 rfl rfl)
theorem dX3_bits_5 : decode cX3_bits 5 = .ok (.bipush 16, 2) := dk_16 16 (dk_at dksX3_bits_0 5 rfl rfl)
theorem dX3_bits_7 : decode cX3_bits 7 = .ok (.if_icmp .ge 17, 3) := dk_162 0 17 (dk_at dksX3_bits_0 7 rfl rfl)
theorem dX3_bits_10 : decode cX3_bits 10 = .ok (.iload_n 1, 1) := dk_27 (dk_at dksX3_bits_0 10 rfl rfl)
theorem dX3_bits_11 : decode cX3_bits 11 = .ok (.iload_n 0, 1) := dk_26 (dk_at dksX3_bits_0 11 rfl rfl)
theorem dX3_bits_12 : decode cX3_bits 12 = .ok (.iload_n 2, 1) := dk_28 (dk_at dksX3_bits_0 12 rfl rfl)
theorem dX3_bits_13 : decode cX3_bits 13 = .ok (.ishr, 1) := dk_122 (dk_at dksX3_bits_0 13 rfl rfl)
theorem dX3_bits_14 : decode cX3_bits 14 = .ok (.iconst 1, 1) := dk_4 (dk_at dksX3_bits_0 14 rfl rfl)
theorem dX3_bits_15 : decode cX3_bits 15 = .ok (.iand, 1) := dk_126 (dk_at dksX3_bits_0 15 rfl rfl)
theorem dX3_bits_16 : decode cX3_bits 16 = .ok (.iadd, 1) := dk_96 (dk_at dksX3_bits_0 16 rfl rfl)
theorem dX3_bits_17 : decode cX3_bits 17 = .ok (.istore_n 1, 1) := dk_60 (dk_at dksX3_bits_0 17 rfl rfl)
theorem dX3_bits_18 : decode cX3_bits 18 = .ok (.iinc 2 1, 3) := dk_132 2 1 (dk_at dksX3_bits_0 18 rfl rfl)
theorem dX3_bits_21 : decode cX3_bits 21 = .ok (.goto (-17), 3) := dk_167 255 239 (dk_at dksX3_bits_0 21 rfl rfl)
theorem dX3_bits_24 : decode cX3_bits 24 = .ok (.iload_n 1, 1) := dk_27 (dk_at dksX3_bits_1 0 rfl rfl)
theorem dX3_bits_25 : decode cX3_bits 25 = .ok (.ireturn, 1) := dk_172 (dk_at dksX3_bits_1 1 rfl rfl)
abbrev cX3_isTheirsBehind : ByteArray := prog_17_method_95_code
def yX3_isTheirsBehind : MethodName := ⟨RX3, "isTheirsBehind", "(IIII)Z"⟩
def dkwX3_isTheirsBehind_2 : List UInt8 := [42, 28, 182, 1, 164, 27, 160, 0, 7, 4, 167, 0, 4, 3, 54, 5, 42, 182, 1, 241, 21, 5, 172]
abbrev dktX3_isTheirsBehind_2 : List UInt8 := dkwX3_isTheirsBehind_2 ++ []
def dkwX3_isTheirsBehind_1 : List UInt8 := [180, 0, 13, 28, 46, 21, 5, 96, 27, 182, 1, 192, 132, 5, 1, 167, 255, 220, 42, 21, 4, 182, 1, 245]
abbrev dktX3_isTheirsBehind_1 : List UInt8 := dkwX3_isTheirsBehind_1 ++ dktX3_isTheirsBehind_2
def dkwX3_isTheirsBehind_0 : List UInt8 := [3, 54, 5, 21, 5, 42, 28, 182, 1, 140, 162, 0, 32, 29, 21, 5, 184, 1, 126, 153, 0, 17, 42, 42]
abbrev dktX3_isTheirsBehind_0 : List UInt8 := dkwX3_isTheirsBehind_0 ++ dktX3_isTheirsBehind_1
theorem dksX3_isTheirsBehind_0 : cX3_isTheirsBehind.data.toList.drop 0 = dktX3_isTheirsBehind_0 := by decide +kernel
theorem dksX3_isTheirsBehind_1 : cX3_isTheirsBehind.data.toList.drop 24 = dktX3_isTheirsBehind_1 := dk_seg dksX3_isTheirsBehind_0 24 rfl rfl
theorem dksX3_isTheirsBehind_2 : cX3_isTheirsBehind.data.toList.drop 48 = dktX3_isTheirsBehind_2 := dk_seg dksX3_isTheirsBehind_1 24 rfl rfl
theorem dX3_isTheirsBehind_0 : decode cX3_isTheirsBehind 0 = .ok (.iconst 0, 1) := dk_3 (dk_at dksX3_isTheirsBehind_0 0 rfl rfl)
theorem dX3_isTheirsBehind_1 : decode cX3_isTheirsBehind 1 = .ok (.istore 5, 2) := dk_54 5 (dk_at dksX3_isTheirsBehind_0 1 rfl rfl)
theorem dX3_isTheirsBehind_3 : decode cX3_isTheirsBehind 3 = .ok (.iload 5, 2) := dk_21 5 (dk_at dksX3_isTheirsBehind_0 3 rfl rfl)
theorem dX3_isTheirsBehind_5 : decode cX3_isTheirsBehind 5 = .ok (.aload_n 0, 1) := dk_42 (dk_at dksX3_isTheirsBehind_0 5 rfl rfl)
theorem dX3_isTheirsBehind_6 : decode cX3_isTheirsBehind 6 = .ok (.iload_n 2, 1) := dk_28 (dk_at dksX3_isTheirsBehind_0 6 rfl rfl)
theorem dX3_isTheirsBehind_7 : decode cX3_isTheirsBehind 7 = .ok (.invokevirtual 396, 3) := dk_182 1 140 (dk_at dksX3_isTheirsBehind_0 7 rfl rfl)
theorem dX3_isTheirsBehind_10 : decode cX3_isTheirsBehind 10 = .ok (.if_icmp .ge 32, 3) := dk_162 0 32 (dk_at dksX3_isTheirsBehind_0 10 rfl rfl)
theorem dX3_isTheirsBehind_13 : decode cX3_isTheirsBehind 13 = .ok (.iload_n 3, 1) := dk_29 (dk_at dksX3_isTheirsBehind_0 13 rfl rfl)
theorem dX3_isTheirsBehind_14 : decode cX3_isTheirsBehind 14 = .ok (.iload 5, 2) := dk_21 5 (dk_at dksX3_isTheirsBehind_0 14 rfl rfl)
theorem dX3_isTheirsBehind_16 : decode cX3_isTheirsBehind 16 = .ok (.invokestatic 382, 3) := dk_184 1 126 (dk_at dksX3_isTheirsBehind_0 16 rfl rfl)
theorem dX3_isTheirsBehind_19 : decode cX3_isTheirsBehind 19 = .ok (.ifCond .eq 17, 3) := dk_153 0 17 (dk_at dksX3_isTheirsBehind_0 19 rfl rfl)
theorem dX3_isTheirsBehind_22 : decode cX3_isTheirsBehind 22 = .ok (.aload_n 0, 1) := dk_42 (dk_at dksX3_isTheirsBehind_0 22 rfl rfl)
theorem dX3_isTheirsBehind_23 : decode cX3_isTheirsBehind 23 = .ok (.aload_n 0, 1) := dk_42 (dk_at dksX3_isTheirsBehind_0 23 rfl rfl)
theorem dX3_isTheirsBehind_24 : decode cX3_isTheirsBehind 24 = .ok (.getfield 13, 3) := dk_180 0 13 (dk_at dksX3_isTheirsBehind_1 0 rfl rfl)
theorem dX3_isTheirsBehind_27 : decode cX3_isTheirsBehind 27 = .ok (.iload_n 2, 1) := dk_28 (dk_at dksX3_isTheirsBehind_1 3 rfl rfl)
theorem dX3_isTheirsBehind_28 : decode cX3_isTheirsBehind 28 = .ok (.iaload, 1) := dk_46 (dk_at dksX3_isTheirsBehind_1 4 rfl rfl)
theorem dX3_isTheirsBehind_29 : decode cX3_isTheirsBehind 29 = .ok (.iload 5, 2) := dk_21 5 (dk_at dksX3_isTheirsBehind_1 5 rfl rfl)
theorem dX3_isTheirsBehind_31 : decode cX3_isTheirsBehind 31 = .ok (.iadd, 1) := dk_96 (dk_at dksX3_isTheirsBehind_1 7 rfl rfl)
theorem dX3_isTheirsBehind_32 : decode cX3_isTheirsBehind 32 = .ok (.iload_n 1, 1) := dk_27 (dk_at dksX3_isTheirsBehind_1 8 rfl rfl)
theorem dX3_isTheirsBehind_33 : decode cX3_isTheirsBehind 33 = .ok (.invokevirtual 448, 3) := dk_182 1 192 (dk_at dksX3_isTheirsBehind_1 9 rfl rfl)
theorem dX3_isTheirsBehind_36 : decode cX3_isTheirsBehind 36 = .ok (.iinc 5 1, 3) := dk_132 5 1 (dk_at dksX3_isTheirsBehind_1 12 rfl rfl)
theorem dX3_isTheirsBehind_39 : decode cX3_isTheirsBehind 39 = .ok (.goto (-36), 3) := dk_167 255 220 (dk_at dksX3_isTheirsBehind_1 15 rfl rfl)
theorem dX3_isTheirsBehind_42 : decode cX3_isTheirsBehind 42 = .ok (.aload_n 0, 1) := dk_42 (dk_at dksX3_isTheirsBehind_1 18 rfl rfl)
theorem dX3_isTheirsBehind_43 : decode cX3_isTheirsBehind 43 = .ok (.iload 4, 2) := dk_21 4 (dk_at dksX3_isTheirsBehind_1 19 rfl rfl)
theorem dX3_isTheirsBehind_45 : decode cX3_isTheirsBehind 45 = .ok (.invokevirtual 501, 3) := dk_182 1 245 (dk_at dksX3_isTheirsBehind_1 21 rfl rfl)
theorem dX3_isTheirsBehind_48 : decode cX3_isTheirsBehind 48 = .ok (.aload_n 0, 1) := dk_42 (dk_at dksX3_isTheirsBehind_2 0 rfl rfl)
theorem dX3_isTheirsBehind_49 : decode cX3_isTheirsBehind 49 = .ok (.iload_n 2, 1) := dk_28 (dk_at dksX3_isTheirsBehind_2 1 rfl rfl)
theorem dX3_isTheirsBehind_50 : decode cX3_isTheirsBehind 50 = .ok (.invokevirtual 420, 3) := dk_182 1 164 (dk_at dksX3_isTheirsBehind_2 2 rfl rfl)
theorem dX3_isTheirsBehind_53 : decode cX3_isTheirsBehind 53 = .ok (.iload_n 1, 1) := dk_27 (dk_at dksX3_isTheirsBehind_2 5 rfl rfl)
theorem dX3_isTheirsBehind_54 : decode cX3_isTheirsBehind 54 = .ok (.if_icmp .ne 7, 3) := dk_160 0 7 (dk_at dksX3_isTheirsBehind_2 6 rfl rfl)
theorem dX3_isTheirsBehind_57 : decode cX3_isTheirsBehind 57 = .ok (.iconst 1, 1) := dk_4 (dk_at dksX3_isTheirsBehind_2 9 rfl rfl)
theorem dX3_isTheirsBehind_58 : decode cX3_isTheirsBehind 58 = .ok (.goto 4, 3) := dk_167 0 4 (dk_at dksX3_isTheirsBehind_2 10 rfl rfl)
theorem dX3_isTheirsBehind_61 : decode cX3_isTheirsBehind 61 = .ok (.iconst 0, 1) := dk_3 (dk_at dksX3_isTheirsBehind_2 13 rfl rfl)
theorem dX3_isTheirsBehind_62 : decode cX3_isTheirsBehind 62 = .ok (.istore 5, 2) := dk_54 5 (dk_at dksX3_isTheirsBehind_2 14 rfl rfl)
theorem dX3_isTheirsBehind_64 : decode cX3_isTheirsBehind 64 = .ok (.aload_n 0, 1) := dk_42 (dk_at dksX3_isTheirsBehind_2 16 rfl rfl)
theorem dX3_isTheirsBehind_65 : decode cX3_isTheirsBehind 65 = .ok (.invokevirtual 497, 3) := dk_182 1 241 (dk_at dksX3_isTheirsBehind_2 17 rfl rfl)
theorem dX3_isTheirsBehind_68 : decode cX3_isTheirsBehind 68 = .ok (.iload 5, 2) := dk_21 5 (dk_at dksX3_isTheirsBehind_2 20 rfl rfl)
theorem dX3_isTheirsBehind_70 : decode cX3_isTheirsBehind 70 = .ok (.ireturn, 1) := dk_172 (dk_at dksX3_isTheirsBehind_2 22 rfl rfl)
abbrev cX3_idles : ByteArray := prog_17_method_94_code
def yX3_idles : MethodName := ⟨RX3, "idles", "(I)V"⟩
def dkwX3_idles_0 : List UInt8 := [3, 61, 28, 27, 162, 0, 13, 42, 182, 1, 201, 132, 2, 1, 167, 255, 244, 177]
abbrev dktX3_idles_0 : List UInt8 := dkwX3_idles_0 ++ []
theorem dksX3_idles_0 : cX3_idles.data.toList.drop 0 = dktX3_idles_0 := by decide +kernel
theorem dX3_idles_0 : decode cX3_idles 0 = .ok (.iconst 0, 1) := dk_3 (dk_at dksX3_idles_0 0 rfl rfl)
theorem dX3_idles_1 : decode cX3_idles 1 = .ok (.istore_n 2, 1) := dk_61 (dk_at dksX3_idles_0 1 rfl rfl)
theorem dX3_idles_2 : decode cX3_idles 2 = .ok (.iload_n 2, 1) := dk_28 (dk_at dksX3_idles_0 2 rfl rfl)
theorem dX3_idles_3 : decode cX3_idles 3 = .ok (.iload_n 1, 1) := dk_27 (dk_at dksX3_idles_0 3 rfl rfl)
theorem dX3_idles_4 : decode cX3_idles 4 = .ok (.if_icmp .ge 13, 3) := dk_162 0 13 (dk_at dksX3_idles_0 4 rfl rfl)
theorem dX3_idles_7 : decode cX3_idles 7 = .ok (.aload_n 0, 1) := dk_42 (dk_at dksX3_idles_0 7 rfl rfl)
theorem dX3_idles_8 : decode cX3_idles 8 = .ok (.invokevirtual 457, 3) := dk_182 1 201 (dk_at dksX3_idles_0 8 rfl rfl)
theorem dX3_idles_11 : decode cX3_idles 11 = .ok (.iinc 2 1, 3) := dk_132 2 1 (dk_at dksX3_idles_0 11 rfl rfl)
theorem dX3_idles_14 : decode cX3_idles 14 = .ok (.goto (-12), 3) := dk_167 255 244 (dk_at dksX3_idles_0 14 rfl rfl)
theorem dX3_idles_17 : decode cX3_idles 17 = .ok (.return_, 1) := dk_177 (dk_at dksX3_idles_0 17 rfl rfl)
abbrev cX3_fewest : ByteArray := prog_17_method_100_code
def yX3_fewest : MethodName := ⟨RX3, "fewest", "(III)I"⟩
def dkwX3_fewest_7 : List UInt8 := [167, 0, 5, 16, 254, 172]
abbrev dktX3_fewest_7 : List UInt8 := dkwX3_fewest_7 ++ []
def dkwX3_fewest_6 : List UInt8 := [154, 0, 6, 21, 4, 172, 29, 42, 28, 182, 1, 140, 163, 0, 14, 42, 180, 0, 139, 29, 4, 100, 46]
abbrev dktX3_fewest_6 : List UInt8 := dkwX3_fewest_6 ++ dktX3_fewest_7
def dkwX3_fewest_5 : List UInt8 := [180, 0, 139, 184, 1, 76, 42, 28, 182, 2, 9, 54, 5, 167, 255, 200, 21, 4, 16, 254, 159, 0, 7, 29]
abbrev dktX3_fewest_5 : List UInt8 := dkwX3_fewest_5 ++ dktX3_fewest_6
def dkwX3_fewest_4 : List UInt8 := [21, 4, 162, 0, 27, 42, 27, 28, 182, 2, 6, 153, 0, 18, 21, 6, 54, 4, 42, 180, 0, 136, 42]
abbrev dktX3_fewest_4 : List UInt8 := dkwX3_fewest_4 ++ dktX3_fewest_5
def dkwX3_fewest_3 : List UInt8 := [3, 54, 5, 21, 5, 153, 0, 57, 42, 182, 2, 3, 54, 6, 21, 4, 16, 254, 159, 0, 10, 21, 6]
abbrev dktX3_fewest_3 : List UInt8 := dkwX3_fewest_3 ++ dktX3_fewest_4
def dkwX3_fewest_2 : List UInt8 := [3, 79, 132, 4, 1, 167, 255, 238, 16, 254, 54, 4, 42, 28, 182, 1, 80, 154, 0, 7, 4, 167, 0, 4]
abbrev dktX3_fewest_2 : List UInt8 := dkwX3_fewest_2 ++ dktX3_fewest_3
def dkwX3_fewest_1 : List UInt8 := [184, 0, 164, 154, 0, 5, 2, 172, 3, 54, 4, 21, 4, 16, 6, 162, 0, 17, 42, 180, 0, 136, 21, 4]
abbrev dktX3_fewest_1 : List UInt8 := dkwX3_fewest_1 ++ dktX3_fewest_2
def dkwX3_fewest_0 : List UInt8 := [42, 27, 182, 1, 167, 153, 0, 23, 42, 28, 182, 1, 161, 153, 0, 15, 29, 133, 9, 20, 2, 1]
abbrev dktX3_fewest_0 : List UInt8 := dkwX3_fewest_0 ++ dktX3_fewest_1
theorem dksX3_fewest_0 : cX3_fewest.data.toList.drop 0 = dktX3_fewest_0 := by decide +kernel
theorem dksX3_fewest_1 : cX3_fewest.data.toList.drop 22 = dktX3_fewest_1 := dk_seg dksX3_fewest_0 22 rfl rfl
theorem dksX3_fewest_2 : cX3_fewest.data.toList.drop 46 = dktX3_fewest_2 := dk_seg dksX3_fewest_1 24 rfl rfl
theorem dksX3_fewest_3 : cX3_fewest.data.toList.drop 70 = dktX3_fewest_3 := dk_seg dksX3_fewest_2 24 rfl rfl
theorem dksX3_fewest_4 : cX3_fewest.data.toList.drop 93 = dktX3_fewest_4 := dk_seg dksX3_fewest_3 23 rfl rfl
theorem dksX3_fewest_5 : cX3_fewest.data.toList.drop 116 = dktX3_fewest_5 := dk_seg dksX3_fewest_4 23 rfl rfl
theorem dksX3_fewest_6 : cX3_fewest.data.toList.drop 140 = dktX3_fewest_6 := dk_seg dksX3_fewest_5 24 rfl rfl
theorem dksX3_fewest_7 : cX3_fewest.data.toList.drop 163 = dktX3_fewest_7 := dk_seg dksX3_fewest_6 23 rfl rfl
theorem dX3_fewest_0 : decode cX3_fewest 0 = .ok (.aload_n 0, 1) := dk_42 (dk_at dksX3_fewest_0 0 rfl rfl)
theorem dX3_fewest_1 : decode cX3_fewest 1 = .ok (.iload_n 1, 1) := dk_27 (dk_at dksX3_fewest_0 1 rfl rfl)
theorem dX3_fewest_2 : decode cX3_fewest 2 = .ok (.invokevirtual 423, 3) := dk_182 1 167 (dk_at dksX3_fewest_0 2 rfl rfl)
theorem dX3_fewest_5 : decode cX3_fewest 5 = .ok (.ifCond .eq 23, 3) := dk_153 0 23 (dk_at dksX3_fewest_0 5 rfl rfl)
theorem dX3_fewest_8 : decode cX3_fewest 8 = .ok (.aload_n 0, 1) := dk_42 (dk_at dksX3_fewest_0 8 rfl rfl)
theorem dX3_fewest_9 : decode cX3_fewest 9 = .ok (.iload_n 2, 1) := dk_28 (dk_at dksX3_fewest_0 9 rfl rfl)
theorem dX3_fewest_10 : decode cX3_fewest 10 = .ok (.invokevirtual 417, 3) := dk_182 1 161 (dk_at dksX3_fewest_0 10 rfl rfl)
theorem dX3_fewest_13 : decode cX3_fewest 13 = .ok (.ifCond .eq 15, 3) := dk_153 0 15 (dk_at dksX3_fewest_0 13 rfl rfl)
theorem dX3_fewest_16 : decode cX3_fewest 16 = .ok (.iload_n 3, 1) := dk_29 (dk_at dksX3_fewest_0 16 rfl rfl)
theorem dX3_fewest_17 : decode cX3_fewest 17 = .ok (.i2l, 1) := dk_133 (dk_at dksX3_fewest_0 17 rfl rfl)
theorem dX3_fewest_18 : decode cX3_fewest 18 = .ok (.lconst 0, 1) := dk_9 (dk_at dksX3_fewest_0 18 rfl rfl)
theorem dX3_fewest_19 : decode cX3_fewest 19 = .ok (.ldc2_w 513, 3) := dk_20 2 1 (dk_at dksX3_fewest_0 19 rfl rfl)
theorem dX3_fewest_22 : decode cX3_fewest 22 = .ok (.invokestatic 164, 3) := dk_184 0 164 (dk_at dksX3_fewest_1 0 rfl rfl)
theorem dX3_fewest_25 : decode cX3_fewest 25 = .ok (.ifCond .ne 5, 3) := dk_154 0 5 (dk_at dksX3_fewest_1 3 rfl rfl)
theorem dX3_fewest_28 : decode cX3_fewest 28 = .ok (.iconst (-1), 1) := dk_2 (dk_at dksX3_fewest_1 6 rfl rfl)
theorem dX3_fewest_29 : decode cX3_fewest 29 = .ok (.ireturn, 1) := dk_172 (dk_at dksX3_fewest_1 7 rfl rfl)
theorem dX3_fewest_30 : decode cX3_fewest 30 = .ok (.iconst 0, 1) := dk_3 (dk_at dksX3_fewest_1 8 rfl rfl)
theorem dX3_fewest_31 : decode cX3_fewest 31 = .ok (.istore 4, 2) := dk_54 4 (dk_at dksX3_fewest_1 9 rfl rfl)
theorem dX3_fewest_33 : decode cX3_fewest 33 = .ok (.iload 4, 2) := dk_21 4 (dk_at dksX3_fewest_1 11 rfl rfl)
theorem dX3_fewest_35 : decode cX3_fewest 35 = .ok (.bipush 6, 2) := dk_16 6 (dk_at dksX3_fewest_1 13 rfl rfl)
theorem dX3_fewest_37 : decode cX3_fewest 37 = .ok (.if_icmp .ge 17, 3) := dk_162 0 17 (dk_at dksX3_fewest_1 15 rfl rfl)
theorem dX3_fewest_40 : decode cX3_fewest 40 = .ok (.aload_n 0, 1) := dk_42 (dk_at dksX3_fewest_1 18 rfl rfl)
theorem dX3_fewest_41 : decode cX3_fewest 41 = .ok (.getfield 136, 3) := dk_180 0 136 (dk_at dksX3_fewest_1 19 rfl rfl)
theorem dX3_fewest_44 : decode cX3_fewest 44 = .ok (.iload 4, 2) := dk_21 4 (dk_at dksX3_fewest_1 22 rfl rfl)
theorem dX3_fewest_46 : decode cX3_fewest 46 = .ok (.iconst 0, 1) := dk_3 (dk_at dksX3_fewest_2 0 rfl rfl)
theorem dX3_fewest_47 : decode cX3_fewest 47 = .ok (.iastore, 1) := dk_79 (dk_at dksX3_fewest_2 1 rfl rfl)
theorem dX3_fewest_48 : decode cX3_fewest 48 = .ok (.iinc 4 1, 3) := dk_132 4 1 (dk_at dksX3_fewest_2 2 rfl rfl)
theorem dX3_fewest_51 : decode cX3_fewest 51 = .ok (.goto (-18), 3) := dk_167 255 238 (dk_at dksX3_fewest_2 5 rfl rfl)
theorem dX3_fewest_54 : decode cX3_fewest 54 = .ok (.bipush (-2), 2) := dk_16 254 (dk_at dksX3_fewest_2 8 rfl rfl)
theorem dX3_fewest_56 : decode cX3_fewest 56 = .ok (.istore 4, 2) := dk_54 4 (dk_at dksX3_fewest_2 10 rfl rfl)
theorem dX3_fewest_58 : decode cX3_fewest 58 = .ok (.aload_n 0, 1) := dk_42 (dk_at dksX3_fewest_2 12 rfl rfl)
theorem dX3_fewest_59 : decode cX3_fewest 59 = .ok (.iload_n 2, 1) := dk_28 (dk_at dksX3_fewest_2 13 rfl rfl)
theorem dX3_fewest_60 : decode cX3_fewest 60 = .ok (.invokevirtual 336, 3) := dk_182 1 80 (dk_at dksX3_fewest_2 14 rfl rfl)
theorem dX3_fewest_63 : decode cX3_fewest 63 = .ok (.ifCond .ne 7, 3) := dk_154 0 7 (dk_at dksX3_fewest_2 17 rfl rfl)
theorem dX3_fewest_66 : decode cX3_fewest 66 = .ok (.iconst 1, 1) := dk_4 (dk_at dksX3_fewest_2 20 rfl rfl)
theorem dX3_fewest_67 : decode cX3_fewest 67 = .ok (.goto 4, 3) := dk_167 0 4 (dk_at dksX3_fewest_2 21 rfl rfl)
theorem dX3_fewest_70 : decode cX3_fewest 70 = .ok (.iconst 0, 1) := dk_3 (dk_at dksX3_fewest_3 0 rfl rfl)
theorem dX3_fewest_71 : decode cX3_fewest 71 = .ok (.istore 5, 2) := dk_54 5 (dk_at dksX3_fewest_3 1 rfl rfl)
theorem dX3_fewest_73 : decode cX3_fewest 73 = .ok (.iload 5, 2) := dk_21 5 (dk_at dksX3_fewest_3 3 rfl rfl)
theorem dX3_fewest_75 : decode cX3_fewest 75 = .ok (.ifCond .eq 57, 3) := dk_153 0 57 (dk_at dksX3_fewest_3 5 rfl rfl)
theorem dX3_fewest_78 : decode cX3_fewest 78 = .ok (.aload_n 0, 1) := dk_42 (dk_at dksX3_fewest_3 8 rfl rfl)
theorem dX3_fewest_79 : decode cX3_fewest 79 = .ok (.invokevirtual 515, 3) := dk_182 2 3 (dk_at dksX3_fewest_3 9 rfl rfl)
theorem dX3_fewest_82 : decode cX3_fewest 82 = .ok (.istore 6, 2) := dk_54 6 (dk_at dksX3_fewest_3 12 rfl rfl)
theorem dX3_fewest_84 : decode cX3_fewest 84 = .ok (.iload 4, 2) := dk_21 4 (dk_at dksX3_fewest_3 14 rfl rfl)
theorem dX3_fewest_86 : decode cX3_fewest 86 = .ok (.bipush (-2), 2) := dk_16 254 (dk_at dksX3_fewest_3 16 rfl rfl)
theorem dX3_fewest_88 : decode cX3_fewest 88 = .ok (.if_icmp .eq 10, 3) := dk_159 0 10 (dk_at dksX3_fewest_3 18 rfl rfl)
theorem dX3_fewest_91 : decode cX3_fewest 91 = .ok (.iload 6, 2) := dk_21 6 (dk_at dksX3_fewest_3 21 rfl rfl)
theorem dX3_fewest_93 : decode cX3_fewest 93 = .ok (.iload 4, 2) := dk_21 4 (dk_at dksX3_fewest_4 0 rfl rfl)
theorem dX3_fewest_95 : decode cX3_fewest 95 = .ok (.if_icmp .ge 27, 3) := dk_162 0 27 (dk_at dksX3_fewest_4 2 rfl rfl)
theorem dX3_fewest_98 : decode cX3_fewest 98 = .ok (.aload_n 0, 1) := dk_42 (dk_at dksX3_fewest_4 5 rfl rfl)
theorem dX3_fewest_99 : decode cX3_fewest 99 = .ok (.iload_n 1, 1) := dk_27 (dk_at dksX3_fewest_4 6 rfl rfl)
theorem dX3_fewest_100 : decode cX3_fewest 100 = .ok (.iload_n 2, 1) := dk_28 (dk_at dksX3_fewest_4 7 rfl rfl)
theorem dX3_fewest_101 : decode cX3_fewest 101 = .ok (.invokevirtual 518, 3) := dk_182 2 6 (dk_at dksX3_fewest_4 8 rfl rfl)
theorem dX3_fewest_104 : decode cX3_fewest 104 = .ok (.ifCond .eq 18, 3) := dk_153 0 18 (dk_at dksX3_fewest_4 11 rfl rfl)
theorem dX3_fewest_107 : decode cX3_fewest 107 = .ok (.iload 6, 2) := dk_21 6 (dk_at dksX3_fewest_4 14 rfl rfl)
theorem dX3_fewest_109 : decode cX3_fewest 109 = .ok (.istore 4, 2) := dk_54 4 (dk_at dksX3_fewest_4 16 rfl rfl)
theorem dX3_fewest_111 : decode cX3_fewest 111 = .ok (.aload_n 0, 1) := dk_42 (dk_at dksX3_fewest_4 18 rfl rfl)
theorem dX3_fewest_112 : decode cX3_fewest 112 = .ok (.getfield 136, 3) := dk_180 0 136 (dk_at dksX3_fewest_4 19 rfl rfl)
theorem dX3_fewest_115 : decode cX3_fewest 115 = .ok (.aload_n 0, 1) := dk_42 (dk_at dksX3_fewest_4 22 rfl rfl)
theorem dX3_fewest_116 : decode cX3_fewest 116 = .ok (.getfield 139, 3) := dk_180 0 139 (dk_at dksX3_fewest_5 0 rfl rfl)
theorem dX3_fewest_119 : decode cX3_fewest 119 = .ok (.invokestatic 332, 3) := dk_184 1 76 (dk_at dksX3_fewest_5 3 rfl rfl)
theorem dX3_fewest_122 : decode cX3_fewest 122 = .ok (.aload_n 0, 1) := dk_42 (dk_at dksX3_fewest_5 6 rfl rfl)
theorem dX3_fewest_123 : decode cX3_fewest 123 = .ok (.iload_n 2, 1) := dk_28 (dk_at dksX3_fewest_5 7 rfl rfl)
theorem dX3_fewest_124 : decode cX3_fewest 124 = .ok (.invokevirtual 521, 3) := dk_182 2 9 (dk_at dksX3_fewest_5 8 rfl rfl)
theorem dX3_fewest_127 : decode cX3_fewest 127 = .ok (.istore 5, 2) := dk_54 5 (dk_at dksX3_fewest_5 11 rfl rfl)
theorem dX3_fewest_129 : decode cX3_fewest 129 = .ok (.goto (-56), 3) := dk_167 255 200 (dk_at dksX3_fewest_5 13 rfl rfl)
theorem dX3_fewest_132 : decode cX3_fewest 132 = .ok (.iload 4, 2) := dk_21 4 (dk_at dksX3_fewest_5 16 rfl rfl)
theorem dX3_fewest_134 : decode cX3_fewest 134 = .ok (.bipush (-2), 2) := dk_16 254 (dk_at dksX3_fewest_5 18 rfl rfl)
theorem dX3_fewest_136 : decode cX3_fewest 136 = .ok (.if_icmp .eq 7, 3) := dk_159 0 7 (dk_at dksX3_fewest_5 20 rfl rfl)
theorem dX3_fewest_139 : decode cX3_fewest 139 = .ok (.iload_n 3, 1) := dk_29 (dk_at dksX3_fewest_5 23 rfl rfl)
theorem dX3_fewest_140 : decode cX3_fewest 140 = .ok (.ifCond .ne 6, 3) := dk_154 0 6 (dk_at dksX3_fewest_6 0 rfl rfl)
theorem dX3_fewest_143 : decode cX3_fewest 143 = .ok (.iload 4, 2) := dk_21 4 (dk_at dksX3_fewest_6 3 rfl rfl)
theorem dX3_fewest_145 : decode cX3_fewest 145 = .ok (.ireturn, 1) := dk_172 (dk_at dksX3_fewest_6 5 rfl rfl)
theorem dX3_fewest_146 : decode cX3_fewest 146 = .ok (.iload_n 3, 1) := dk_29 (dk_at dksX3_fewest_6 6 rfl rfl)
theorem dX3_fewest_147 : decode cX3_fewest 147 = .ok (.aload_n 0, 1) := dk_42 (dk_at dksX3_fewest_6 7 rfl rfl)
theorem dX3_fewest_148 : decode cX3_fewest 148 = .ok (.iload_n 2, 1) := dk_28 (dk_at dksX3_fewest_6 8 rfl rfl)
theorem dX3_fewest_149 : decode cX3_fewest 149 = .ok (.invokevirtual 396, 3) := dk_182 1 140 (dk_at dksX3_fewest_6 9 rfl rfl)
theorem dX3_fewest_152 : decode cX3_fewest 152 = .ok (.if_icmp .gt 14, 3) := dk_163 0 14 (dk_at dksX3_fewest_6 12 rfl rfl)
theorem dX3_fewest_155 : decode cX3_fewest 155 = .ok (.aload_n 0, 1) := dk_42 (dk_at dksX3_fewest_6 15 rfl rfl)
theorem dX3_fewest_156 : decode cX3_fewest 156 = .ok (.getfield 139, 3) := dk_180 0 139 (dk_at dksX3_fewest_6 16 rfl rfl)
theorem dX3_fewest_159 : decode cX3_fewest 159 = .ok (.iload_n 3, 1) := dk_29 (dk_at dksX3_fewest_6 19 rfl rfl)
theorem dX3_fewest_160 : decode cX3_fewest 160 = .ok (.iconst 1, 1) := dk_4 (dk_at dksX3_fewest_6 20 rfl rfl)
theorem dX3_fewest_161 : decode cX3_fewest 161 = .ok (.isub, 1) := dk_100 (dk_at dksX3_fewest_6 21 rfl rfl)
theorem dX3_fewest_162 : decode cX3_fewest 162 = .ok (.iaload, 1) := dk_46 (dk_at dksX3_fewest_6 22 rfl rfl)
theorem dX3_fewest_163 : decode cX3_fewest 163 = .ok (.goto 5, 3) := dk_167 0 5 (dk_at dksX3_fewest_7 0 rfl rfl)
theorem dX3_fewest_166 : decode cX3_fewest 166 = .ok (.bipush (-2), 2) := dk_16 254 (dk_at dksX3_fewest_7 3 rfl rfl)
theorem dX3_fewest_168 : decode cX3_fewest 168 = .ok (.ireturn, 1) := dk_172 (dk_at dksX3_fewest_7 5 rfl rfl)
abbrev cX3_allScraped : ByteArray := prog_17_method_99_code
def yX3_allScraped : MethodName := ⟨RX3, "allScraped", "()I"⟩
def dkwX3_allScraped_1 : List UInt8 := [167, 255, 238, 27, 172]
abbrev dktX3_allScraped_1 : List UInt8 := dkwX3_allScraped_1 ++ []
def dkwX3_allScraped_0 : List UInt8 := [3, 60, 3, 61, 28, 16, 6, 162, 0, 18, 27, 42, 180, 0, 136, 28, 46, 96, 60, 132, 2, 1]
abbrev dktX3_allScraped_0 : List UInt8 := dkwX3_allScraped_0 ++ dktX3_allScraped_1
theorem dksX3_allScraped_0 : cX3_allScraped.data.toList.drop 0 = dktX3_allScraped_0 := by decide +kernel
theorem dksX3_allScraped_1 : cX3_allScraped.data.toList.drop 22 = dktX3_allScraped_1 := dk_seg dksX3_allScraped_0 22 rfl rfl
theorem dX3_allScraped_0 : decode cX3_allScraped 0 = .ok (.iconst 0, 1) := dk_3 (dk_at dksX3_allScraped_0 0 rfl rfl)
theorem dX3_allScraped_1 : decode cX3_allScraped 1 = .ok (.istore_n 1, 1) := dk_60 (dk_at dksX3_allScraped_0 1 rfl rfl)
theorem dX3_allScraped_2 : decode cX3_allScraped 2 = .ok (.iconst 0, 1) := dk_3 (dk_at dksX3_allScraped_0 2 rfl rfl)
theorem dX3_allScraped_3 : decode cX3_allScraped 3 = .ok (.istore_n 2, 1) := dk_61 (dk_at dksX3_allScraped_0 3 rfl rfl)
theorem dX3_allScraped_4 : decode cX3_allScraped 4 = .ok (.iload_n 2, 1) := dk_28 (dk_at dksX3_allScraped_0 4 rfl rfl)
theorem dX3_allScraped_5 : decode cX3_allScraped 5 = .ok (.bipush 6, 2) := dk_16 6 (dk_at dksX3_allScraped_0 5 rfl rfl)
theorem dX3_allScraped_7 : decode cX3_allScraped 7 = .ok (.if_icmp .ge 18, 3) := dk_162 0 18 (dk_at dksX3_allScraped_0 7 rfl rfl)
theorem dX3_allScraped_10 : decode cX3_allScraped 10 = .ok (.iload_n 1, 1) := dk_27 (dk_at dksX3_allScraped_0 10 rfl rfl)
theorem dX3_allScraped_11 : decode cX3_allScraped 11 = .ok (.aload_n 0, 1) := dk_42 (dk_at dksX3_allScraped_0 11 rfl rfl)
theorem dX3_allScraped_12 : decode cX3_allScraped 12 = .ok (.getfield 136, 3) := dk_180 0 136 (dk_at dksX3_allScraped_0 12 rfl rfl)
theorem dX3_allScraped_15 : decode cX3_allScraped 15 = .ok (.iload_n 2, 1) := dk_28 (dk_at dksX3_allScraped_0 15 rfl rfl)
theorem dX3_allScraped_16 : decode cX3_allScraped 16 = .ok (.iaload, 1) := dk_46 (dk_at dksX3_allScraped_0 16 rfl rfl)
theorem dX3_allScraped_17 : decode cX3_allScraped 17 = .ok (.iadd, 1) := dk_96 (dk_at dksX3_allScraped_0 17 rfl rfl)
theorem dX3_allScraped_18 : decode cX3_allScraped 18 = .ok (.istore_n 1, 1) := dk_60 (dk_at dksX3_allScraped_0 18 rfl rfl)
theorem dX3_allScraped_19 : decode cX3_allScraped 19 = .ok (.iinc 2 1, 3) := dk_132 2 1 (dk_at dksX3_allScraped_0 19 rfl rfl)
theorem dX3_allScraped_22 : decode cX3_allScraped 22 = .ok (.goto (-18), 3) := dk_167 255 238 (dk_at dksX3_allScraped_1 0 rfl rfl)
theorem dX3_allScraped_25 : decode cX3_allScraped 25 = .ok (.iload_n 1, 1) := dk_27 (dk_at dksX3_allScraped_1 3 rfl rfl)
theorem dX3_allScraped_26 : decode cX3_allScraped 26 = .ok (.ireturn, 1) := dk_172 (dk_at dksX3_allScraped_1 4 rfl rfl)
abbrev cX3_isTheirsScraped : ByteArray := prog_17_method_98_code
def yX3_isTheirsScraped : MethodName := ⟨RX3, "isTheirsScraped", "(II)Z"⟩
def dkwX3_isTheirsScraped_4 : List UInt8 := [42, 28, 182, 1, 140, 42, 180, 0, 9, 4, 46, 182, 1, 143, 27, 160, 0, 7, 4, 167, 0, 4, 3, 172]
abbrev dktX3_isTheirsScraped_4 : List UInt8 := dkwX3_isTheirsScraped_4 ++ []
def dkwX3_isTheirsScraped_3 : List UInt8 := [21, 4, 2, 159, 0, 14, 42, 180, 0, 124, 21, 4, 92, 46, 4, 96, 79, 132, 3, 1, 167, 255, 186, 42]
abbrev dktX3_isTheirsScraped_3 : List UInt8 := dkwX3_isTheirsScraped_3 ++ dktX3_isTheirsScraped_4
def dkwX3_isTheirsScraped_2 : List UInt8 := [28, 46, 29, 96, 46, 42, 180, 0, 136, 29, 46, 100, 42, 180, 0, 9, 16, 9, 46, 182, 1, 132, 54, 4]
abbrev dktX3_isTheirsScraped_2 : List UInt8 := dkwX3_isTheirsScraped_2 ++ dktX3_isTheirsScraped_3
def dkwX3_isTheirsScraped_1 : List UInt8 := [28, 182, 1, 140, 162, 0, 67, 42, 42, 180, 0, 13, 28, 46, 29, 96, 42, 180, 0, 31, 42, 180, 0, 13]
abbrev dktX3_isTheirsScraped_1 : List UInt8 := dkwX3_isTheirsScraped_1 ++ dktX3_isTheirsScraped_2
def dkwX3_isTheirsScraped_0 : List UInt8 := [3, 62, 29, 7, 162, 0, 16, 42, 180, 0, 124, 29, 3, 79, 132, 3, 1, 167, 255, 241, 3, 62, 29, 42]
abbrev dktX3_isTheirsScraped_0 : List UInt8 := dkwX3_isTheirsScraped_0 ++ dktX3_isTheirsScraped_1
theorem dksX3_isTheirsScraped_0 : cX3_isTheirsScraped.data.toList.drop 0 = dktX3_isTheirsScraped_0 := by decide +kernel
theorem dksX3_isTheirsScraped_1 : cX3_isTheirsScraped.data.toList.drop 24 = dktX3_isTheirsScraped_1 := dk_seg dksX3_isTheirsScraped_0 24 rfl rfl
theorem dksX3_isTheirsScraped_2 : cX3_isTheirsScraped.data.toList.drop 48 = dktX3_isTheirsScraped_2 := dk_seg dksX3_isTheirsScraped_1 24 rfl rfl
theorem dksX3_isTheirsScraped_3 : cX3_isTheirsScraped.data.toList.drop 72 = dktX3_isTheirsScraped_3 := dk_seg dksX3_isTheirsScraped_2 24 rfl rfl
theorem dksX3_isTheirsScraped_4 : cX3_isTheirsScraped.data.toList.drop 96 = dktX3_isTheirsScraped_4 := dk_seg dksX3_isTheirsScraped_3 24 rfl rfl
theorem dX3_isTheirsScraped_0 : decode cX3_isTheirsScraped 0 = .ok (.iconst 0, 1) := dk_3 (dk_at dksX3_isTheirsScraped_0 0 rfl rfl)
theorem dX3_isTheirsScraped_1 : decode cX3_isTheirsScraped 1 = .ok (.istore_n 3, 1) := dk_62 (dk_at dksX3_isTheirsScraped_0 1 rfl rfl)
theorem dX3_isTheirsScraped_2 : decode cX3_isTheirsScraped 2 = .ok (.iload_n 3, 1) := dk_29 (dk_at dksX3_isTheirsScraped_0 2 rfl rfl)
theorem dX3_isTheirsScraped_3 : decode cX3_isTheirsScraped 3 = .ok (.iconst 4, 1) := dk_7 (dk_at dksX3_isTheirsScraped_0 3 rfl rfl)
theorem dX3_isTheirsScraped_4 : decode cX3_isTheirsScraped 4 = .ok (.if_icmp .ge 16, 3) := dk_162 0 16 (dk_at dksX3_isTheirsScraped_0 4 rfl rfl)
theorem dX3_isTheirsScraped_7 : decode cX3_isTheirsScraped 7 = .ok (.aload_n 0, 1) := dk_42 (dk_at dksX3_isTheirsScraped_0 7 rfl rfl)
theorem dX3_isTheirsScraped_8 : decode cX3_isTheirsScraped 8 = .ok (.getfield 124, 3) := dk_180 0 124 (dk_at dksX3_isTheirsScraped_0 8 rfl rfl)
theorem dX3_isTheirsScraped_11 : decode cX3_isTheirsScraped 11 = .ok (.iload_n 3, 1) := dk_29 (dk_at dksX3_isTheirsScraped_0 11 rfl rfl)
theorem dX3_isTheirsScraped_12 : decode cX3_isTheirsScraped 12 = .ok (.iconst 0, 1) := dk_3 (dk_at dksX3_isTheirsScraped_0 12 rfl rfl)
theorem dX3_isTheirsScraped_13 : decode cX3_isTheirsScraped 13 = .ok (.iastore, 1) := dk_79 (dk_at dksX3_isTheirsScraped_0 13 rfl rfl)
theorem dX3_isTheirsScraped_14 : decode cX3_isTheirsScraped 14 = .ok (.iinc 3 1, 3) := dk_132 3 1 (dk_at dksX3_isTheirsScraped_0 14 rfl rfl)
theorem dX3_isTheirsScraped_17 : decode cX3_isTheirsScraped 17 = .ok (.goto (-15), 3) := dk_167 255 241 (dk_at dksX3_isTheirsScraped_0 17 rfl rfl)
theorem dX3_isTheirsScraped_20 : decode cX3_isTheirsScraped 20 = .ok (.iconst 0, 1) := dk_3 (dk_at dksX3_isTheirsScraped_0 20 rfl rfl)
theorem dX3_isTheirsScraped_21 : decode cX3_isTheirsScraped 21 = .ok (.istore_n 3, 1) := dk_62 (dk_at dksX3_isTheirsScraped_0 21 rfl rfl)
theorem dX3_isTheirsScraped_22 : decode cX3_isTheirsScraped 22 = .ok (.iload_n 3, 1) := dk_29 (dk_at dksX3_isTheirsScraped_0 22 rfl rfl)
theorem dX3_isTheirsScraped_23 : decode cX3_isTheirsScraped 23 = .ok (.aload_n 0, 1) := dk_42 (dk_at dksX3_isTheirsScraped_0 23 rfl rfl)
theorem dX3_isTheirsScraped_24 : decode cX3_isTheirsScraped 24 = .ok (.iload_n 2, 1) := dk_28 (dk_at dksX3_isTheirsScraped_1 0 rfl rfl)
theorem dX3_isTheirsScraped_25 : decode cX3_isTheirsScraped 25 = .ok (.invokevirtual 396, 3) := dk_182 1 140 (dk_at dksX3_isTheirsScraped_1 1 rfl rfl)
theorem dX3_isTheirsScraped_28 : decode cX3_isTheirsScraped 28 = .ok (.if_icmp .ge 67, 3) := dk_162 0 67 (dk_at dksX3_isTheirsScraped_1 4 rfl rfl)
theorem dX3_isTheirsScraped_31 : decode cX3_isTheirsScraped 31 = .ok (.aload_n 0, 1) := dk_42 (dk_at dksX3_isTheirsScraped_1 7 rfl rfl)
theorem dX3_isTheirsScraped_32 : decode cX3_isTheirsScraped 32 = .ok (.aload_n 0, 1) := dk_42 (dk_at dksX3_isTheirsScraped_1 8 rfl rfl)
theorem dX3_isTheirsScraped_33 : decode cX3_isTheirsScraped 33 = .ok (.getfield 13, 3) := dk_180 0 13 (dk_at dksX3_isTheirsScraped_1 9 rfl rfl)
theorem dX3_isTheirsScraped_36 : decode cX3_isTheirsScraped 36 = .ok (.iload_n 2, 1) := dk_28 (dk_at dksX3_isTheirsScraped_1 12 rfl rfl)
theorem dX3_isTheirsScraped_37 : decode cX3_isTheirsScraped 37 = .ok (.iaload, 1) := dk_46 (dk_at dksX3_isTheirsScraped_1 13 rfl rfl)
theorem dX3_isTheirsScraped_38 : decode cX3_isTheirsScraped 38 = .ok (.iload_n 3, 1) := dk_29 (dk_at dksX3_isTheirsScraped_1 14 rfl rfl)
theorem dX3_isTheirsScraped_39 : decode cX3_isTheirsScraped 39 = .ok (.iadd, 1) := dk_96 (dk_at dksX3_isTheirsScraped_1 15 rfl rfl)
theorem dX3_isTheirsScraped_40 : decode cX3_isTheirsScraped 40 = .ok (.aload_n 0, 1) := dk_42 (dk_at dksX3_isTheirsScraped_1 16 rfl rfl)
theorem dX3_isTheirsScraped_41 : decode cX3_isTheirsScraped 41 = .ok (.getfield 31, 3) := dk_180 0 31 (dk_at dksX3_isTheirsScraped_1 17 rfl rfl)
theorem dX3_isTheirsScraped_44 : decode cX3_isTheirsScraped 44 = .ok (.aload_n 0, 1) := dk_42 (dk_at dksX3_isTheirsScraped_1 20 rfl rfl)
theorem dX3_isTheirsScraped_45 : decode cX3_isTheirsScraped 45 = .ok (.getfield 13, 3) := dk_180 0 13 (dk_at dksX3_isTheirsScraped_1 21 rfl rfl)
theorem dX3_isTheirsScraped_48 : decode cX3_isTheirsScraped 48 = .ok (.iload_n 2, 1) := dk_28 (dk_at dksX3_isTheirsScraped_2 0 rfl rfl)
theorem dX3_isTheirsScraped_49 : decode cX3_isTheirsScraped 49 = .ok (.iaload, 1) := dk_46 (dk_at dksX3_isTheirsScraped_2 1 rfl rfl)
theorem dX3_isTheirsScraped_50 : decode cX3_isTheirsScraped 50 = .ok (.iload_n 3, 1) := dk_29 (dk_at dksX3_isTheirsScraped_2 2 rfl rfl)
theorem dX3_isTheirsScraped_51 : decode cX3_isTheirsScraped 51 = .ok (.iadd, 1) := dk_96 (dk_at dksX3_isTheirsScraped_2 3 rfl rfl)
theorem dX3_isTheirsScraped_52 : decode cX3_isTheirsScraped 52 = .ok (.iaload, 1) := dk_46 (dk_at dksX3_isTheirsScraped_2 4 rfl rfl)
theorem dX3_isTheirsScraped_53 : decode cX3_isTheirsScraped 53 = .ok (.aload_n 0, 1) := dk_42 (dk_at dksX3_isTheirsScraped_2 5 rfl rfl)
theorem dX3_isTheirsScraped_54 : decode cX3_isTheirsScraped 54 = .ok (.getfield 136, 3) := dk_180 0 136 (dk_at dksX3_isTheirsScraped_2 6 rfl rfl)
theorem dX3_isTheirsScraped_57 : decode cX3_isTheirsScraped 57 = .ok (.iload_n 3, 1) := dk_29 (dk_at dksX3_isTheirsScraped_2 9 rfl rfl)
theorem dX3_isTheirsScraped_58 : decode cX3_isTheirsScraped 58 = .ok (.iaload, 1) := dk_46 (dk_at dksX3_isTheirsScraped_2 10 rfl rfl)
theorem dX3_isTheirsScraped_59 : decode cX3_isTheirsScraped 59 = .ok (.isub, 1) := dk_100 (dk_at dksX3_isTheirsScraped_2 11 rfl rfl)
theorem dX3_isTheirsScraped_60 : decode cX3_isTheirsScraped 60 = .ok (.aload_n 0, 1) := dk_42 (dk_at dksX3_isTheirsScraped_2 12 rfl rfl)
theorem dX3_isTheirsScraped_61 : decode cX3_isTheirsScraped 61 = .ok (.getfield 9, 3) := dk_180 0 9 (dk_at dksX3_isTheirsScraped_2 13 rfl rfl)
theorem dX3_isTheirsScraped_64 : decode cX3_isTheirsScraped 64 = .ok (.bipush 9, 2) := dk_16 9 (dk_at dksX3_isTheirsScraped_2 16 rfl rfl)
theorem dX3_isTheirsScraped_66 : decode cX3_isTheirsScraped 66 = .ok (.iaload, 1) := dk_46 (dk_at dksX3_isTheirsScraped_2 18 rfl rfl)
theorem dX3_isTheirsScraped_67 : decode cX3_isTheirsScraped 67 = .ok (.invokevirtual 388, 3) := dk_182 1 132 (dk_at dksX3_isTheirsScraped_2 19 rfl rfl)
theorem dX3_isTheirsScraped_70 : decode cX3_isTheirsScraped 70 = .ok (.istore 4, 2) := dk_54 4 (dk_at dksX3_isTheirsScraped_2 22 rfl rfl)
theorem dX3_isTheirsScraped_72 : decode cX3_isTheirsScraped 72 = .ok (.iload 4, 2) := dk_21 4 (dk_at dksX3_isTheirsScraped_3 0 rfl rfl)
theorem dX3_isTheirsScraped_74 : decode cX3_isTheirsScraped 74 = .ok (.iconst (-1), 1) := dk_2 (dk_at dksX3_isTheirsScraped_3 2 rfl rfl)
theorem dX3_isTheirsScraped_75 : decode cX3_isTheirsScraped 75 = .ok (.if_icmp .eq 14, 3) := dk_159 0 14 (dk_at dksX3_isTheirsScraped_3 3 rfl rfl)
theorem dX3_isTheirsScraped_78 : decode cX3_isTheirsScraped 78 = .ok (.aload_n 0, 1) := dk_42 (dk_at dksX3_isTheirsScraped_3 6 rfl rfl)
theorem dX3_isTheirsScraped_79 : decode cX3_isTheirsScraped 79 = .ok (.getfield 124, 3) := dk_180 0 124 (dk_at dksX3_isTheirsScraped_3 7 rfl rfl)
theorem dX3_isTheirsScraped_82 : decode cX3_isTheirsScraped 82 = .ok (.iload 4, 2) := dk_21 4 (dk_at dksX3_isTheirsScraped_3 10 rfl rfl)
theorem dX3_isTheirsScraped_84 : decode cX3_isTheirsScraped 84 = .ok (.dup2, 1) := dk_92 (dk_at dksX3_isTheirsScraped_3 12 rfl rfl)
theorem dX3_isTheirsScraped_85 : decode cX3_isTheirsScraped 85 = .ok (.iaload, 1) := dk_46 (dk_at dksX3_isTheirsScraped_3 13 rfl rfl)
theorem dX3_isTheirsScraped_86 : decode cX3_isTheirsScraped 86 = .ok (.iconst 1, 1) := dk_4 (dk_at dksX3_isTheirsScraped_3 14 rfl rfl)
theorem dX3_isTheirsScraped_87 : decode cX3_isTheirsScraped 87 = .ok (.iadd, 1) := dk_96 (dk_at dksX3_isTheirsScraped_3 15 rfl rfl)
theorem dX3_isTheirsScraped_88 : decode cX3_isTheirsScraped 88 = .ok (.iastore, 1) := dk_79 (dk_at dksX3_isTheirsScraped_3 16 rfl rfl)
theorem dX3_isTheirsScraped_89 : decode cX3_isTheirsScraped 89 = .ok (.iinc 3 1, 3) := dk_132 3 1 (dk_at dksX3_isTheirsScraped_3 17 rfl rfl)
theorem dX3_isTheirsScraped_92 : decode cX3_isTheirsScraped 92 = .ok (.goto (-70), 3) := dk_167 255 186 (dk_at dksX3_isTheirsScraped_3 20 rfl rfl)
theorem dX3_isTheirsScraped_95 : decode cX3_isTheirsScraped 95 = .ok (.aload_n 0, 1) := dk_42 (dk_at dksX3_isTheirsScraped_3 23 rfl rfl)
theorem dX3_isTheirsScraped_96 : decode cX3_isTheirsScraped 96 = .ok (.aload_n 0, 1) := dk_42 (dk_at dksX3_isTheirsScraped_4 0 rfl rfl)
theorem dX3_isTheirsScraped_97 : decode cX3_isTheirsScraped 97 = .ok (.iload_n 2, 1) := dk_28 (dk_at dksX3_isTheirsScraped_4 1 rfl rfl)
theorem dX3_isTheirsScraped_98 : decode cX3_isTheirsScraped 98 = .ok (.invokevirtual 396, 3) := dk_182 1 140 (dk_at dksX3_isTheirsScraped_4 2 rfl rfl)
theorem dX3_isTheirsScraped_101 : decode cX3_isTheirsScraped 101 = .ok (.aload_n 0, 1) := dk_42 (dk_at dksX3_isTheirsScraped_4 5 rfl rfl)
theorem dX3_isTheirsScraped_102 : decode cX3_isTheirsScraped 102 = .ok (.getfield 9, 3) := dk_180 0 9 (dk_at dksX3_isTheirsScraped_4 6 rfl rfl)
theorem dX3_isTheirsScraped_105 : decode cX3_isTheirsScraped 105 = .ok (.iconst 1, 1) := dk_4 (dk_at dksX3_isTheirsScraped_4 9 rfl rfl)
theorem dX3_isTheirsScraped_106 : decode cX3_isTheirsScraped 106 = .ok (.iaload, 1) := dk_46 (dk_at dksX3_isTheirsScraped_4 10 rfl rfl)
theorem dX3_isTheirsScraped_107 : decode cX3_isTheirsScraped 107 = .ok (.invokevirtual 399, 3) := dk_182 1 143 (dk_at dksX3_isTheirsScraped_4 11 rfl rfl)
theorem dX3_isTheirsScraped_110 : decode cX3_isTheirsScraped 110 = .ok (.iload_n 1, 1) := dk_27 (dk_at dksX3_isTheirsScraped_4 14 rfl rfl)
theorem dX3_isTheirsScraped_111 : decode cX3_isTheirsScraped 111 = .ok (.if_icmp .ne 7, 3) := dk_160 0 7 (dk_at dksX3_isTheirsScraped_4 15 rfl rfl)
theorem dX3_isTheirsScraped_114 : decode cX3_isTheirsScraped 114 = .ok (.iconst 1, 1) := dk_4 (dk_at dksX3_isTheirsScraped_4 18 rfl rfl)
theorem dX3_isTheirsScraped_115 : decode cX3_isTheirsScraped 115 = .ok (.goto 4, 3) := dk_167 0 4 (dk_at dksX3_isTheirsScraped_4 19 rfl rfl)
theorem dX3_isTheirsScraped_118 : decode cX3_isTheirsScraped 118 = .ok (.iconst 0, 1) := dk_3 (dk_at dksX3_isTheirsScraped_4 22 rfl rfl)
theorem dX3_isTheirsScraped_119 : decode cX3_isTheirsScraped 119 = .ok (.ireturn, 1) := dk_172 (dk_at dksX3_isTheirsScraped_4 23 rfl rfl)
abbrev cX3_isNextRow : ByteArray := prog_17_method_97_code
def yX3_isNextRow : MethodName := ⟨RX3, "isNextRow", "(I)Z"⟩
def dkwX3_isNextRow_2 : List UInt8 := [180, 0, 136, 28, 3, 79, 132, 2, 255, 167, 255, 208, 3, 172]
abbrev dktX3_isNextRow_2 : List UInt8 := dkwX3_isNextRow_2 ++ []
def dkwX3_isNextRow_1 : List UInt8 := [180, 0, 13, 27, 46, 28, 96, 46, 162, 0, 15, 42, 180, 0, 136, 28, 92, 46, 4, 96, 79, 4, 172, 42]
abbrev dktX3_isNextRow_1 : List UInt8 := dkwX3_isNextRow_1 ++ dktX3_isNextRow_2
def dkwX3_isNextRow_0 : List UInt8 := [42, 27, 182, 1, 140, 4, 100, 61, 28, 155, 0, 50, 42, 180, 0, 136, 28, 46, 42, 180, 0, 31, 42]
abbrev dktX3_isNextRow_0 : List UInt8 := dkwX3_isNextRow_0 ++ dktX3_isNextRow_1
theorem dksX3_isNextRow_0 : cX3_isNextRow.data.toList.drop 0 = dktX3_isNextRow_0 := by decide +kernel
theorem dksX3_isNextRow_1 : cX3_isNextRow.data.toList.drop 23 = dktX3_isNextRow_1 := dk_seg dksX3_isNextRow_0 23 rfl rfl
theorem dksX3_isNextRow_2 : cX3_isNextRow.data.toList.drop 47 = dktX3_isNextRow_2 := dk_seg dksX3_isNextRow_1 24 rfl rfl
theorem dX3_isNextRow_0 : decode cX3_isNextRow 0 = .ok (.aload_n 0, 1) := dk_42 (dk_at dksX3_isNextRow_0 0 rfl rfl)
theorem dX3_isNextRow_1 : decode cX3_isNextRow 1 = .ok (.iload_n 1, 1) := dk_27 (dk_at dksX3_isNextRow_0 1 rfl rfl)
theorem dX3_isNextRow_2 : decode cX3_isNextRow 2 = .ok (.invokevirtual 396, 3) := dk_182 1 140 (dk_at dksX3_isNextRow_0 2 rfl rfl)
theorem dX3_isNextRow_5 : decode cX3_isNextRow 5 = .ok (.iconst 1, 1) := dk_4 (dk_at dksX3_isNextRow_0 5 rfl rfl)
theorem dX3_isNextRow_6 : decode cX3_isNextRow 6 = .ok (.isub, 1) := dk_100 (dk_at dksX3_isNextRow_0 6 rfl rfl)
theorem dX3_isNextRow_7 : decode cX3_isNextRow 7 = .ok (.istore_n 2, 1) := dk_61 (dk_at dksX3_isNextRow_0 7 rfl rfl)
theorem dX3_isNextRow_8 : decode cX3_isNextRow 8 = .ok (.iload_n 2, 1) := dk_28 (dk_at dksX3_isNextRow_0 8 rfl rfl)
theorem dX3_isNextRow_9 : decode cX3_isNextRow 9 = .ok (.ifCond .lt 50, 3) := dk_155 0 50 (dk_at dksX3_isNextRow_0 9 rfl rfl)
theorem dX3_isNextRow_12 : decode cX3_isNextRow 12 = .ok (.aload_n 0, 1) := dk_42 (dk_at dksX3_isNextRow_0 12 rfl rfl)
theorem dX3_isNextRow_13 : decode cX3_isNextRow 13 = .ok (.getfield 136, 3) := dk_180 0 136 (dk_at dksX3_isNextRow_0 13 rfl rfl)
theorem dX3_isNextRow_16 : decode cX3_isNextRow 16 = .ok (.iload_n 2, 1) := dk_28 (dk_at dksX3_isNextRow_0 16 rfl rfl)
theorem dX3_isNextRow_17 : decode cX3_isNextRow 17 = .ok (.iaload, 1) := dk_46 (dk_at dksX3_isNextRow_0 17 rfl rfl)
theorem dX3_isNextRow_18 : decode cX3_isNextRow 18 = .ok (.aload_n 0, 1) := dk_42 (dk_at dksX3_isNextRow_0 18 rfl rfl)
theorem dX3_isNextRow_19 : decode cX3_isNextRow 19 = .ok (.getfield 31, 3) := dk_180 0 31 (dk_at dksX3_isNextRow_0 19 rfl rfl)
theorem dX3_isNextRow_22 : decode cX3_isNextRow 22 = .ok (.aload_n 0, 1) := dk_42 (dk_at dksX3_isNextRow_0 22 rfl rfl)
theorem dX3_isNextRow_23 : decode cX3_isNextRow 23 = .ok (.getfield 13, 3) := dk_180 0 13 (dk_at dksX3_isNextRow_1 0 rfl rfl)
theorem dX3_isNextRow_26 : decode cX3_isNextRow 26 = .ok (.iload_n 1, 1) := dk_27 (dk_at dksX3_isNextRow_1 3 rfl rfl)
theorem dX3_isNextRow_27 : decode cX3_isNextRow 27 = .ok (.iaload, 1) := dk_46 (dk_at dksX3_isNextRow_1 4 rfl rfl)
theorem dX3_isNextRow_28 : decode cX3_isNextRow 28 = .ok (.iload_n 2, 1) := dk_28 (dk_at dksX3_isNextRow_1 5 rfl rfl)
theorem dX3_isNextRow_29 : decode cX3_isNextRow 29 = .ok (.iadd, 1) := dk_96 (dk_at dksX3_isNextRow_1 6 rfl rfl)
theorem dX3_isNextRow_30 : decode cX3_isNextRow 30 = .ok (.iaload, 1) := dk_46 (dk_at dksX3_isNextRow_1 7 rfl rfl)
theorem dX3_isNextRow_31 : decode cX3_isNextRow 31 = .ok (.if_icmp .ge 15, 3) := dk_162 0 15 (dk_at dksX3_isNextRow_1 8 rfl rfl)
theorem dX3_isNextRow_34 : decode cX3_isNextRow 34 = .ok (.aload_n 0, 1) := dk_42 (dk_at dksX3_isNextRow_1 11 rfl rfl)
theorem dX3_isNextRow_35 : decode cX3_isNextRow 35 = .ok (.getfield 136, 3) := dk_180 0 136 (dk_at dksX3_isNextRow_1 12 rfl rfl)
theorem dX3_isNextRow_38 : decode cX3_isNextRow 38 = .ok (.iload_n 2, 1) := dk_28 (dk_at dksX3_isNextRow_1 15 rfl rfl)
theorem dX3_isNextRow_39 : decode cX3_isNextRow 39 = .ok (.dup2, 1) := dk_92 (dk_at dksX3_isNextRow_1 16 rfl rfl)
theorem dX3_isNextRow_40 : decode cX3_isNextRow 40 = .ok (.iaload, 1) := dk_46 (dk_at dksX3_isNextRow_1 17 rfl rfl)
theorem dX3_isNextRow_41 : decode cX3_isNextRow 41 = .ok (.iconst 1, 1) := dk_4 (dk_at dksX3_isNextRow_1 18 rfl rfl)
theorem dX3_isNextRow_42 : decode cX3_isNextRow 42 = .ok (.iadd, 1) := dk_96 (dk_at dksX3_isNextRow_1 19 rfl rfl)
theorem dX3_isNextRow_43 : decode cX3_isNextRow 43 = .ok (.iastore, 1) := dk_79 (dk_at dksX3_isNextRow_1 20 rfl rfl)
theorem dX3_isNextRow_44 : decode cX3_isNextRow 44 = .ok (.iconst 1, 1) := dk_4 (dk_at dksX3_isNextRow_1 21 rfl rfl)
theorem dX3_isNextRow_45 : decode cX3_isNextRow 45 = .ok (.ireturn, 1) := dk_172 (dk_at dksX3_isNextRow_1 22 rfl rfl)
theorem dX3_isNextRow_46 : decode cX3_isNextRow 46 = .ok (.aload_n 0, 1) := dk_42 (dk_at dksX3_isNextRow_1 23 rfl rfl)
theorem dX3_isNextRow_47 : decode cX3_isNextRow 47 = .ok (.getfield 136, 3) := dk_180 0 136 (dk_at dksX3_isNextRow_2 0 rfl rfl)
theorem dX3_isNextRow_50 : decode cX3_isNextRow 50 = .ok (.iload_n 2, 1) := dk_28 (dk_at dksX3_isNextRow_2 3 rfl rfl)
theorem dX3_isNextRow_51 : decode cX3_isNextRow 51 = .ok (.iconst 0, 1) := dk_3 (dk_at dksX3_isNextRow_2 4 rfl rfl)
theorem dX3_isNextRow_52 : decode cX3_isNextRow 52 = .ok (.iastore, 1) := dk_79 (dk_at dksX3_isNextRow_2 5 rfl rfl)
theorem dX3_isNextRow_53 : decode cX3_isNextRow 53 = .ok (.iinc 2 (-1), 3) := dk_132 2 255 (dk_at dksX3_isNextRow_2 6 rfl rfl)
theorem dX3_isNextRow_56 : decode cX3_isNextRow 56 = .ok (.goto (-48), 3) := dk_167 255 208 (dk_at dksX3_isNextRow_2 9 rfl rfl)
theorem dX3_isNextRow_59 : decode cX3_isNextRow 59 = .ok (.iconst 0, 1) := dk_3 (dk_at dksX3_isNextRow_2 12 rfl rfl)
theorem dX3_isNextRow_60 : decode cX3_isNextRow 60 = .ok (.ireturn, 1) := dk_172 (dk_at dksX3_isNextRow_2 13 rfl rfl)
abbrev cX3_when : ByteArray := prog_17_method_101_code
def yX3_when : MethodName := ⟨RX3, "when", "()I"⟩
def dkwX3_when_3 : List UInt8 := [153, 0, 5, 27, 172, 132, 1, 1, 167, 255, 193, 16, 254, 172]
abbrev dktX3_when_3 : List UInt8 := dkwX3_when_3 ++ []
def dkwX3_when_2 : List UInt8 := [153, 0, 15, 42, 29, 182, 1, 176, 154, 0, 7, 4, 167, 0, 4, 3, 61, 132, 3, 1, 167, 255, 223, 28]
abbrev dktX3_when_2 : List UInt8 := dkwX3_when_2 ++ dktX3_when_3
def dkwX3_when_1 : List UInt8 := [46, 16, 60, 96, 162, 0, 55, 4, 61, 27, 62, 29, 27, 42, 180, 0, 9, 3, 46, 96, 162, 0, 27, 28]
abbrev dktX3_when_1 : List UInt8 := dkwX3_when_1 ++ dktX3_when_2
def dkwX3_when_0 : List UInt8 := [42, 182, 1, 173, 154, 0, 5, 2, 172, 42, 180, 0, 9, 16, 9, 46, 60, 27, 42, 180, 0, 9, 16, 9]
abbrev dktX3_when_0 : List UInt8 := dkwX3_when_0 ++ dktX3_when_1
theorem dksX3_when_0 : cX3_when.data.toList.drop 0 = dktX3_when_0 := by decide +kernel
theorem dksX3_when_1 : cX3_when.data.toList.drop 24 = dktX3_when_1 := dk_seg dksX3_when_0 24 rfl rfl
theorem dksX3_when_2 : cX3_when.data.toList.drop 48 = dktX3_when_2 := dk_seg dksX3_when_1 24 rfl rfl
theorem dksX3_when_3 : cX3_when.data.toList.drop 72 = dktX3_when_3 := dk_seg dksX3_when_2 24 rfl rfl
theorem dX3_when_0 : decode cX3_when 0 = .ok (.aload_n 0, 1) := dk_42 (dk_at dksX3_when_0 0 rfl rfl)
theorem dX3_when_1 : decode cX3_when 1 = .ok (.invokevirtual 429, 3) := dk_182 1 173 (dk_at dksX3_when_0 1 rfl rfl)
theorem dX3_when_4 : decode cX3_when 4 = .ok (.ifCond .ne 5, 3) := dk_154 0 5 (dk_at dksX3_when_0 4 rfl rfl)
theorem dX3_when_7 : decode cX3_when 7 = .ok (.iconst (-1), 1) := dk_2 (dk_at dksX3_when_0 7 rfl rfl)
theorem dX3_when_8 : decode cX3_when 8 = .ok (.ireturn, 1) := dk_172 (dk_at dksX3_when_0 8 rfl rfl)
theorem dX3_when_9 : decode cX3_when 9 = .ok (.aload_n 0, 1) := dk_42 (dk_at dksX3_when_0 9 rfl rfl)
theorem dX3_when_10 : decode cX3_when 10 = .ok (.getfield 9, 3) := dk_180 0 9 (dk_at dksX3_when_0 10 rfl rfl)
theorem dX3_when_13 : decode cX3_when 13 = .ok (.bipush 9, 2) := dk_16 9 (dk_at dksX3_when_0 13 rfl rfl)
theorem dX3_when_15 : decode cX3_when 15 = .ok (.iaload, 1) := dk_46 (dk_at dksX3_when_0 15 rfl rfl)
theorem dX3_when_16 : decode cX3_when 16 = .ok (.istore_n 1, 1) := dk_60 (dk_at dksX3_when_0 16 rfl rfl)
theorem dX3_when_17 : decode cX3_when 17 = .ok (.iload_n 1, 1) := dk_27 (dk_at dksX3_when_0 17 rfl rfl)
theorem dX3_when_18 : decode cX3_when 18 = .ok (.aload_n 0, 1) := dk_42 (dk_at dksX3_when_0 18 rfl rfl)
theorem dX3_when_19 : decode cX3_when 19 = .ok (.getfield 9, 3) := dk_180 0 9 (dk_at dksX3_when_0 19 rfl rfl)
theorem dX3_when_22 : decode cX3_when 22 = .ok (.bipush 9, 2) := dk_16 9 (dk_at dksX3_when_0 22 rfl rfl)
theorem dX3_when_24 : decode cX3_when 24 = .ok (.iaload, 1) := dk_46 (dk_at dksX3_when_1 0 rfl rfl)
theorem dX3_when_25 : decode cX3_when 25 = .ok (.bipush 60, 2) := dk_16 60 (dk_at dksX3_when_1 1 rfl rfl)
theorem dX3_when_27 : decode cX3_when 27 = .ok (.iadd, 1) := dk_96 (dk_at dksX3_when_1 3 rfl rfl)
theorem dX3_when_28 : decode cX3_when 28 = .ok (.if_icmp .ge 55, 3) := dk_162 0 55 (dk_at dksX3_when_1 4 rfl rfl)
theorem dX3_when_31 : decode cX3_when 31 = .ok (.iconst 1, 1) := dk_4 (dk_at dksX3_when_1 7 rfl rfl)
theorem dX3_when_32 : decode cX3_when 32 = .ok (.istore_n 2, 1) := dk_61 (dk_at dksX3_when_1 8 rfl rfl)
theorem dX3_when_33 : decode cX3_when 33 = .ok (.iload_n 1, 1) := dk_27 (dk_at dksX3_when_1 9 rfl rfl)
theorem dX3_when_34 : decode cX3_when 34 = .ok (.istore_n 3, 1) := dk_62 (dk_at dksX3_when_1 10 rfl rfl)
theorem dX3_when_35 : decode cX3_when 35 = .ok (.iload_n 3, 1) := dk_29 (dk_at dksX3_when_1 11 rfl rfl)
theorem dX3_when_36 : decode cX3_when 36 = .ok (.iload_n 1, 1) := dk_27 (dk_at dksX3_when_1 12 rfl rfl)
theorem dX3_when_37 : decode cX3_when 37 = .ok (.aload_n 0, 1) := dk_42 (dk_at dksX3_when_1 13 rfl rfl)
theorem dX3_when_38 : decode cX3_when 38 = .ok (.getfield 9, 3) := dk_180 0 9 (dk_at dksX3_when_1 14 rfl rfl)
theorem dX3_when_41 : decode cX3_when 41 = .ok (.iconst 0, 1) := dk_3 (dk_at dksX3_when_1 17 rfl rfl)
theorem dX3_when_42 : decode cX3_when 42 = .ok (.iaload, 1) := dk_46 (dk_at dksX3_when_1 18 rfl rfl)
theorem dX3_when_43 : decode cX3_when 43 = .ok (.iadd, 1) := dk_96 (dk_at dksX3_when_1 19 rfl rfl)
theorem dX3_when_44 : decode cX3_when 44 = .ok (.if_icmp .ge 27, 3) := dk_162 0 27 (dk_at dksX3_when_1 20 rfl rfl)
theorem dX3_when_47 : decode cX3_when 47 = .ok (.iload_n 2, 1) := dk_28 (dk_at dksX3_when_1 23 rfl rfl)
theorem dX3_when_48 : decode cX3_when 48 = .ok (.ifCond .eq 15, 3) := dk_153 0 15 (dk_at dksX3_when_2 0 rfl rfl)
theorem dX3_when_51 : decode cX3_when 51 = .ok (.aload_n 0, 1) := dk_42 (dk_at dksX3_when_2 3 rfl rfl)
theorem dX3_when_52 : decode cX3_when 52 = .ok (.iload_n 3, 1) := dk_29 (dk_at dksX3_when_2 4 rfl rfl)
theorem dX3_when_53 : decode cX3_when 53 = .ok (.invokevirtual 432, 3) := dk_182 1 176 (dk_at dksX3_when_2 5 rfl rfl)
theorem dX3_when_56 : decode cX3_when 56 = .ok (.ifCond .ne 7, 3) := dk_154 0 7 (dk_at dksX3_when_2 8 rfl rfl)
theorem dX3_when_59 : decode cX3_when 59 = .ok (.iconst 1, 1) := dk_4 (dk_at dksX3_when_2 11 rfl rfl)
theorem dX3_when_60 : decode cX3_when 60 = .ok (.goto 4, 3) := dk_167 0 4 (dk_at dksX3_when_2 12 rfl rfl)
theorem dX3_when_63 : decode cX3_when 63 = .ok (.iconst 0, 1) := dk_3 (dk_at dksX3_when_2 15 rfl rfl)
theorem dX3_when_64 : decode cX3_when 64 = .ok (.istore_n 2, 1) := dk_61 (dk_at dksX3_when_2 16 rfl rfl)
theorem dX3_when_65 : decode cX3_when 65 = .ok (.iinc 3 1, 3) := dk_132 3 1 (dk_at dksX3_when_2 17 rfl rfl)
theorem dX3_when_68 : decode cX3_when 68 = .ok (.goto (-33), 3) := dk_167 255 223 (dk_at dksX3_when_2 20 rfl rfl)
theorem dX3_when_71 : decode cX3_when 71 = .ok (.iload_n 2, 1) := dk_28 (dk_at dksX3_when_2 23 rfl rfl)
theorem dX3_when_72 : decode cX3_when 72 = .ok (.ifCond .eq 5, 3) := dk_153 0 5 (dk_at dksX3_when_3 0 rfl rfl)
theorem dX3_when_75 : decode cX3_when 75 = .ok (.iload_n 1, 1) := dk_27 (dk_at dksX3_when_3 3 rfl rfl)
theorem dX3_when_76 : decode cX3_when 76 = .ok (.ireturn, 1) := dk_172 (dk_at dksX3_when_3 4 rfl rfl)
theorem dX3_when_77 : decode cX3_when 77 = .ok (.iinc 1 1, 3) := dk_132 1 1 (dk_at dksX3_when_3 5 rfl rfl)
theorem dX3_when_80 : decode cX3_when 80 = .ok (.goto (-63), 3) := dk_167 255 193 (dk_at dksX3_when_3 8 rfl rfl)
theorem dX3_when_83 : decode cX3_when 83 = .ok (.bipush (-2), 2) := dk_16 254 (dk_at dksX3_when_3 11 rfl rfl)
theorem dX3_when_85 : decode cX3_when 85 = .ok (.ireturn, 1) := dk_172 (dk_at dksX3_when_3 13 rfl rfl)
abbrev cX3_game : ByteArray := prog_17_method_105_code
def yX3_game : MethodName := ⟨RX3, "game", "(IIIII)I"⟩
def dkwX3_game_3 : List UInt8 := [182, 2, 25, 54, 6, 21, 5, 154, 0, 8, 21, 6, 167, 0, 7, 42, 180, 2, 12, 172]
abbrev dktX3_game_3 : List UInt8 := dkwX3_game_3 ++ []
def dkwX3_game_2 : List UInt8 := [153, 0, 14, 21, 5, 133, 9, 10, 184, 0, 164, 154, 0, 6, 16, 156, 172, 42, 27, 28, 29, 21, 4]
abbrev dktX3_game_2 : List UInt8 := dkwX3_game_2 ++ dktX3_game_3
def dkwX3_game_1 : List UInt8 := [182, 1, 161, 153, 0, 35, 42, 29, 182, 1, 80, 154, 0, 27, 21, 4, 133, 10, 20, 2, 23, 184, 0, 164]
abbrev dktX3_game_1 : List UInt8 := dkwX3_game_1 ++ dktX3_game_2
def dkwX3_game_0 : List UInt8 := [42, 27, 182, 1, 167, 153, 0, 56, 42, 28, 182, 1, 167, 153, 0, 48, 27, 28, 159, 0, 43, 42, 29]
abbrev dktX3_game_0 : List UInt8 := dkwX3_game_0 ++ dktX3_game_1
theorem dksX3_game_0 : cX3_game.data.toList.drop 0 = dktX3_game_0 := by decide +kernel
theorem dksX3_game_1 : cX3_game.data.toList.drop 23 = dktX3_game_1 := dk_seg dksX3_game_0 23 rfl rfl
theorem dksX3_game_2 : cX3_game.data.toList.drop 47 = dktX3_game_2 := dk_seg dksX3_game_1 24 rfl rfl
theorem dksX3_game_3 : cX3_game.data.toList.drop 70 = dktX3_game_3 := dk_seg dksX3_game_2 23 rfl rfl
theorem dX3_game_0 : decode cX3_game 0 = .ok (.aload_n 0, 1) := dk_42 (dk_at dksX3_game_0 0 rfl rfl)
theorem dX3_game_1 : decode cX3_game 1 = .ok (.iload_n 1, 1) := dk_27 (dk_at dksX3_game_0 1 rfl rfl)
theorem dX3_game_2 : decode cX3_game 2 = .ok (.invokevirtual 423, 3) := dk_182 1 167 (dk_at dksX3_game_0 2 rfl rfl)
theorem dX3_game_5 : decode cX3_game 5 = .ok (.ifCond .eq 56, 3) := dk_153 0 56 (dk_at dksX3_game_0 5 rfl rfl)
theorem dX3_game_8 : decode cX3_game 8 = .ok (.aload_n 0, 1) := dk_42 (dk_at dksX3_game_0 8 rfl rfl)
theorem dX3_game_9 : decode cX3_game 9 = .ok (.iload_n 2, 1) := dk_28 (dk_at dksX3_game_0 9 rfl rfl)
theorem dX3_game_10 : decode cX3_game 10 = .ok (.invokevirtual 423, 3) := dk_182 1 167 (dk_at dksX3_game_0 10 rfl rfl)
theorem dX3_game_13 : decode cX3_game 13 = .ok (.ifCond .eq 48, 3) := dk_153 0 48 (dk_at dksX3_game_0 13 rfl rfl)
theorem dX3_game_16 : decode cX3_game 16 = .ok (.iload_n 1, 1) := dk_27 (dk_at dksX3_game_0 16 rfl rfl)
theorem dX3_game_17 : decode cX3_game 17 = .ok (.iload_n 2, 1) := dk_28 (dk_at dksX3_game_0 17 rfl rfl)
theorem dX3_game_18 : decode cX3_game 18 = .ok (.if_icmp .eq 43, 3) := dk_159 0 43 (dk_at dksX3_game_0 18 rfl rfl)
theorem dX3_game_21 : decode cX3_game 21 = .ok (.aload_n 0, 1) := dk_42 (dk_at dksX3_game_0 21 rfl rfl)
theorem dX3_game_22 : decode cX3_game 22 = .ok (.iload_n 3, 1) := dk_29 (dk_at dksX3_game_0 22 rfl rfl)
theorem dX3_game_23 : decode cX3_game 23 = .ok (.invokevirtual 417, 3) := dk_182 1 161 (dk_at dksX3_game_1 0 rfl rfl)
theorem dX3_game_26 : decode cX3_game 26 = .ok (.ifCond .eq 35, 3) := dk_153 0 35 (dk_at dksX3_game_1 3 rfl rfl)
theorem dX3_game_29 : decode cX3_game 29 = .ok (.aload_n 0, 1) := dk_42 (dk_at dksX3_game_1 6 rfl rfl)
theorem dX3_game_30 : decode cX3_game 30 = .ok (.iload_n 3, 1) := dk_29 (dk_at dksX3_game_1 7 rfl rfl)
theorem dX3_game_31 : decode cX3_game 31 = .ok (.invokevirtual 336, 3) := dk_182 1 80 (dk_at dksX3_game_1 8 rfl rfl)
theorem dX3_game_34 : decode cX3_game 34 = .ok (.ifCond .ne 27, 3) := dk_154 0 27 (dk_at dksX3_game_1 11 rfl rfl)
theorem dX3_game_37 : decode cX3_game 37 = .ok (.iload 4, 2) := dk_21 4 (dk_at dksX3_game_1 14 rfl rfl)
theorem dX3_game_39 : decode cX3_game 39 = .ok (.i2l, 1) := dk_133 (dk_at dksX3_game_1 16 rfl rfl)
theorem dX3_game_40 : decode cX3_game 40 = .ok (.lconst 1, 1) := dk_10 (dk_at dksX3_game_1 17 rfl rfl)
theorem dX3_game_41 : decode cX3_game 41 = .ok (.ldc2_w 535, 3) := dk_20 2 23 (dk_at dksX3_game_1 18 rfl rfl)
theorem dX3_game_44 : decode cX3_game 44 = .ok (.invokestatic 164, 3) := dk_184 0 164 (dk_at dksX3_game_1 21 rfl rfl)
theorem dX3_game_47 : decode cX3_game 47 = .ok (.ifCond .eq 14, 3) := dk_153 0 14 (dk_at dksX3_game_2 0 rfl rfl)
theorem dX3_game_50 : decode cX3_game 50 = .ok (.iload 5, 2) := dk_21 5 (dk_at dksX3_game_2 3 rfl rfl)
theorem dX3_game_52 : decode cX3_game 52 = .ok (.i2l, 1) := dk_133 (dk_at dksX3_game_2 5 rfl rfl)
theorem dX3_game_53 : decode cX3_game 53 = .ok (.lconst 0, 1) := dk_9 (dk_at dksX3_game_2 6 rfl rfl)
theorem dX3_game_54 : decode cX3_game 54 = .ok (.lconst 1, 1) := dk_10 (dk_at dksX3_game_2 7 rfl rfl)
theorem dX3_game_55 : decode cX3_game 55 = .ok (.invokestatic 164, 3) := dk_184 0 164 (dk_at dksX3_game_2 8 rfl rfl)
theorem dX3_game_58 : decode cX3_game 58 = .ok (.ifCond .ne 6, 3) := dk_154 0 6 (dk_at dksX3_game_2 11 rfl rfl)
theorem dX3_game_61 : decode cX3_game 61 = .ok (.bipush (-100), 2) := dk_16 156 (dk_at dksX3_game_2 14 rfl rfl)
theorem dX3_game_63 : decode cX3_game 63 = .ok (.ireturn, 1) := dk_172 (dk_at dksX3_game_2 16 rfl rfl)
theorem dX3_game_64 : decode cX3_game 64 = .ok (.aload_n 0, 1) := dk_42 (dk_at dksX3_game_2 17 rfl rfl)
theorem dX3_game_65 : decode cX3_game 65 = .ok (.iload_n 1, 1) := dk_27 (dk_at dksX3_game_2 18 rfl rfl)
theorem dX3_game_66 : decode cX3_game 66 = .ok (.iload_n 2, 1) := dk_28 (dk_at dksX3_game_2 19 rfl rfl)
theorem dX3_game_67 : decode cX3_game 67 = .ok (.iload_n 3, 1) := dk_29 (dk_at dksX3_game_2 20 rfl rfl)
theorem dX3_game_68 : decode cX3_game 68 = .ok (.iload 4, 2) := dk_21 4 (dk_at dksX3_game_2 21 rfl rfl)
theorem dX3_game_70 : decode cX3_game 70 = .ok (.invokevirtual 537, 3) := dk_182 2 25 (dk_at dksX3_game_3 0 rfl rfl)
theorem dX3_game_73 : decode cX3_game 73 = .ok (.istore 6, 2) := dk_54 6 (dk_at dksX3_game_3 3 rfl rfl)
theorem dX3_game_75 : decode cX3_game 75 = .ok (.iload 5, 2) := dk_21 5 (dk_at dksX3_game_3 5 rfl rfl)
theorem dX3_game_77 : decode cX3_game 77 = .ok (.ifCond .ne 8, 3) := dk_154 0 8 (dk_at dksX3_game_3 7 rfl rfl)
theorem dX3_game_80 : decode cX3_game 80 = .ok (.iload 6, 2) := dk_21 6 (dk_at dksX3_game_3 10 rfl rfl)
theorem dX3_game_82 : decode cX3_game 82 = .ok (.goto 7, 3) := dk_167 0 7 (dk_at dksX3_game_3 12 rfl rfl)
theorem dX3_game_85 : decode cX3_game 85 = .ok (.aload_n 0, 1) := dk_42 (dk_at dksX3_game_3 15 rfl rfl)
theorem dX3_game_86 : decode cX3_game 86 = .ok (.getfield 524, 3) := dk_180 2 12 (dk_at dksX3_game_3 16 rfl rfl)
theorem dX3_game_89 : decode cX3_game 89 = .ok (.ireturn, 1) := dk_172 (dk_at dksX3_game_3 19 rfl rfl)
abbrev cX3_playsGame : ByteArray := prog_17_method_104_code
def yX3_playsGame : MethodName := ⟨RX3, "playsGame", "(IIII)I"⟩
def dkwX3_playsGame_6 : List UInt8 := [46, 172]
abbrev dktX3_playsGame_6 : List UInt8 := dkwX3_playsGame_6 ++ []
def dkwX3_playsGame_5 : List UInt8 := [42, 21, 5, 42, 180, 0, 145, 21, 5, 4, 96, 46, 29, 182, 2, 19, 167, 255, 147, 42, 180, 0, 145, 3]
abbrev dktX3_playsGame_5 : List UInt8 := dkwX3_playsGame_5 ++ dktX3_playsGame_6
def dkwX3_playsGame_4 : List UInt8 := [16, 254, 79, 42, 180, 0, 145, 21, 5, 17, 3, 232, 79, 167, 255, 174, 132, 5, 255, 21, 5, 155, 255, 166]
abbrev dktX3_playsGame_4 : List UInt8 := dkwX3_playsGame_4 ++ dktX3_playsGame_5
def dkwX3_playsGame_3 : List UInt8 := [180, 0, 142, 21, 5, 46, 42, 29, 182, 1, 140, 162, 0, 28, 132, 5, 1, 42, 180, 0, 142, 21, 5]
abbrev dktX3_playsGame_3 : List UInt8 := dkwX3_playsGame_3 ++ dktX3_playsGame_4
def dkwX3_playsGame_2 : List UInt8 := [182, 2, 15, 29, 182, 2, 19, 167, 255, 225, 42, 180, 0, 142, 21, 5, 92, 46, 4, 96, 79, 42]
abbrev dktX3_playsGame_2 : List UInt8 := dkwX3_playsGame_2 ++ dktX3_playsGame_3
def dkwX3_playsGame_1 : List UInt8 := [21, 5, 155, 0, 110, 21, 5, 21, 4, 160, 0, 25, 132, 5, 255, 42, 21, 5, 42, 27, 28, 29, 21, 4]
abbrev dktX3_playsGame_1 : List UInt8 := dkwX3_playsGame_1 ++ dktX3_playsGame_2
def dkwX3_playsGame_0 : List UInt8 := [42, 182, 1, 235, 3, 54, 5, 42, 180, 0, 142, 3, 16, 254, 79, 42, 180, 0, 145, 3, 17, 3, 232, 79]
abbrev dktX3_playsGame_0 : List UInt8 := dkwX3_playsGame_0 ++ dktX3_playsGame_1
theorem dksX3_playsGame_0 : cX3_playsGame.data.toList.drop 0 = dktX3_playsGame_0 := by decide +kernel
theorem dksX3_playsGame_1 : cX3_playsGame.data.toList.drop 24 = dktX3_playsGame_1 := dk_seg dksX3_playsGame_0 24 rfl rfl
theorem dksX3_playsGame_2 : cX3_playsGame.data.toList.drop 48 = dktX3_playsGame_2 := dk_seg dksX3_playsGame_1 24 rfl rfl
theorem dksX3_playsGame_3 : cX3_playsGame.data.toList.drop 70 = dktX3_playsGame_3 := dk_seg dksX3_playsGame_2 22 rfl rfl
theorem dksX3_playsGame_4 : cX3_playsGame.data.toList.drop 93 = dktX3_playsGame_4 := dk_seg dksX3_playsGame_3 23 rfl rfl
theorem dksX3_playsGame_5 : cX3_playsGame.data.toList.drop 117 = dktX3_playsGame_5 := dk_seg dksX3_playsGame_4 24 rfl rfl
theorem dksX3_playsGame_6 : cX3_playsGame.data.toList.drop 141 = dktX3_playsGame_6 := dk_seg dksX3_playsGame_5 24 rfl rfl
theorem dX3_playsGame_0 : decode cX3_playsGame 0 = .ok (.aload_n 0, 1) := dk_42 (dk_at dksX3_playsGame_0 0 rfl rfl)
theorem dX3_playsGame_1 : decode cX3_playsGame 1 = .ok (.invokevirtual 491, 3) := dk_182 1 235 (dk_at dksX3_playsGame_0 1 rfl rfl)
theorem dX3_playsGame_4 : decode cX3_playsGame 4 = .ok (.iconst 0, 1) := dk_3 (dk_at dksX3_playsGame_0 4 rfl rfl)
theorem dX3_playsGame_5 : decode cX3_playsGame 5 = .ok (.istore 5, 2) := dk_54 5 (dk_at dksX3_playsGame_0 5 rfl rfl)
theorem dX3_playsGame_7 : decode cX3_playsGame 7 = .ok (.aload_n 0, 1) := dk_42 (dk_at dksX3_playsGame_0 7 rfl rfl)
theorem dX3_playsGame_8 : decode cX3_playsGame 8 = .ok (.getfield 142, 3) := dk_180 0 142 (dk_at dksX3_playsGame_0 8 rfl rfl)
theorem dX3_playsGame_11 : decode cX3_playsGame 11 = .ok (.iconst 0, 1) := dk_3 (dk_at dksX3_playsGame_0 11 rfl rfl)
theorem dX3_playsGame_12 : decode cX3_playsGame 12 = .ok (.bipush (-2), 2) := dk_16 254 (dk_at dksX3_playsGame_0 12 rfl rfl)
theorem dX3_playsGame_14 : decode cX3_playsGame 14 = .ok (.iastore, 1) := dk_79 (dk_at dksX3_playsGame_0 14 rfl rfl)
theorem dX3_playsGame_15 : decode cX3_playsGame 15 = .ok (.aload_n 0, 1) := dk_42 (dk_at dksX3_playsGame_0 15 rfl rfl)
theorem dX3_playsGame_16 : decode cX3_playsGame 16 = .ok (.getfield 145, 3) := dk_180 0 145 (dk_at dksX3_playsGame_0 16 rfl rfl)
theorem dX3_playsGame_19 : decode cX3_playsGame 19 = .ok (.iconst 0, 1) := dk_3 (dk_at dksX3_playsGame_0 19 rfl rfl)
theorem dX3_playsGame_20 : decode cX3_playsGame 20 = .ok (.sipush 1000, 3) := dk_17 3 232 (dk_at dksX3_playsGame_0 20 rfl rfl)
theorem dX3_playsGame_23 : decode cX3_playsGame 23 = .ok (.iastore, 1) := dk_79 (dk_at dksX3_playsGame_0 23 rfl rfl)
theorem dX3_playsGame_24 : decode cX3_playsGame 24 = .ok (.iload 5, 2) := dk_21 5 (dk_at dksX3_playsGame_1 0 rfl rfl)
theorem dX3_playsGame_26 : decode cX3_playsGame 26 = .ok (.ifCond .lt 110, 3) := dk_155 0 110 (dk_at dksX3_playsGame_1 2 rfl rfl)
theorem dX3_playsGame_29 : decode cX3_playsGame 29 = .ok (.iload 5, 2) := dk_21 5 (dk_at dksX3_playsGame_1 5 rfl rfl)
theorem dX3_playsGame_31 : decode cX3_playsGame 31 = .ok (.iload 4, 2) := dk_21 4 (dk_at dksX3_playsGame_1 7 rfl rfl)
theorem dX3_playsGame_33 : decode cX3_playsGame 33 = .ok (.if_icmp .ne 25, 3) := dk_160 0 25 (dk_at dksX3_playsGame_1 9 rfl rfl)
theorem dX3_playsGame_36 : decode cX3_playsGame 36 = .ok (.iinc 5 (-1), 3) := dk_132 5 255 (dk_at dksX3_playsGame_1 12 rfl rfl)
theorem dX3_playsGame_39 : decode cX3_playsGame 39 = .ok (.aload_n 0, 1) := dk_42 (dk_at dksX3_playsGame_1 15 rfl rfl)
theorem dX3_playsGame_40 : decode cX3_playsGame 40 = .ok (.iload 5, 2) := dk_21 5 (dk_at dksX3_playsGame_1 16 rfl rfl)
theorem dX3_playsGame_42 : decode cX3_playsGame 42 = .ok (.aload_n 0, 1) := dk_42 (dk_at dksX3_playsGame_1 18 rfl rfl)
theorem dX3_playsGame_43 : decode cX3_playsGame 43 = .ok (.iload_n 1, 1) := dk_27 (dk_at dksX3_playsGame_1 19 rfl rfl)
theorem dX3_playsGame_44 : decode cX3_playsGame 44 = .ok (.iload_n 2, 1) := dk_28 (dk_at dksX3_playsGame_1 20 rfl rfl)
theorem dX3_playsGame_45 : decode cX3_playsGame 45 = .ok (.iload_n 3, 1) := dk_29 (dk_at dksX3_playsGame_1 21 rfl rfl)
theorem dX3_playsGame_46 : decode cX3_playsGame 46 = .ok (.iload 4, 2) := dk_21 4 (dk_at dksX3_playsGame_1 22 rfl rfl)
theorem dX3_playsGame_48 : decode cX3_playsGame 48 = .ok (.invokevirtual 527, 3) := dk_182 2 15 (dk_at dksX3_playsGame_2 0 rfl rfl)
theorem dX3_playsGame_51 : decode cX3_playsGame 51 = .ok (.iload_n 3, 1) := dk_29 (dk_at dksX3_playsGame_2 3 rfl rfl)
theorem dX3_playsGame_52 : decode cX3_playsGame 52 = .ok (.invokevirtual 531, 3) := dk_182 2 19 (dk_at dksX3_playsGame_2 4 rfl rfl)
theorem dX3_playsGame_55 : decode cX3_playsGame 55 = .ok (.goto (-31), 3) := dk_167 255 225 (dk_at dksX3_playsGame_2 7 rfl rfl)
theorem dX3_playsGame_58 : decode cX3_playsGame 58 = .ok (.aload_n 0, 1) := dk_42 (dk_at dksX3_playsGame_2 10 rfl rfl)
theorem dX3_playsGame_59 : decode cX3_playsGame 59 = .ok (.getfield 142, 3) := dk_180 0 142 (dk_at dksX3_playsGame_2 11 rfl rfl)
theorem dX3_playsGame_62 : decode cX3_playsGame 62 = .ok (.iload 5, 2) := dk_21 5 (dk_at dksX3_playsGame_2 14 rfl rfl)
theorem dX3_playsGame_64 : decode cX3_playsGame 64 = .ok (.dup2, 1) := dk_92 (dk_at dksX3_playsGame_2 16 rfl rfl)
theorem dX3_playsGame_65 : decode cX3_playsGame 65 = .ok (.iaload, 1) := dk_46 (dk_at dksX3_playsGame_2 17 rfl rfl)
theorem dX3_playsGame_66 : decode cX3_playsGame 66 = .ok (.iconst 1, 1) := dk_4 (dk_at dksX3_playsGame_2 18 rfl rfl)
theorem dX3_playsGame_67 : decode cX3_playsGame 67 = .ok (.iadd, 1) := dk_96 (dk_at dksX3_playsGame_2 19 rfl rfl)
theorem dX3_playsGame_68 : decode cX3_playsGame 68 = .ok (.iastore, 1) := dk_79 (dk_at dksX3_playsGame_2 20 rfl rfl)
theorem dX3_playsGame_69 : decode cX3_playsGame 69 = .ok (.aload_n 0, 1) := dk_42 (dk_at dksX3_playsGame_2 21 rfl rfl)
theorem dX3_playsGame_70 : decode cX3_playsGame 70 = .ok (.getfield 142, 3) := dk_180 0 142 (dk_at dksX3_playsGame_3 0 rfl rfl)
theorem dX3_playsGame_73 : decode cX3_playsGame 73 = .ok (.iload 5, 2) := dk_21 5 (dk_at dksX3_playsGame_3 3 rfl rfl)
theorem dX3_playsGame_75 : decode cX3_playsGame 75 = .ok (.iaload, 1) := dk_46 (dk_at dksX3_playsGame_3 5 rfl rfl)
theorem dX3_playsGame_76 : decode cX3_playsGame 76 = .ok (.aload_n 0, 1) := dk_42 (dk_at dksX3_playsGame_3 6 rfl rfl)
theorem dX3_playsGame_77 : decode cX3_playsGame 77 = .ok (.iload_n 3, 1) := dk_29 (dk_at dksX3_playsGame_3 7 rfl rfl)
theorem dX3_playsGame_78 : decode cX3_playsGame 78 = .ok (.invokevirtual 396, 3) := dk_182 1 140 (dk_at dksX3_playsGame_3 8 rfl rfl)
theorem dX3_playsGame_81 : decode cX3_playsGame 81 = .ok (.if_icmp .ge 28, 3) := dk_162 0 28 (dk_at dksX3_playsGame_3 11 rfl rfl)
theorem dX3_playsGame_84 : decode cX3_playsGame 84 = .ok (.iinc 5 1, 3) := dk_132 5 1 (dk_at dksX3_playsGame_3 14 rfl rfl)
theorem dX3_playsGame_87 : decode cX3_playsGame 87 = .ok (.aload_n 0, 1) := dk_42 (dk_at dksX3_playsGame_3 17 rfl rfl)
theorem dX3_playsGame_88 : decode cX3_playsGame 88 = .ok (.getfield 142, 3) := dk_180 0 142 (dk_at dksX3_playsGame_3 18 rfl rfl)
theorem dX3_playsGame_91 : decode cX3_playsGame 91 = .ok (.iload 5, 2) := dk_21 5 (dk_at dksX3_playsGame_3 21 rfl rfl)
theorem dX3_playsGame_93 : decode cX3_playsGame 93 = .ok (.bipush (-2), 2) := dk_16 254 (dk_at dksX3_playsGame_4 0 rfl rfl)
theorem dX3_playsGame_95 : decode cX3_playsGame 95 = .ok (.iastore, 1) := dk_79 (dk_at dksX3_playsGame_4 2 rfl rfl)
theorem dX3_playsGame_96 : decode cX3_playsGame 96 = .ok (.aload_n 0, 1) := dk_42 (dk_at dksX3_playsGame_4 3 rfl rfl)
theorem dX3_playsGame_97 : decode cX3_playsGame 97 = .ok (.getfield 145, 3) := dk_180 0 145 (dk_at dksX3_playsGame_4 4 rfl rfl)
theorem dX3_playsGame_100 : decode cX3_playsGame 100 = .ok (.iload 5, 2) := dk_21 5 (dk_at dksX3_playsGame_4 7 rfl rfl)
theorem dX3_playsGame_102 : decode cX3_playsGame 102 = .ok (.sipush 1000, 3) := dk_17 3 232 (dk_at dksX3_playsGame_4 9 rfl rfl)
theorem dX3_playsGame_105 : decode cX3_playsGame 105 = .ok (.iastore, 1) := dk_79 (dk_at dksX3_playsGame_4 12 rfl rfl)
theorem dX3_playsGame_106 : decode cX3_playsGame 106 = .ok (.goto (-82), 3) := dk_167 255 174 (dk_at dksX3_playsGame_4 13 rfl rfl)
theorem dX3_playsGame_109 : decode cX3_playsGame 109 = .ok (.iinc 5 (-1), 3) := dk_132 5 255 (dk_at dksX3_playsGame_4 16 rfl rfl)
theorem dX3_playsGame_112 : decode cX3_playsGame 112 = .ok (.iload 5, 2) := dk_21 5 (dk_at dksX3_playsGame_4 19 rfl rfl)
theorem dX3_playsGame_114 : decode cX3_playsGame 114 = .ok (.ifCond .lt (-90), 3) := dk_155 255 166 (dk_at dksX3_playsGame_4 21 rfl rfl)
theorem dX3_playsGame_117 : decode cX3_playsGame 117 = .ok (.aload_n 0, 1) := dk_42 (dk_at dksX3_playsGame_5 0 rfl rfl)
theorem dX3_playsGame_118 : decode cX3_playsGame 118 = .ok (.iload 5, 2) := dk_21 5 (dk_at dksX3_playsGame_5 1 rfl rfl)
theorem dX3_playsGame_120 : decode cX3_playsGame 120 = .ok (.aload_n 0, 1) := dk_42 (dk_at dksX3_playsGame_5 3 rfl rfl)
theorem dX3_playsGame_121 : decode cX3_playsGame 121 = .ok (.getfield 145, 3) := dk_180 0 145 (dk_at dksX3_playsGame_5 4 rfl rfl)
theorem dX3_playsGame_124 : decode cX3_playsGame 124 = .ok (.iload 5, 2) := dk_21 5 (dk_at dksX3_playsGame_5 7 rfl rfl)
theorem dX3_playsGame_126 : decode cX3_playsGame 126 = .ok (.iconst 1, 1) := dk_4 (dk_at dksX3_playsGame_5 9 rfl rfl)
theorem dX3_playsGame_127 : decode cX3_playsGame 127 = .ok (.iadd, 1) := dk_96 (dk_at dksX3_playsGame_5 10 rfl rfl)
theorem dX3_playsGame_128 : decode cX3_playsGame 128 = .ok (.iaload, 1) := dk_46 (dk_at dksX3_playsGame_5 11 rfl rfl)
theorem dX3_playsGame_129 : decode cX3_playsGame 129 = .ok (.iload_n 3, 1) := dk_29 (dk_at dksX3_playsGame_5 12 rfl rfl)
theorem dX3_playsGame_130 : decode cX3_playsGame 130 = .ok (.invokevirtual 531, 3) := dk_182 2 19 (dk_at dksX3_playsGame_5 13 rfl rfl)
theorem dX3_playsGame_133 : decode cX3_playsGame 133 = .ok (.goto (-109), 3) := dk_167 255 147 (dk_at dksX3_playsGame_5 16 rfl rfl)
theorem dX3_playsGame_136 : decode cX3_playsGame 136 = .ok (.aload_n 0, 1) := dk_42 (dk_at dksX3_playsGame_5 19 rfl rfl)
theorem dX3_playsGame_137 : decode cX3_playsGame 137 = .ok (.getfield 145, 3) := dk_180 0 145 (dk_at dksX3_playsGame_5 20 rfl rfl)
theorem dX3_playsGame_140 : decode cX3_playsGame 140 = .ok (.iconst 0, 1) := dk_3 (dk_at dksX3_playsGame_5 23 rfl rfl)
theorem dX3_playsGame_141 : decode cX3_playsGame 141 = .ok (.iaload, 1) := dk_46 (dk_at dksX3_playsGame_6 0 rfl rfl)
theorem dX3_playsGame_142 : decode cX3_playsGame 142 = .ok (.ireturn, 1) := dk_172 (dk_at dksX3_playsGame_6 1 rfl rfl)
abbrev cX3_gameEnd : ByteArray := prog_17_method_102_code
def yX3_gameEnd : MethodName := ⟨RX3, "gameEnd", "(IIII)I"⟩
def dkwX3_gameEnd_4 : List UInt8 := [46, 100, 54, 5, 42, 182, 1, 241, 21, 5, 172]
abbrev dktX3_gameEnd_4 : List UInt8 := dkwX3_gameEnd_4 ++ []
def dkwX3_gameEnd_3 : List UInt8 := [42, 29, 42, 180, 0, 9, 16, 9, 46, 3, 182, 1, 136, 42, 180, 0, 124, 27, 46, 42, 180, 0, 124, 28]
abbrev dktX3_gameEnd_3 : List UInt8 := dkwX3_gameEnd_3 ++ dktX3_gameEnd_4
def dkwX3_gameEnd_2 : List UInt8 := [28, 182, 1, 192, 42, 182, 1, 201, 132, 5, 1, 167, 255, 201, 42, 42, 180, 0, 9, 3, 46, 182, 1, 245]
abbrev dktX3_gameEnd_2 : List UInt8 := dkwX3_gameEnd_2 ++ dktX3_gameEnd_3
def dkwX3_gameEnd_1 : List UInt8 := [180, 0, 13, 29, 46, 42, 180, 0, 142, 21, 5, 46, 96, 21, 5, 5, 112, 154, 0, 7, 27, 167, 0, 4]
abbrev dktX3_gameEnd_1 : List UInt8 := dkwX3_gameEnd_1 ++ dktX3_gameEnd_2
def dkwX3_gameEnd_0 : List UInt8 := [3, 54, 5, 21, 5, 21, 4, 162, 0, 54, 42, 180, 0, 142, 21, 5, 46, 2, 159, 0, 33, 42, 42]
abbrev dktX3_gameEnd_0 : List UInt8 := dkwX3_gameEnd_0 ++ dktX3_gameEnd_1
theorem dksX3_gameEnd_0 : cX3_gameEnd.data.toList.drop 0 = dktX3_gameEnd_0 := by decide +kernel
theorem dksX3_gameEnd_1 : cX3_gameEnd.data.toList.drop 23 = dktX3_gameEnd_1 := dk_seg dksX3_gameEnd_0 23 rfl rfl
theorem dksX3_gameEnd_2 : cX3_gameEnd.data.toList.drop 47 = dktX3_gameEnd_2 := dk_seg dksX3_gameEnd_1 24 rfl rfl
theorem dksX3_gameEnd_3 : cX3_gameEnd.data.toList.drop 71 = dktX3_gameEnd_3 := dk_seg dksX3_gameEnd_2 24 rfl rfl
theorem dksX3_gameEnd_4 : cX3_gameEnd.data.toList.drop 95 = dktX3_gameEnd_4 := dk_seg dksX3_gameEnd_3 24 rfl rfl
theorem dX3_gameEnd_0 : decode cX3_gameEnd 0 = .ok (.iconst 0, 1) := dk_3 (dk_at dksX3_gameEnd_0 0 rfl rfl)
theorem dX3_gameEnd_1 : decode cX3_gameEnd 1 = .ok (.istore 5, 2) := dk_54 5 (dk_at dksX3_gameEnd_0 1 rfl rfl)
theorem dX3_gameEnd_3 : decode cX3_gameEnd 3 = .ok (.iload 5, 2) := dk_21 5 (dk_at dksX3_gameEnd_0 3 rfl rfl)
theorem dX3_gameEnd_5 : decode cX3_gameEnd 5 = .ok (.iload 4, 2) := dk_21 4 (dk_at dksX3_gameEnd_0 5 rfl rfl)
theorem dX3_gameEnd_7 : decode cX3_gameEnd 7 = .ok (.if_icmp .ge 54, 3) := dk_162 0 54 (dk_at dksX3_gameEnd_0 7 rfl rfl)
theorem dX3_gameEnd_10 : decode cX3_gameEnd 10 = .ok (.aload_n 0, 1) := dk_42 (dk_at dksX3_gameEnd_0 10 rfl rfl)
theorem dX3_gameEnd_11 : decode cX3_gameEnd 11 = .ok (.getfield 142, 3) := dk_180 0 142 (dk_at dksX3_gameEnd_0 11 rfl rfl)
theorem dX3_gameEnd_14 : decode cX3_gameEnd 14 = .ok (.iload 5, 2) := dk_21 5 (dk_at dksX3_gameEnd_0 14 rfl rfl)
theorem dX3_gameEnd_16 : decode cX3_gameEnd 16 = .ok (.iaload, 1) := dk_46 (dk_at dksX3_gameEnd_0 16 rfl rfl)
theorem dX3_gameEnd_17 : decode cX3_gameEnd 17 = .ok (.iconst (-1), 1) := dk_2 (dk_at dksX3_gameEnd_0 17 rfl rfl)
theorem dX3_gameEnd_18 : decode cX3_gameEnd 18 = .ok (.if_icmp .eq 33, 3) := dk_159 0 33 (dk_at dksX3_gameEnd_0 18 rfl rfl)
theorem dX3_gameEnd_21 : decode cX3_gameEnd 21 = .ok (.aload_n 0, 1) := dk_42 (dk_at dksX3_gameEnd_0 21 rfl rfl)
theorem dX3_gameEnd_22 : decode cX3_gameEnd 22 = .ok (.aload_n 0, 1) := dk_42 (dk_at dksX3_gameEnd_0 22 rfl rfl)
theorem dX3_gameEnd_23 : decode cX3_gameEnd 23 = .ok (.getfield 13, 3) := dk_180 0 13 (dk_at dksX3_gameEnd_1 0 rfl rfl)
theorem dX3_gameEnd_26 : decode cX3_gameEnd 26 = .ok (.iload_n 3, 1) := dk_29 (dk_at dksX3_gameEnd_1 3 rfl rfl)
theorem dX3_gameEnd_27 : decode cX3_gameEnd 27 = .ok (.iaload, 1) := dk_46 (dk_at dksX3_gameEnd_1 4 rfl rfl)
theorem dX3_gameEnd_28 : decode cX3_gameEnd 28 = .ok (.aload_n 0, 1) := dk_42 (dk_at dksX3_gameEnd_1 5 rfl rfl)
theorem dX3_gameEnd_29 : decode cX3_gameEnd 29 = .ok (.getfield 142, 3) := dk_180 0 142 (dk_at dksX3_gameEnd_1 6 rfl rfl)
theorem dX3_gameEnd_32 : decode cX3_gameEnd 32 = .ok (.iload 5, 2) := dk_21 5 (dk_at dksX3_gameEnd_1 9 rfl rfl)
theorem dX3_gameEnd_34 : decode cX3_gameEnd 34 = .ok (.iaload, 1) := dk_46 (dk_at dksX3_gameEnd_1 11 rfl rfl)
theorem dX3_gameEnd_35 : decode cX3_gameEnd 35 = .ok (.iadd, 1) := dk_96 (dk_at dksX3_gameEnd_1 12 rfl rfl)
theorem dX3_gameEnd_36 : decode cX3_gameEnd 36 = .ok (.iload 5, 2) := dk_21 5 (dk_at dksX3_gameEnd_1 13 rfl rfl)
theorem dX3_gameEnd_38 : decode cX3_gameEnd 38 = .ok (.iconst 2, 1) := dk_5 (dk_at dksX3_gameEnd_1 15 rfl rfl)
theorem dX3_gameEnd_39 : decode cX3_gameEnd 39 = .ok (.irem, 1) := dk_112 (dk_at dksX3_gameEnd_1 16 rfl rfl)
theorem dX3_gameEnd_40 : decode cX3_gameEnd 40 = .ok (.ifCond .ne 7, 3) := dk_154 0 7 (dk_at dksX3_gameEnd_1 17 rfl rfl)
theorem dX3_gameEnd_43 : decode cX3_gameEnd 43 = .ok (.iload_n 1, 1) := dk_27 (dk_at dksX3_gameEnd_1 20 rfl rfl)
theorem dX3_gameEnd_44 : decode cX3_gameEnd 44 = .ok (.goto 4, 3) := dk_167 0 4 (dk_at dksX3_gameEnd_1 21 rfl rfl)
theorem dX3_gameEnd_47 : decode cX3_gameEnd 47 = .ok (.iload_n 2, 1) := dk_28 (dk_at dksX3_gameEnd_2 0 rfl rfl)
theorem dX3_gameEnd_48 : decode cX3_gameEnd 48 = .ok (.invokevirtual 448, 3) := dk_182 1 192 (dk_at dksX3_gameEnd_2 1 rfl rfl)
theorem dX3_gameEnd_51 : decode cX3_gameEnd 51 = .ok (.aload_n 0, 1) := dk_42 (dk_at dksX3_gameEnd_2 4 rfl rfl)
theorem dX3_gameEnd_52 : decode cX3_gameEnd 52 = .ok (.invokevirtual 457, 3) := dk_182 1 201 (dk_at dksX3_gameEnd_2 5 rfl rfl)
theorem dX3_gameEnd_55 : decode cX3_gameEnd 55 = .ok (.iinc 5 1, 3) := dk_132 5 1 (dk_at dksX3_gameEnd_2 8 rfl rfl)
theorem dX3_gameEnd_58 : decode cX3_gameEnd 58 = .ok (.goto (-55), 3) := dk_167 255 201 (dk_at dksX3_gameEnd_2 11 rfl rfl)
theorem dX3_gameEnd_61 : decode cX3_gameEnd 61 = .ok (.aload_n 0, 1) := dk_42 (dk_at dksX3_gameEnd_2 14 rfl rfl)
theorem dX3_gameEnd_62 : decode cX3_gameEnd 62 = .ok (.aload_n 0, 1) := dk_42 (dk_at dksX3_gameEnd_2 15 rfl rfl)
theorem dX3_gameEnd_63 : decode cX3_gameEnd 63 = .ok (.getfield 9, 3) := dk_180 0 9 (dk_at dksX3_gameEnd_2 16 rfl rfl)
theorem dX3_gameEnd_66 : decode cX3_gameEnd 66 = .ok (.iconst 0, 1) := dk_3 (dk_at dksX3_gameEnd_2 19 rfl rfl)
theorem dX3_gameEnd_67 : decode cX3_gameEnd 67 = .ok (.iaload, 1) := dk_46 (dk_at dksX3_gameEnd_2 20 rfl rfl)
theorem dX3_gameEnd_68 : decode cX3_gameEnd 68 = .ok (.invokevirtual 501, 3) := dk_182 1 245 (dk_at dksX3_gameEnd_2 21 rfl rfl)
theorem dX3_gameEnd_71 : decode cX3_gameEnd 71 = .ok (.aload_n 0, 1) := dk_42 (dk_at dksX3_gameEnd_3 0 rfl rfl)
theorem dX3_gameEnd_72 : decode cX3_gameEnd 72 = .ok (.iload_n 3, 1) := dk_29 (dk_at dksX3_gameEnd_3 1 rfl rfl)
theorem dX3_gameEnd_73 : decode cX3_gameEnd 73 = .ok (.aload_n 0, 1) := dk_42 (dk_at dksX3_gameEnd_3 2 rfl rfl)
theorem dX3_gameEnd_74 : decode cX3_gameEnd 74 = .ok (.getfield 9, 3) := dk_180 0 9 (dk_at dksX3_gameEnd_3 3 rfl rfl)
theorem dX3_gameEnd_77 : decode cX3_gameEnd 77 = .ok (.bipush 9, 2) := dk_16 9 (dk_at dksX3_gameEnd_3 6 rfl rfl)
theorem dX3_gameEnd_79 : decode cX3_gameEnd 79 = .ok (.iaload, 1) := dk_46 (dk_at dksX3_gameEnd_3 8 rfl rfl)
theorem dX3_gameEnd_80 : decode cX3_gameEnd 80 = .ok (.iconst 0, 1) := dk_3 (dk_at dksX3_gameEnd_3 9 rfl rfl)
theorem dX3_gameEnd_81 : decode cX3_gameEnd 81 = .ok (.invokevirtual 392, 3) := dk_182 1 136 (dk_at dksX3_gameEnd_3 10 rfl rfl)
theorem dX3_gameEnd_84 : decode cX3_gameEnd 84 = .ok (.aload_n 0, 1) := dk_42 (dk_at dksX3_gameEnd_3 13 rfl rfl)
theorem dX3_gameEnd_85 : decode cX3_gameEnd 85 = .ok (.getfield 124, 3) := dk_180 0 124 (dk_at dksX3_gameEnd_3 14 rfl rfl)
theorem dX3_gameEnd_88 : decode cX3_gameEnd 88 = .ok (.iload_n 1, 1) := dk_27 (dk_at dksX3_gameEnd_3 17 rfl rfl)
theorem dX3_gameEnd_89 : decode cX3_gameEnd 89 = .ok (.iaload, 1) := dk_46 (dk_at dksX3_gameEnd_3 18 rfl rfl)
theorem dX3_gameEnd_90 : decode cX3_gameEnd 90 = .ok (.aload_n 0, 1) := dk_42 (dk_at dksX3_gameEnd_3 19 rfl rfl)
theorem dX3_gameEnd_91 : decode cX3_gameEnd 91 = .ok (.getfield 124, 3) := dk_180 0 124 (dk_at dksX3_gameEnd_3 20 rfl rfl)
theorem dX3_gameEnd_94 : decode cX3_gameEnd 94 = .ok (.iload_n 2, 1) := dk_28 (dk_at dksX3_gameEnd_3 23 rfl rfl)
theorem dX3_gameEnd_95 : decode cX3_gameEnd 95 = .ok (.iaload, 1) := dk_46 (dk_at dksX3_gameEnd_4 0 rfl rfl)
theorem dX3_gameEnd_96 : decode cX3_gameEnd 96 = .ok (.isub, 1) := dk_100 (dk_at dksX3_gameEnd_4 1 rfl rfl)
theorem dX3_gameEnd_97 : decode cX3_gameEnd 97 = .ok (.istore 5, 2) := dk_54 5 (dk_at dksX3_gameEnd_4 2 rfl rfl)
theorem dX3_gameEnd_99 : decode cX3_gameEnd 99 = .ok (.aload_n 0, 1) := dk_42 (dk_at dksX3_gameEnd_4 4 rfl rfl)
theorem dX3_gameEnd_100 : decode cX3_gameEnd 100 = .ok (.invokevirtual 497, 3) := dk_182 1 241 (dk_at dksX3_gameEnd_4 5 rfl rfl)
theorem dX3_gameEnd_103 : decode cX3_gameEnd 103 = .ok (.iload 5, 2) := dk_21 5 (dk_at dksX3_gameEnd_4 8 rfl rfl)
theorem dX3_gameEnd_105 : decode cX3_gameEnd 105 = .ok (.ireturn, 1) := dk_172 (dk_at dksX3_gameEnd_4 10 rfl rfl)
abbrev cX3_takesValue : ByteArray := prog_17_method_103_code
def yX3_takesValue : MethodName := ⟨RX3, "takesValue", "(III)V"⟩
def dkwX3_takesValue_4 : List UInt8 := [180, 2, 12, 181, 2, 12, 177]
abbrev dktX3_takesValue_4 : List UInt8 := dkwX3_takesValue_4 ++ []
def dkwX3_takesValue_3 : List UInt8 := [160, 0, 7, 2, 167, 0, 23, 42, 180, 0, 13, 29, 46, 42, 180, 0, 142, 3, 46, 96, 167, 0, 7, 42]
abbrev dktX3_takesValue_3 : List UInt8 := dkwX3_takesValue_3 ++ dktX3_takesValue_4
def dkwX3_takesValue_2 : List UInt8 := [21, 4, 153, 0, 52, 42, 180, 0, 145, 27, 28, 79, 42, 27, 154, 0, 33, 42, 180, 0, 142, 3, 46, 2]
abbrev dktX3_takesValue_2 : List UInt8 := dkwX3_takesValue_2 ++ dktX3_takesValue_3
def dkwX3_takesValue_1 : List UInt8 := [46, 164, 0, 20, 167, 0, 13, 28, 42, 180, 0, 145, 27, 46, 162, 0, 7, 4, 167, 0, 4, 3, 54, 4]
abbrev dktX3_takesValue_1 : List UInt8 := dkwX3_takesValue_1 ++ dktX3_takesValue_2
def dkwX3_takesValue_0 : List UInt8 := [42, 180, 0, 145, 27, 46, 17, 3, 232, 159, 0, 32, 27, 5, 112, 154, 0, 16, 28, 42, 180, 0, 145, 27]
abbrev dktX3_takesValue_0 : List UInt8 := dkwX3_takesValue_0 ++ dktX3_takesValue_1
theorem dksX3_takesValue_0 : cX3_takesValue.data.toList.drop 0 = dktX3_takesValue_0 := by decide +kernel
theorem dksX3_takesValue_1 : cX3_takesValue.data.toList.drop 24 = dktX3_takesValue_1 := dk_seg dksX3_takesValue_0 24 rfl rfl
theorem dksX3_takesValue_2 : cX3_takesValue.data.toList.drop 48 = dktX3_takesValue_2 := dk_seg dksX3_takesValue_1 24 rfl rfl
theorem dksX3_takesValue_3 : cX3_takesValue.data.toList.drop 72 = dktX3_takesValue_3 := dk_seg dksX3_takesValue_2 24 rfl rfl
theorem dksX3_takesValue_4 : cX3_takesValue.data.toList.drop 96 = dktX3_takesValue_4 := dk_seg dksX3_takesValue_3 24 rfl rfl
theorem dX3_takesValue_0 : decode cX3_takesValue 0 = .ok (.aload_n 0, 1) := dk_42 (dk_at dksX3_takesValue_0 0 rfl rfl)
theorem dX3_takesValue_1 : decode cX3_takesValue 1 = .ok (.getfield 145, 3) := dk_180 0 145 (dk_at dksX3_takesValue_0 1 rfl rfl)
theorem dX3_takesValue_4 : decode cX3_takesValue 4 = .ok (.iload_n 1, 1) := dk_27 (dk_at dksX3_takesValue_0 4 rfl rfl)
theorem dX3_takesValue_5 : decode cX3_takesValue 5 = .ok (.iaload, 1) := dk_46 (dk_at dksX3_takesValue_0 5 rfl rfl)
theorem dX3_takesValue_6 : decode cX3_takesValue 6 = .ok (.sipush 1000, 3) := dk_17 3 232 (dk_at dksX3_takesValue_0 6 rfl rfl)
theorem dX3_takesValue_9 : decode cX3_takesValue 9 = .ok (.if_icmp .eq 32, 3) := dk_159 0 32 (dk_at dksX3_takesValue_0 9 rfl rfl)
theorem dX3_takesValue_12 : decode cX3_takesValue 12 = .ok (.iload_n 1, 1) := dk_27 (dk_at dksX3_takesValue_0 12 rfl rfl)
theorem dX3_takesValue_13 : decode cX3_takesValue 13 = .ok (.iconst 2, 1) := dk_5 (dk_at dksX3_takesValue_0 13 rfl rfl)
theorem dX3_takesValue_14 : decode cX3_takesValue 14 = .ok (.irem, 1) := dk_112 (dk_at dksX3_takesValue_0 14 rfl rfl)
theorem dX3_takesValue_15 : decode cX3_takesValue 15 = .ok (.ifCond .ne 16, 3) := dk_154 0 16 (dk_at dksX3_takesValue_0 15 rfl rfl)
theorem dX3_takesValue_18 : decode cX3_takesValue 18 = .ok (.iload_n 2, 1) := dk_28 (dk_at dksX3_takesValue_0 18 rfl rfl)
theorem dX3_takesValue_19 : decode cX3_takesValue 19 = .ok (.aload_n 0, 1) := dk_42 (dk_at dksX3_takesValue_0 19 rfl rfl)
theorem dX3_takesValue_20 : decode cX3_takesValue 20 = .ok (.getfield 145, 3) := dk_180 0 145 (dk_at dksX3_takesValue_0 20 rfl rfl)
theorem dX3_takesValue_23 : decode cX3_takesValue 23 = .ok (.iload_n 1, 1) := dk_27 (dk_at dksX3_takesValue_0 23 rfl rfl)
theorem dX3_takesValue_24 : decode cX3_takesValue 24 = .ok (.iaload, 1) := dk_46 (dk_at dksX3_takesValue_1 0 rfl rfl)
theorem dX3_takesValue_25 : decode cX3_takesValue 25 = .ok (.if_icmp .le 20, 3) := dk_164 0 20 (dk_at dksX3_takesValue_1 1 rfl rfl)
theorem dX3_takesValue_28 : decode cX3_takesValue 28 = .ok (.goto 13, 3) := dk_167 0 13 (dk_at dksX3_takesValue_1 4 rfl rfl)
theorem dX3_takesValue_31 : decode cX3_takesValue 31 = .ok (.iload_n 2, 1) := dk_28 (dk_at dksX3_takesValue_1 7 rfl rfl)
theorem dX3_takesValue_32 : decode cX3_takesValue 32 = .ok (.aload_n 0, 1) := dk_42 (dk_at dksX3_takesValue_1 8 rfl rfl)
theorem dX3_takesValue_33 : decode cX3_takesValue 33 = .ok (.getfield 145, 3) := dk_180 0 145 (dk_at dksX3_takesValue_1 9 rfl rfl)
theorem dX3_takesValue_36 : decode cX3_takesValue 36 = .ok (.iload_n 1, 1) := dk_27 (dk_at dksX3_takesValue_1 12 rfl rfl)
theorem dX3_takesValue_37 : decode cX3_takesValue 37 = .ok (.iaload, 1) := dk_46 (dk_at dksX3_takesValue_1 13 rfl rfl)
theorem dX3_takesValue_38 : decode cX3_takesValue 38 = .ok (.if_icmp .ge 7, 3) := dk_162 0 7 (dk_at dksX3_takesValue_1 14 rfl rfl)
theorem dX3_takesValue_41 : decode cX3_takesValue 41 = .ok (.iconst 1, 1) := dk_4 (dk_at dksX3_takesValue_1 17 rfl rfl)
theorem dX3_takesValue_42 : decode cX3_takesValue 42 = .ok (.goto 4, 3) := dk_167 0 4 (dk_at dksX3_takesValue_1 18 rfl rfl)
theorem dX3_takesValue_45 : decode cX3_takesValue 45 = .ok (.iconst 0, 1) := dk_3 (dk_at dksX3_takesValue_1 21 rfl rfl)
theorem dX3_takesValue_46 : decode cX3_takesValue 46 = .ok (.istore 4, 2) := dk_54 4 (dk_at dksX3_takesValue_1 22 rfl rfl)
theorem dX3_takesValue_48 : decode cX3_takesValue 48 = .ok (.iload 4, 2) := dk_21 4 (dk_at dksX3_takesValue_2 0 rfl rfl)
theorem dX3_takesValue_50 : decode cX3_takesValue 50 = .ok (.ifCond .eq 52, 3) := dk_153 0 52 (dk_at dksX3_takesValue_2 2 rfl rfl)
theorem dX3_takesValue_53 : decode cX3_takesValue 53 = .ok (.aload_n 0, 1) := dk_42 (dk_at dksX3_takesValue_2 5 rfl rfl)
theorem dX3_takesValue_54 : decode cX3_takesValue 54 = .ok (.getfield 145, 3) := dk_180 0 145 (dk_at dksX3_takesValue_2 6 rfl rfl)
theorem dX3_takesValue_57 : decode cX3_takesValue 57 = .ok (.iload_n 1, 1) := dk_27 (dk_at dksX3_takesValue_2 9 rfl rfl)
theorem dX3_takesValue_58 : decode cX3_takesValue 58 = .ok (.iload_n 2, 1) := dk_28 (dk_at dksX3_takesValue_2 10 rfl rfl)
theorem dX3_takesValue_59 : decode cX3_takesValue 59 = .ok (.iastore, 1) := dk_79 (dk_at dksX3_takesValue_2 11 rfl rfl)
theorem dX3_takesValue_60 : decode cX3_takesValue 60 = .ok (.aload_n 0, 1) := dk_42 (dk_at dksX3_takesValue_2 12 rfl rfl)
theorem dX3_takesValue_61 : decode cX3_takesValue 61 = .ok (.iload_n 1, 1) := dk_27 (dk_at dksX3_takesValue_2 13 rfl rfl)
theorem dX3_takesValue_62 : decode cX3_takesValue 62 = .ok (.ifCond .ne 33, 3) := dk_154 0 33 (dk_at dksX3_takesValue_2 14 rfl rfl)
theorem dX3_takesValue_65 : decode cX3_takesValue 65 = .ok (.aload_n 0, 1) := dk_42 (dk_at dksX3_takesValue_2 17 rfl rfl)
theorem dX3_takesValue_66 : decode cX3_takesValue 66 = .ok (.getfield 142, 3) := dk_180 0 142 (dk_at dksX3_takesValue_2 18 rfl rfl)
theorem dX3_takesValue_69 : decode cX3_takesValue 69 = .ok (.iconst 0, 1) := dk_3 (dk_at dksX3_takesValue_2 21 rfl rfl)
theorem dX3_takesValue_70 : decode cX3_takesValue 70 = .ok (.iaload, 1) := dk_46 (dk_at dksX3_takesValue_2 22 rfl rfl)
theorem dX3_takesValue_71 : decode cX3_takesValue 71 = .ok (.iconst (-1), 1) := dk_2 (dk_at dksX3_takesValue_2 23 rfl rfl)
theorem dX3_takesValue_72 : decode cX3_takesValue 72 = .ok (.if_icmp .ne 7, 3) := dk_160 0 7 (dk_at dksX3_takesValue_3 0 rfl rfl)
theorem dX3_takesValue_75 : decode cX3_takesValue 75 = .ok (.iconst (-1), 1) := dk_2 (dk_at dksX3_takesValue_3 3 rfl rfl)
theorem dX3_takesValue_76 : decode cX3_takesValue 76 = .ok (.goto 23, 3) := dk_167 0 23 (dk_at dksX3_takesValue_3 4 rfl rfl)
theorem dX3_takesValue_79 : decode cX3_takesValue 79 = .ok (.aload_n 0, 1) := dk_42 (dk_at dksX3_takesValue_3 7 rfl rfl)
theorem dX3_takesValue_80 : decode cX3_takesValue 80 = .ok (.getfield 13, 3) := dk_180 0 13 (dk_at dksX3_takesValue_3 8 rfl rfl)
theorem dX3_takesValue_83 : decode cX3_takesValue 83 = .ok (.iload_n 3, 1) := dk_29 (dk_at dksX3_takesValue_3 11 rfl rfl)
theorem dX3_takesValue_84 : decode cX3_takesValue 84 = .ok (.iaload, 1) := dk_46 (dk_at dksX3_takesValue_3 12 rfl rfl)
theorem dX3_takesValue_85 : decode cX3_takesValue 85 = .ok (.aload_n 0, 1) := dk_42 (dk_at dksX3_takesValue_3 13 rfl rfl)
theorem dX3_takesValue_86 : decode cX3_takesValue 86 = .ok (.getfield 142, 3) := dk_180 0 142 (dk_at dksX3_takesValue_3 14 rfl rfl)
theorem dX3_takesValue_89 : decode cX3_takesValue 89 = .ok (.iconst 0, 1) := dk_3 (dk_at dksX3_takesValue_3 17 rfl rfl)
theorem dX3_takesValue_90 : decode cX3_takesValue 90 = .ok (.iaload, 1) := dk_46 (dk_at dksX3_takesValue_3 18 rfl rfl)
theorem dX3_takesValue_91 : decode cX3_takesValue 91 = .ok (.iadd, 1) := dk_96 (dk_at dksX3_takesValue_3 19 rfl rfl)
theorem dX3_takesValue_92 : decode cX3_takesValue 92 = .ok (.goto 7, 3) := dk_167 0 7 (dk_at dksX3_takesValue_3 20 rfl rfl)
theorem dX3_takesValue_95 : decode cX3_takesValue 95 = .ok (.aload_n 0, 1) := dk_42 (dk_at dksX3_takesValue_3 23 rfl rfl)
theorem dX3_takesValue_96 : decode cX3_takesValue 96 = .ok (.getfield 524, 3) := dk_180 2 12 (dk_at dksX3_takesValue_4 0 rfl rfl)
theorem dX3_takesValue_99 : decode cX3_takesValue 99 = .ok (.putfield 524, 3) := dk_181 2 12 (dk_at dksX3_takesValue_4 3 rfl rfl)
theorem dX3_takesValue_102 : decode cX3_takesValue 102 = .ok (.return_, 1) := dk_177 (dk_at dksX3_takesValue_4 6 rfl rfl)
abbrev cX3_share : ByteArray := prog_17_method_106_code
def yX3_share : MethodName := ⟨RX3, "share", "(III)I"⟩
def dkwX3_share_4 : List UInt8 := [167, 0, 11, 42, 28, 182, 1, 140, 21, 6, 108, 172]
abbrev dktX3_share_4 : List UInt8 := dkwX3_share_4 ++ []
def dkwX3_share_3 : List UInt8 := [54, 7, 21, 5, 54, 6, 21, 7, 54, 5, 167, 255, 236, 29, 154, 0, 11, 21, 4, 21, 6, 108]
abbrev dktX3_share_3 : List UInt8 := dkwX3_share_3 ++ dktX3_share_4
def dkwX3_share_2 : List UInt8 := [54, 4, 21, 4, 54, 5, 42, 28, 182, 1, 140, 54, 6, 21, 5, 153, 0, 21, 21, 6, 21, 5, 112]
abbrev dktX3_share_2 : List UInt8 := dkwX3_share_2 ++ dktX3_share_3
def dkwX3_share_1 : List UInt8 := [154, 0, 5, 2, 172, 42, 28, 42, 180, 0, 9, 16, 9, 46, 3, 182, 1, 136, 42, 180, 0, 124, 27, 46]
abbrev dktX3_share_1 : List UInt8 := dkwX3_share_1 ++ dktX3_share_2
def dkwX3_share_0 : List UInt8 := [42, 27, 182, 1, 167, 153, 0, 21, 42, 28, 182, 1, 161, 153, 0, 13, 29, 133, 9, 10, 184, 0, 164]
abbrev dktX3_share_0 : List UInt8 := dkwX3_share_0 ++ dktX3_share_1
theorem dksX3_share_0 : cX3_share.data.toList.drop 0 = dktX3_share_0 := by decide +kernel
theorem dksX3_share_1 : cX3_share.data.toList.drop 23 = dktX3_share_1 := dk_seg dksX3_share_0 23 rfl rfl
theorem dksX3_share_2 : cX3_share.data.toList.drop 47 = dktX3_share_2 := dk_seg dksX3_share_1 24 rfl rfl
theorem dksX3_share_3 : cX3_share.data.toList.drop 70 = dktX3_share_3 := dk_seg dksX3_share_2 23 rfl rfl
theorem dksX3_share_4 : cX3_share.data.toList.drop 92 = dktX3_share_4 := dk_seg dksX3_share_3 22 rfl rfl
theorem dX3_share_0 : decode cX3_share 0 = .ok (.aload_n 0, 1) := dk_42 (dk_at dksX3_share_0 0 rfl rfl)
theorem dX3_share_1 : decode cX3_share 1 = .ok (.iload_n 1, 1) := dk_27 (dk_at dksX3_share_0 1 rfl rfl)
theorem dX3_share_2 : decode cX3_share 2 = .ok (.invokevirtual 423, 3) := dk_182 1 167 (dk_at dksX3_share_0 2 rfl rfl)
theorem dX3_share_5 : decode cX3_share 5 = .ok (.ifCond .eq 21, 3) := dk_153 0 21 (dk_at dksX3_share_0 5 rfl rfl)
theorem dX3_share_8 : decode cX3_share 8 = .ok (.aload_n 0, 1) := dk_42 (dk_at dksX3_share_0 8 rfl rfl)
theorem dX3_share_9 : decode cX3_share 9 = .ok (.iload_n 2, 1) := dk_28 (dk_at dksX3_share_0 9 rfl rfl)
theorem dX3_share_10 : decode cX3_share 10 = .ok (.invokevirtual 417, 3) := dk_182 1 161 (dk_at dksX3_share_0 10 rfl rfl)
theorem dX3_share_13 : decode cX3_share 13 = .ok (.ifCond .eq 13, 3) := dk_153 0 13 (dk_at dksX3_share_0 13 rfl rfl)
theorem dX3_share_16 : decode cX3_share 16 = .ok (.iload_n 3, 1) := dk_29 (dk_at dksX3_share_0 16 rfl rfl)
theorem dX3_share_17 : decode cX3_share 17 = .ok (.i2l, 1) := dk_133 (dk_at dksX3_share_0 17 rfl rfl)
theorem dX3_share_18 : decode cX3_share 18 = .ok (.lconst 0, 1) := dk_9 (dk_at dksX3_share_0 18 rfl rfl)
theorem dX3_share_19 : decode cX3_share 19 = .ok (.lconst 1, 1) := dk_10 (dk_at dksX3_share_0 19 rfl rfl)
theorem dX3_share_20 : decode cX3_share 20 = .ok (.invokestatic 164, 3) := dk_184 0 164 (dk_at dksX3_share_0 20 rfl rfl)
theorem dX3_share_23 : decode cX3_share 23 = .ok (.ifCond .ne 5, 3) := dk_154 0 5 (dk_at dksX3_share_1 0 rfl rfl)
theorem dX3_share_26 : decode cX3_share 26 = .ok (.iconst (-1), 1) := dk_2 (dk_at dksX3_share_1 3 rfl rfl)
theorem dX3_share_27 : decode cX3_share 27 = .ok (.ireturn, 1) := dk_172 (dk_at dksX3_share_1 4 rfl rfl)
theorem dX3_share_28 : decode cX3_share 28 = .ok (.aload_n 0, 1) := dk_42 (dk_at dksX3_share_1 5 rfl rfl)
theorem dX3_share_29 : decode cX3_share 29 = .ok (.iload_n 2, 1) := dk_28 (dk_at dksX3_share_1 6 rfl rfl)
theorem dX3_share_30 : decode cX3_share 30 = .ok (.aload_n 0, 1) := dk_42 (dk_at dksX3_share_1 7 rfl rfl)
theorem dX3_share_31 : decode cX3_share 31 = .ok (.getfield 9, 3) := dk_180 0 9 (dk_at dksX3_share_1 8 rfl rfl)
theorem dX3_share_34 : decode cX3_share 34 = .ok (.bipush 9, 2) := dk_16 9 (dk_at dksX3_share_1 11 rfl rfl)
theorem dX3_share_36 : decode cX3_share 36 = .ok (.iaload, 1) := dk_46 (dk_at dksX3_share_1 13 rfl rfl)
theorem dX3_share_37 : decode cX3_share 37 = .ok (.iconst 0, 1) := dk_3 (dk_at dksX3_share_1 14 rfl rfl)
theorem dX3_share_38 : decode cX3_share 38 = .ok (.invokevirtual 392, 3) := dk_182 1 136 (dk_at dksX3_share_1 15 rfl rfl)
theorem dX3_share_41 : decode cX3_share 41 = .ok (.aload_n 0, 1) := dk_42 (dk_at dksX3_share_1 18 rfl rfl)
theorem dX3_share_42 : decode cX3_share 42 = .ok (.getfield 124, 3) := dk_180 0 124 (dk_at dksX3_share_1 19 rfl rfl)
theorem dX3_share_45 : decode cX3_share 45 = .ok (.iload_n 1, 1) := dk_27 (dk_at dksX3_share_1 22 rfl rfl)
theorem dX3_share_46 : decode cX3_share 46 = .ok (.iaload, 1) := dk_46 (dk_at dksX3_share_1 23 rfl rfl)
theorem dX3_share_47 : decode cX3_share 47 = .ok (.istore 4, 2) := dk_54 4 (dk_at dksX3_share_2 0 rfl rfl)
theorem dX3_share_49 : decode cX3_share 49 = .ok (.iload 4, 2) := dk_21 4 (dk_at dksX3_share_2 2 rfl rfl)
theorem dX3_share_51 : decode cX3_share 51 = .ok (.istore 5, 2) := dk_54 5 (dk_at dksX3_share_2 4 rfl rfl)
theorem dX3_share_53 : decode cX3_share 53 = .ok (.aload_n 0, 1) := dk_42 (dk_at dksX3_share_2 6 rfl rfl)
theorem dX3_share_54 : decode cX3_share 54 = .ok (.iload_n 2, 1) := dk_28 (dk_at dksX3_share_2 7 rfl rfl)
theorem dX3_share_55 : decode cX3_share 55 = .ok (.invokevirtual 396, 3) := dk_182 1 140 (dk_at dksX3_share_2 8 rfl rfl)
theorem dX3_share_58 : decode cX3_share 58 = .ok (.istore 6, 2) := dk_54 6 (dk_at dksX3_share_2 11 rfl rfl)
theorem dX3_share_60 : decode cX3_share 60 = .ok (.iload 5, 2) := dk_21 5 (dk_at dksX3_share_2 13 rfl rfl)
theorem dX3_share_62 : decode cX3_share 62 = .ok (.ifCond .eq 21, 3) := dk_153 0 21 (dk_at dksX3_share_2 15 rfl rfl)
theorem dX3_share_65 : decode cX3_share 65 = .ok (.iload 6, 2) := dk_21 6 (dk_at dksX3_share_2 18 rfl rfl)
theorem dX3_share_67 : decode cX3_share 67 = .ok (.iload 5, 2) := dk_21 5 (dk_at dksX3_share_2 20 rfl rfl)
theorem dX3_share_69 : decode cX3_share 69 = .ok (.irem, 1) := dk_112 (dk_at dksX3_share_2 22 rfl rfl)
theorem dX3_share_70 : decode cX3_share 70 = .ok (.istore 7, 2) := dk_54 7 (dk_at dksX3_share_3 0 rfl rfl)
theorem dX3_share_72 : decode cX3_share 72 = .ok (.iload 5, 2) := dk_21 5 (dk_at dksX3_share_3 2 rfl rfl)
theorem dX3_share_74 : decode cX3_share 74 = .ok (.istore 6, 2) := dk_54 6 (dk_at dksX3_share_3 4 rfl rfl)
theorem dX3_share_76 : decode cX3_share 76 = .ok (.iload 7, 2) := dk_21 7 (dk_at dksX3_share_3 6 rfl rfl)
theorem dX3_share_78 : decode cX3_share 78 = .ok (.istore 5, 2) := dk_54 5 (dk_at dksX3_share_3 8 rfl rfl)
theorem dX3_share_80 : decode cX3_share 80 = .ok (.goto (-20), 3) := dk_167 255 236 (dk_at dksX3_share_3 10 rfl rfl)
theorem dX3_share_83 : decode cX3_share 83 = .ok (.iload_n 3, 1) := dk_29 (dk_at dksX3_share_3 13 rfl rfl)
theorem dX3_share_84 : decode cX3_share 84 = .ok (.ifCond .ne 11, 3) := dk_154 0 11 (dk_at dksX3_share_3 14 rfl rfl)
theorem dX3_share_87 : decode cX3_share 87 = .ok (.iload 4, 2) := dk_21 4 (dk_at dksX3_share_3 17 rfl rfl)
theorem dX3_share_89 : decode cX3_share 89 = .ok (.iload 6, 2) := dk_21 6 (dk_at dksX3_share_3 19 rfl rfl)
theorem dX3_share_91 : decode cX3_share 91 = .ok (.idiv, 1) := dk_108 (dk_at dksX3_share_3 21 rfl rfl)
theorem dX3_share_92 : decode cX3_share 92 = .ok (.goto 11, 3) := dk_167 0 11 (dk_at dksX3_share_4 0 rfl rfl)
theorem dX3_share_95 : decode cX3_share 95 = .ok (.aload_n 0, 1) := dk_42 (dk_at dksX3_share_4 3 rfl rfl)
theorem dX3_share_96 : decode cX3_share 96 = .ok (.iload_n 2, 1) := dk_28 (dk_at dksX3_share_4 4 rfl rfl)
theorem dX3_share_97 : decode cX3_share 97 = .ok (.invokevirtual 396, 3) := dk_182 1 140 (dk_at dksX3_share_4 5 rfl rfl)
theorem dX3_share_100 : decode cX3_share 100 = .ok (.iload 6, 2) := dk_21 6 (dk_at dksX3_share_4 8 rfl rfl)
theorem dX3_share_102 : decode cX3_share 102 = .ok (.idiv, 1) := dk_108 (dk_at dksX3_share_4 10 rfl rfl)
theorem dX3_share_103 : decode cX3_share 103 = .ok (.ireturn, 1) := dk_172 (dk_at dksX3_share_4 11 rfl rfl)
abbrev cX3_then : ByteArray := prog_17_method_107_code
def yX3_then : MethodName := ⟨RX3, "then", "(II)I"⟩
def dkwX3_then_2 : List UInt8 := [42, 27, 182, 1, 140, 42, 180, 0, 9, 4, 46, 182, 1, 143, 172]
abbrev dktX3_then_2 : List UInt8 := dkwX3_then_2 ++ []
def dkwX3_then_1 : List UInt8 := [154, 0, 6, 16, 254, 172, 42, 27, 182, 1, 80, 153, 0, 5, 2, 172, 42, 27, 28, 4, 182, 1, 136, 42]
abbrev dktX3_then_1 : List UInt8 := dkwX3_then_1 ++ dktX3_then_2
def dkwX3_then_0 : List UInt8 := [42, 27, 182, 1, 161, 153, 0, 20, 28, 133, 9, 42, 180, 0, 9, 16, 9, 46, 133, 184, 0, 164]
abbrev dktX3_then_0 : List UInt8 := dkwX3_then_0 ++ dktX3_then_1
theorem dksX3_then_0 : cX3_then.data.toList.drop 0 = dktX3_then_0 := by decide +kernel
theorem dksX3_then_1 : cX3_then.data.toList.drop 22 = dktX3_then_1 := dk_seg dksX3_then_0 22 rfl rfl
theorem dksX3_then_2 : cX3_then.data.toList.drop 46 = dktX3_then_2 := dk_seg dksX3_then_1 24 rfl rfl
theorem dX3_then_0 : decode cX3_then 0 = .ok (.aload_n 0, 1) := dk_42 (dk_at dksX3_then_0 0 rfl rfl)
theorem dX3_then_1 : decode cX3_then 1 = .ok (.iload_n 1, 1) := dk_27 (dk_at dksX3_then_0 1 rfl rfl)
theorem dX3_then_2 : decode cX3_then 2 = .ok (.invokevirtual 417, 3) := dk_182 1 161 (dk_at dksX3_then_0 2 rfl rfl)
theorem dX3_then_5 : decode cX3_then 5 = .ok (.ifCond .eq 20, 3) := dk_153 0 20 (dk_at dksX3_then_0 5 rfl rfl)
theorem dX3_then_8 : decode cX3_then 8 = .ok (.iload_n 2, 1) := dk_28 (dk_at dksX3_then_0 8 rfl rfl)
theorem dX3_then_9 : decode cX3_then 9 = .ok (.i2l, 1) := dk_133 (dk_at dksX3_then_0 9 rfl rfl)
theorem dX3_then_10 : decode cX3_then 10 = .ok (.lconst 0, 1) := dk_9 (dk_at dksX3_then_0 10 rfl rfl)
theorem dX3_then_11 : decode cX3_then 11 = .ok (.aload_n 0, 1) := dk_42 (dk_at dksX3_then_0 11 rfl rfl)
theorem dX3_then_12 : decode cX3_then 12 = .ok (.getfield 9, 3) := dk_180 0 9 (dk_at dksX3_then_0 12 rfl rfl)
theorem dX3_then_15 : decode cX3_then 15 = .ok (.bipush 9, 2) := dk_16 9 (dk_at dksX3_then_0 15 rfl rfl)
theorem dX3_then_17 : decode cX3_then 17 = .ok (.iaload, 1) := dk_46 (dk_at dksX3_then_0 17 rfl rfl)
theorem dX3_then_18 : decode cX3_then 18 = .ok (.i2l, 1) := dk_133 (dk_at dksX3_then_0 18 rfl rfl)
theorem dX3_then_19 : decode cX3_then 19 = .ok (.invokestatic 164, 3) := dk_184 0 164 (dk_at dksX3_then_0 19 rfl rfl)
theorem dX3_then_22 : decode cX3_then 22 = .ok (.ifCond .ne 6, 3) := dk_154 0 6 (dk_at dksX3_then_1 0 rfl rfl)
theorem dX3_then_25 : decode cX3_then 25 = .ok (.bipush (-2), 2) := dk_16 254 (dk_at dksX3_then_1 3 rfl rfl)
theorem dX3_then_27 : decode cX3_then 27 = .ok (.ireturn, 1) := dk_172 (dk_at dksX3_then_1 5 rfl rfl)
theorem dX3_then_28 : decode cX3_then 28 = .ok (.aload_n 0, 1) := dk_42 (dk_at dksX3_then_1 6 rfl rfl)
theorem dX3_then_29 : decode cX3_then 29 = .ok (.iload_n 1, 1) := dk_27 (dk_at dksX3_then_1 7 rfl rfl)
theorem dX3_then_30 : decode cX3_then 30 = .ok (.invokevirtual 336, 3) := dk_182 1 80 (dk_at dksX3_then_1 8 rfl rfl)
theorem dX3_then_33 : decode cX3_then 33 = .ok (.ifCond .eq 5, 3) := dk_153 0 5 (dk_at dksX3_then_1 11 rfl rfl)
theorem dX3_then_36 : decode cX3_then 36 = .ok (.iconst (-1), 1) := dk_2 (dk_at dksX3_then_1 14 rfl rfl)
theorem dX3_then_37 : decode cX3_then 37 = .ok (.ireturn, 1) := dk_172 (dk_at dksX3_then_1 15 rfl rfl)
theorem dX3_then_38 : decode cX3_then 38 = .ok (.aload_n 0, 1) := dk_42 (dk_at dksX3_then_1 16 rfl rfl)
theorem dX3_then_39 : decode cX3_then 39 = .ok (.iload_n 1, 1) := dk_27 (dk_at dksX3_then_1 17 rfl rfl)
theorem dX3_then_40 : decode cX3_then 40 = .ok (.iload_n 2, 1) := dk_28 (dk_at dksX3_then_1 18 rfl rfl)
theorem dX3_then_41 : decode cX3_then 41 = .ok (.iconst 1, 1) := dk_4 (dk_at dksX3_then_1 19 rfl rfl)
theorem dX3_then_42 : decode cX3_then 42 = .ok (.invokevirtual 392, 3) := dk_182 1 136 (dk_at dksX3_then_1 20 rfl rfl)
theorem dX3_then_45 : decode cX3_then 45 = .ok (.aload_n 0, 1) := dk_42 (dk_at dksX3_then_1 23 rfl rfl)
theorem dX3_then_46 : decode cX3_then 46 = .ok (.aload_n 0, 1) := dk_42 (dk_at dksX3_then_2 0 rfl rfl)
theorem dX3_then_47 : decode cX3_then 47 = .ok (.iload_n 1, 1) := dk_27 (dk_at dksX3_then_2 1 rfl rfl)
theorem dX3_then_48 : decode cX3_then 48 = .ok (.invokevirtual 396, 3) := dk_182 1 140 (dk_at dksX3_then_2 2 rfl rfl)
theorem dX3_then_51 : decode cX3_then 51 = .ok (.aload_n 0, 1) := dk_42 (dk_at dksX3_then_2 5 rfl rfl)
theorem dX3_then_52 : decode cX3_then 52 = .ok (.getfield 9, 3) := dk_180 0 9 (dk_at dksX3_then_2 6 rfl rfl)
theorem dX3_then_55 : decode cX3_then 55 = .ok (.iconst 1, 1) := dk_4 (dk_at dksX3_then_2 9 rfl rfl)
theorem dX3_then_56 : decode cX3_then 56 = .ok (.iaload, 1) := dk_46 (dk_at dksX3_then_2 10 rfl rfl)
theorem dX3_then_57 : decode cX3_then 57 = .ok (.invokevirtual 399, 3) := dk_182 1 143 (dk_at dksX3_then_2 11 rfl rfl)
theorem dX3_then_60 : decode cX3_then 60 = .ok (.ireturn, 1) := dk_172 (dk_at dksX3_then_2 14 rfl rfl)
abbrev cX3_byPart : ByteArray := prog_17_method_108_code
def yX3_byPart : MethodName := ⟨RX3, "byPart", "(II)I"⟩
def dkwX3_byPart_2 : List UInt8 := [27, 182, 1, 140, 28, 182, 1, 143, 172]
abbrev dktX3_byPart_2 : List UInt8 := dkwX3_byPart_2 ++ []
def dkwX3_byPart_1 : List UInt8 := [27, 182, 1, 80, 153, 0, 5, 2, 172, 42, 27, 42, 180, 0, 9, 16, 9, 46, 3, 182, 1, 136, 42, 42]
abbrev dktX3_byPart_1 : List UInt8 := dkwX3_byPart_1 ++ dktX3_byPart_2
def dkwX3_byPart_0 : List UInt8 := [42, 27, 182, 1, 161, 153, 0, 15, 28, 133, 10, 20, 1, 233, 184, 0, 164, 154, 0, 6, 16, 254, 172, 42]
abbrev dktX3_byPart_0 : List UInt8 := dkwX3_byPart_0 ++ dktX3_byPart_1
theorem dksX3_byPart_0 : cX3_byPart.data.toList.drop 0 = dktX3_byPart_0 := by decide +kernel
theorem dksX3_byPart_1 : cX3_byPart.data.toList.drop 24 = dktX3_byPart_1 := dk_seg dksX3_byPart_0 24 rfl rfl
theorem dksX3_byPart_2 : cX3_byPart.data.toList.drop 48 = dktX3_byPart_2 := dk_seg dksX3_byPart_1 24 rfl rfl
theorem dX3_byPart_0 : decode cX3_byPart 0 = .ok (.aload_n 0, 1) := dk_42 (dk_at dksX3_byPart_0 0 rfl rfl)
theorem dX3_byPart_1 : decode cX3_byPart 1 = .ok (.iload_n 1, 1) := dk_27 (dk_at dksX3_byPart_0 1 rfl rfl)
theorem dX3_byPart_2 : decode cX3_byPart 2 = .ok (.invokevirtual 417, 3) := dk_182 1 161 (dk_at dksX3_byPart_0 2 rfl rfl)
theorem dX3_byPart_5 : decode cX3_byPart 5 = .ok (.ifCond .eq 15, 3) := dk_153 0 15 (dk_at dksX3_byPart_0 5 rfl rfl)
theorem dX3_byPart_8 : decode cX3_byPart 8 = .ok (.iload_n 2, 1) := dk_28 (dk_at dksX3_byPart_0 8 rfl rfl)
theorem dX3_byPart_9 : decode cX3_byPart 9 = .ok (.i2l, 1) := dk_133 (dk_at dksX3_byPart_0 9 rfl rfl)
theorem dX3_byPart_10 : decode cX3_byPart 10 = .ok (.lconst 1, 1) := dk_10 (dk_at dksX3_byPart_0 10 rfl rfl)
theorem dX3_byPart_11 : decode cX3_byPart 11 = .ok (.ldc2_w 489, 3) := dk_20 1 233 (dk_at dksX3_byPart_0 11 rfl rfl)
theorem dX3_byPart_14 : decode cX3_byPart 14 = .ok (.invokestatic 164, 3) := dk_184 0 164 (dk_at dksX3_byPart_0 14 rfl rfl)
theorem dX3_byPart_17 : decode cX3_byPart 17 = .ok (.ifCond .ne 6, 3) := dk_154 0 6 (dk_at dksX3_byPart_0 17 rfl rfl)
theorem dX3_byPart_20 : decode cX3_byPart 20 = .ok (.bipush (-2), 2) := dk_16 254 (dk_at dksX3_byPart_0 20 rfl rfl)
theorem dX3_byPart_22 : decode cX3_byPart 22 = .ok (.ireturn, 1) := dk_172 (dk_at dksX3_byPart_0 22 rfl rfl)
theorem dX3_byPart_23 : decode cX3_byPart 23 = .ok (.aload_n 0, 1) := dk_42 (dk_at dksX3_byPart_0 23 rfl rfl)
theorem dX3_byPart_24 : decode cX3_byPart 24 = .ok (.iload_n 1, 1) := dk_27 (dk_at dksX3_byPart_1 0 rfl rfl)
theorem dX3_byPart_25 : decode cX3_byPart 25 = .ok (.invokevirtual 336, 3) := dk_182 1 80 (dk_at dksX3_byPart_1 1 rfl rfl)
theorem dX3_byPart_28 : decode cX3_byPart 28 = .ok (.ifCond .eq 5, 3) := dk_153 0 5 (dk_at dksX3_byPart_1 4 rfl rfl)
theorem dX3_byPart_31 : decode cX3_byPart 31 = .ok (.iconst (-1), 1) := dk_2 (dk_at dksX3_byPart_1 7 rfl rfl)
theorem dX3_byPart_32 : decode cX3_byPart 32 = .ok (.ireturn, 1) := dk_172 (dk_at dksX3_byPart_1 8 rfl rfl)
theorem dX3_byPart_33 : decode cX3_byPart 33 = .ok (.aload_n 0, 1) := dk_42 (dk_at dksX3_byPart_1 9 rfl rfl)
theorem dX3_byPart_34 : decode cX3_byPart 34 = .ok (.iload_n 1, 1) := dk_27 (dk_at dksX3_byPart_1 10 rfl rfl)
theorem dX3_byPart_35 : decode cX3_byPart 35 = .ok (.aload_n 0, 1) := dk_42 (dk_at dksX3_byPart_1 11 rfl rfl)
theorem dX3_byPart_36 : decode cX3_byPart 36 = .ok (.getfield 9, 3) := dk_180 0 9 (dk_at dksX3_byPart_1 12 rfl rfl)
theorem dX3_byPart_39 : decode cX3_byPart 39 = .ok (.bipush 9, 2) := dk_16 9 (dk_at dksX3_byPart_1 15 rfl rfl)
theorem dX3_byPart_41 : decode cX3_byPart 41 = .ok (.iaload, 1) := dk_46 (dk_at dksX3_byPart_1 17 rfl rfl)
theorem dX3_byPart_42 : decode cX3_byPart 42 = .ok (.iconst 0, 1) := dk_3 (dk_at dksX3_byPart_1 18 rfl rfl)
theorem dX3_byPart_43 : decode cX3_byPart 43 = .ok (.invokevirtual 392, 3) := dk_182 1 136 (dk_at dksX3_byPart_1 19 rfl rfl)
theorem dX3_byPart_46 : decode cX3_byPart 46 = .ok (.aload_n 0, 1) := dk_42 (dk_at dksX3_byPart_1 22 rfl rfl)
theorem dX3_byPart_47 : decode cX3_byPart 47 = .ok (.aload_n 0, 1) := dk_42 (dk_at dksX3_byPart_1 23 rfl rfl)
theorem dX3_byPart_48 : decode cX3_byPart 48 = .ok (.iload_n 1, 1) := dk_27 (dk_at dksX3_byPart_2 0 rfl rfl)
theorem dX3_byPart_49 : decode cX3_byPart 49 = .ok (.invokevirtual 396, 3) := dk_182 1 140 (dk_at dksX3_byPart_2 1 rfl rfl)
theorem dX3_byPart_52 : decode cX3_byPart 52 = .ok (.iload_n 2, 1) := dk_28 (dk_at dksX3_byPart_2 4 rfl rfl)
theorem dX3_byPart_53 : decode cX3_byPart 53 = .ok (.invokevirtual 399, 3) := dk_182 1 143 (dk_at dksX3_byPart_2 5 rfl rfl)
theorem dX3_byPart_56 : decode cX3_byPart 56 = .ok (.ireturn, 1) := dk_172 (dk_at dksX3_byPart_2 8 rfl rfl)
abbrev cX3_one : ByteArray := prog_17_method_110_code
def yX3_one : MethodName := ⟨RX3, "one", "()I"⟩
def dkwX3_one_2 : List UInt8 := [16, 254, 60, 42, 4, 182, 1, 238, 132, 2, 1, 167, 255, 216, 42, 182, 1, 241, 27, 172]
abbrev dktX3_one_2 : List UInt8 := dkwX3_one_2 ++ []
def dkwX3_one_1 : List UInt8 := [27, 16, 254, 160, 0, 34, 42, 182, 2, 28, 153, 0, 13, 42, 180, 0, 9, 16, 9, 46, 167, 0, 5]
abbrev dktX3_one_1 : List UInt8 := dkwX3_one_1 ++ dktX3_one_2
def dkwX3_one_0 : List UInt8 := [42, 182, 1, 173, 154, 0, 5, 2, 172, 42, 182, 1, 235, 16, 254, 60, 3, 61, 28, 16, 100, 162, 0, 40]
abbrev dktX3_one_0 : List UInt8 := dkwX3_one_0 ++ dktX3_one_1
theorem dksX3_one_0 : cX3_one.data.toList.drop 0 = dktX3_one_0 := by decide +kernel
theorem dksX3_one_1 : cX3_one.data.toList.drop 24 = dktX3_one_1 := dk_seg dksX3_one_0 24 rfl rfl
theorem dksX3_one_2 : cX3_one.data.toList.drop 47 = dktX3_one_2 := dk_seg dksX3_one_1 23 rfl rfl
theorem dX3_one_0 : decode cX3_one 0 = .ok (.aload_n 0, 1) := dk_42 (dk_at dksX3_one_0 0 rfl rfl)
theorem dX3_one_1 : decode cX3_one 1 = .ok (.invokevirtual 429, 3) := dk_182 1 173 (dk_at dksX3_one_0 1 rfl rfl)
theorem dX3_one_4 : decode cX3_one 4 = .ok (.ifCond .ne 5, 3) := dk_154 0 5 (dk_at dksX3_one_0 4 rfl rfl)
theorem dX3_one_7 : decode cX3_one 7 = .ok (.iconst (-1), 1) := dk_2 (dk_at dksX3_one_0 7 rfl rfl)
theorem dX3_one_8 : decode cX3_one 8 = .ok (.ireturn, 1) := dk_172 (dk_at dksX3_one_0 8 rfl rfl)
theorem dX3_one_9 : decode cX3_one 9 = .ok (.aload_n 0, 1) := dk_42 (dk_at dksX3_one_0 9 rfl rfl)
theorem dX3_one_10 : decode cX3_one 10 = .ok (.invokevirtual 491, 3) := dk_182 1 235 (dk_at dksX3_one_0 10 rfl rfl)
theorem dX3_one_13 : decode cX3_one 13 = .ok (.bipush (-2), 2) := dk_16 254 (dk_at dksX3_one_0 13 rfl rfl)
theorem dX3_one_15 : decode cX3_one 15 = .ok (.istore_n 1, 1) := dk_60 (dk_at dksX3_one_0 15 rfl rfl)
theorem dX3_one_16 : decode cX3_one 16 = .ok (.iconst 0, 1) := dk_3 (dk_at dksX3_one_0 16 rfl rfl)
theorem dX3_one_17 : decode cX3_one 17 = .ok (.istore_n 2, 1) := dk_61 (dk_at dksX3_one_0 17 rfl rfl)
theorem dX3_one_18 : decode cX3_one 18 = .ok (.iload_n 2, 1) := dk_28 (dk_at dksX3_one_0 18 rfl rfl)
theorem dX3_one_19 : decode cX3_one 19 = .ok (.bipush 100, 2) := dk_16 100 (dk_at dksX3_one_0 19 rfl rfl)
theorem dX3_one_21 : decode cX3_one 21 = .ok (.if_icmp .ge 40, 3) := dk_162 0 40 (dk_at dksX3_one_0 21 rfl rfl)
theorem dX3_one_24 : decode cX3_one 24 = .ok (.iload_n 1, 1) := dk_27 (dk_at dksX3_one_1 0 rfl rfl)
theorem dX3_one_25 : decode cX3_one 25 = .ok (.bipush (-2), 2) := dk_16 254 (dk_at dksX3_one_1 1 rfl rfl)
theorem dX3_one_27 : decode cX3_one 27 = .ok (.if_icmp .ne 34, 3) := dk_160 0 34 (dk_at dksX3_one_1 3 rfl rfl)
theorem dX3_one_30 : decode cX3_one 30 = .ok (.aload_n 0, 1) := dk_42 (dk_at dksX3_one_1 6 rfl rfl)
theorem dX3_one_31 : decode cX3_one 31 = .ok (.invokevirtual 540, 3) := dk_182 2 28 (dk_at dksX3_one_1 7 rfl rfl)
theorem dX3_one_34 : decode cX3_one 34 = .ok (.ifCond .eq 13, 3) := dk_153 0 13 (dk_at dksX3_one_1 10 rfl rfl)
theorem dX3_one_37 : decode cX3_one 37 = .ok (.aload_n 0, 1) := dk_42 (dk_at dksX3_one_1 13 rfl rfl)
theorem dX3_one_38 : decode cX3_one 38 = .ok (.getfield 9, 3) := dk_180 0 9 (dk_at dksX3_one_1 14 rfl rfl)
theorem dX3_one_41 : decode cX3_one 41 = .ok (.bipush 9, 2) := dk_16 9 (dk_at dksX3_one_1 17 rfl rfl)
theorem dX3_one_43 : decode cX3_one 43 = .ok (.iaload, 1) := dk_46 (dk_at dksX3_one_1 19 rfl rfl)
theorem dX3_one_44 : decode cX3_one 44 = .ok (.goto 5, 3) := dk_167 0 5 (dk_at dksX3_one_1 20 rfl rfl)
theorem dX3_one_47 : decode cX3_one 47 = .ok (.bipush (-2), 2) := dk_16 254 (dk_at dksX3_one_2 0 rfl rfl)
theorem dX3_one_49 : decode cX3_one 49 = .ok (.istore_n 1, 1) := dk_60 (dk_at dksX3_one_2 2 rfl rfl)
theorem dX3_one_50 : decode cX3_one 50 = .ok (.aload_n 0, 1) := dk_42 (dk_at dksX3_one_2 3 rfl rfl)
theorem dX3_one_51 : decode cX3_one 51 = .ok (.iconst 1, 1) := dk_4 (dk_at dksX3_one_2 4 rfl rfl)
theorem dX3_one_52 : decode cX3_one 52 = .ok (.invokevirtual 494, 3) := dk_182 1 238 (dk_at dksX3_one_2 5 rfl rfl)
theorem dX3_one_55 : decode cX3_one 55 = .ok (.iinc 2 1, 3) := dk_132 2 1 (dk_at dksX3_one_2 8 rfl rfl)
theorem dX3_one_58 : decode cX3_one 58 = .ok (.goto (-40), 3) := dk_167 255 216 (dk_at dksX3_one_2 11 rfl rfl)
theorem dX3_one_61 : decode cX3_one 61 = .ok (.aload_n 0, 1) := dk_42 (dk_at dksX3_one_2 14 rfl rfl)
theorem dX3_one_62 : decode cX3_one 62 = .ok (.invokevirtual 497, 3) := dk_182 1 241 (dk_at dksX3_one_2 15 rfl rfl)
theorem dX3_one_65 : decode cX3_one 65 = .ok (.iload_n 1, 1) := dk_27 (dk_at dksX3_one_2 18 rfl rfl)
theorem dX3_one_66 : decode cX3_one 66 = .ok (.ireturn, 1) := dk_172 (dk_at dksX3_one_2 19 rfl rfl)
abbrev cX3_isOneColour : ByteArray := prog_17_method_109_code
def yX3_isOneColour : MethodName := ⟨RX3, "isOneColour", "()Z"⟩
def dkwX3_isOneColour_3 : List UInt8 := [60, 132, 2, 1, 167, 255, 186, 4, 172]
abbrev dktX3_isOneColour_3 : List UInt8 := dkwX3_isOneColour_3 ++ []
def dkwX3_isOneColour_2 : List UInt8 := [182, 1, 155, 46, 62, 29, 16, 254, 159, 0, 13, 27, 2, 159, 0, 10, 29, 27, 159, 0, 5, 3, 172, 29]
abbrev dktX3_isOneColour_2 : List UInt8 := dkwX3_isOneColour_2 ++ dktX3_isOneColour_3
def dkwX3_isOneColour_1 : List UInt8 := [154, 0, 48, 42, 180, 0, 31, 28, 46, 154, 0, 8, 16, 254, 167, 0, 13, 42, 180, 0, 19, 42, 28]
abbrev dktX3_isOneColour_1 : List UInt8 := dkwX3_isOneColour_1 ++ dktX3_isOneColour_2
def dkwX3_isOneColour_0 : List UInt8 := [2, 60, 3, 61, 28, 42, 180, 0, 9, 7, 46, 162, 0, 66, 42, 42, 28, 182, 1, 152, 182, 1, 80]
abbrev dktX3_isOneColour_0 : List UInt8 := dkwX3_isOneColour_0 ++ dktX3_isOneColour_1
theorem dksX3_isOneColour_0 : cX3_isOneColour.data.toList.drop 0 = dktX3_isOneColour_0 := by decide +kernel
theorem dksX3_isOneColour_1 : cX3_isOneColour.data.toList.drop 23 = dktX3_isOneColour_1 := dk_seg dksX3_isOneColour_0 23 rfl rfl
theorem dksX3_isOneColour_2 : cX3_isOneColour.data.toList.drop 46 = dktX3_isOneColour_2 := dk_seg dksX3_isOneColour_1 23 rfl rfl
theorem dksX3_isOneColour_3 : cX3_isOneColour.data.toList.drop 70 = dktX3_isOneColour_3 := dk_seg dksX3_isOneColour_2 24 rfl rfl
theorem dX3_isOneColour_0 : decode cX3_isOneColour 0 = .ok (.iconst (-1), 1) := dk_2 (dk_at dksX3_isOneColour_0 0 rfl rfl)
theorem dX3_isOneColour_1 : decode cX3_isOneColour 1 = .ok (.istore_n 1, 1) := dk_60 (dk_at dksX3_isOneColour_0 1 rfl rfl)
theorem dX3_isOneColour_2 : decode cX3_isOneColour 2 = .ok (.iconst 0, 1) := dk_3 (dk_at dksX3_isOneColour_0 2 rfl rfl)
theorem dX3_isOneColour_3 : decode cX3_isOneColour 3 = .ok (.istore_n 2, 1) := dk_61 (dk_at dksX3_isOneColour_0 3 rfl rfl)
theorem dX3_isOneColour_4 : decode cX3_isOneColour 4 = .ok (.iload_n 2, 1) := dk_28 (dk_at dksX3_isOneColour_0 4 rfl rfl)
theorem dX3_isOneColour_5 : decode cX3_isOneColour 5 = .ok (.aload_n 0, 1) := dk_42 (dk_at dksX3_isOneColour_0 5 rfl rfl)
theorem dX3_isOneColour_6 : decode cX3_isOneColour 6 = .ok (.getfield 9, 3) := dk_180 0 9 (dk_at dksX3_isOneColour_0 6 rfl rfl)
theorem dX3_isOneColour_9 : decode cX3_isOneColour 9 = .ok (.iconst 4, 1) := dk_7 (dk_at dksX3_isOneColour_0 9 rfl rfl)
theorem dX3_isOneColour_10 : decode cX3_isOneColour 10 = .ok (.iaload, 1) := dk_46 (dk_at dksX3_isOneColour_0 10 rfl rfl)
theorem dX3_isOneColour_11 : decode cX3_isOneColour 11 = .ok (.if_icmp .ge 66, 3) := dk_162 0 66 (dk_at dksX3_isOneColour_0 11 rfl rfl)
theorem dX3_isOneColour_14 : decode cX3_isOneColour 14 = .ok (.aload_n 0, 1) := dk_42 (dk_at dksX3_isOneColour_0 14 rfl rfl)
theorem dX3_isOneColour_15 : decode cX3_isOneColour 15 = .ok (.aload_n 0, 1) := dk_42 (dk_at dksX3_isOneColour_0 15 rfl rfl)
theorem dX3_isOneColour_16 : decode cX3_isOneColour 16 = .ok (.iload_n 2, 1) := dk_28 (dk_at dksX3_isOneColour_0 16 rfl rfl)
theorem dX3_isOneColour_17 : decode cX3_isOneColour 17 = .ok (.invokevirtual 408, 3) := dk_182 1 152 (dk_at dksX3_isOneColour_0 17 rfl rfl)
theorem dX3_isOneColour_20 : decode cX3_isOneColour 20 = .ok (.invokevirtual 336, 3) := dk_182 1 80 (dk_at dksX3_isOneColour_0 20 rfl rfl)
theorem dX3_isOneColour_23 : decode cX3_isOneColour 23 = .ok (.ifCond .ne 48, 3) := dk_154 0 48 (dk_at dksX3_isOneColour_1 0 rfl rfl)
theorem dX3_isOneColour_26 : decode cX3_isOneColour 26 = .ok (.aload_n 0, 1) := dk_42 (dk_at dksX3_isOneColour_1 3 rfl rfl)
theorem dX3_isOneColour_27 : decode cX3_isOneColour 27 = .ok (.getfield 31, 3) := dk_180 0 31 (dk_at dksX3_isOneColour_1 4 rfl rfl)
theorem dX3_isOneColour_30 : decode cX3_isOneColour 30 = .ok (.iload_n 2, 1) := dk_28 (dk_at dksX3_isOneColour_1 7 rfl rfl)
theorem dX3_isOneColour_31 : decode cX3_isOneColour 31 = .ok (.iaload, 1) := dk_46 (dk_at dksX3_isOneColour_1 8 rfl rfl)
theorem dX3_isOneColour_32 : decode cX3_isOneColour 32 = .ok (.ifCond .ne 8, 3) := dk_154 0 8 (dk_at dksX3_isOneColour_1 9 rfl rfl)
theorem dX3_isOneColour_35 : decode cX3_isOneColour 35 = .ok (.bipush (-2), 2) := dk_16 254 (dk_at dksX3_isOneColour_1 12 rfl rfl)
theorem dX3_isOneColour_37 : decode cX3_isOneColour 37 = .ok (.goto 13, 3) := dk_167 0 13 (dk_at dksX3_isOneColour_1 14 rfl rfl)
theorem dX3_isOneColour_40 : decode cX3_isOneColour 40 = .ok (.aload_n 0, 1) := dk_42 (dk_at dksX3_isOneColour_1 17 rfl rfl)
theorem dX3_isOneColour_41 : decode cX3_isOneColour 41 = .ok (.getfield 19, 3) := dk_180 0 19 (dk_at dksX3_isOneColour_1 18 rfl rfl)
theorem dX3_isOneColour_44 : decode cX3_isOneColour 44 = .ok (.aload_n 0, 1) := dk_42 (dk_at dksX3_isOneColour_1 21 rfl rfl)
theorem dX3_isOneColour_45 : decode cX3_isOneColour 45 = .ok (.iload_n 2, 1) := dk_28 (dk_at dksX3_isOneColour_1 22 rfl rfl)
theorem dX3_isOneColour_46 : decode cX3_isOneColour 46 = .ok (.invokevirtual 411, 3) := dk_182 1 155 (dk_at dksX3_isOneColour_2 0 rfl rfl)
theorem dX3_isOneColour_49 : decode cX3_isOneColour 49 = .ok (.iaload, 1) := dk_46 (dk_at dksX3_isOneColour_2 3 rfl rfl)
theorem dX3_isOneColour_50 : decode cX3_isOneColour 50 = .ok (.istore_n 3, 1) := dk_62 (dk_at dksX3_isOneColour_2 4 rfl rfl)
theorem dX3_isOneColour_51 : decode cX3_isOneColour 51 = .ok (.iload_n 3, 1) := dk_29 (dk_at dksX3_isOneColour_2 5 rfl rfl)
theorem dX3_isOneColour_52 : decode cX3_isOneColour 52 = .ok (.bipush (-2), 2) := dk_16 254 (dk_at dksX3_isOneColour_2 6 rfl rfl)
theorem dX3_isOneColour_54 : decode cX3_isOneColour 54 = .ok (.if_icmp .eq 13, 3) := dk_159 0 13 (dk_at dksX3_isOneColour_2 8 rfl rfl)
theorem dX3_isOneColour_57 : decode cX3_isOneColour 57 = .ok (.iload_n 1, 1) := dk_27 (dk_at dksX3_isOneColour_2 11 rfl rfl)
theorem dX3_isOneColour_58 : decode cX3_isOneColour 58 = .ok (.iconst (-1), 1) := dk_2 (dk_at dksX3_isOneColour_2 12 rfl rfl)
theorem dX3_isOneColour_59 : decode cX3_isOneColour 59 = .ok (.if_icmp .eq 10, 3) := dk_159 0 10 (dk_at dksX3_isOneColour_2 13 rfl rfl)
theorem dX3_isOneColour_62 : decode cX3_isOneColour 62 = .ok (.iload_n 3, 1) := dk_29 (dk_at dksX3_isOneColour_2 16 rfl rfl)
theorem dX3_isOneColour_63 : decode cX3_isOneColour 63 = .ok (.iload_n 1, 1) := dk_27 (dk_at dksX3_isOneColour_2 17 rfl rfl)
theorem dX3_isOneColour_64 : decode cX3_isOneColour 64 = .ok (.if_icmp .eq 5, 3) := dk_159 0 5 (dk_at dksX3_isOneColour_2 18 rfl rfl)
theorem dX3_isOneColour_67 : decode cX3_isOneColour 67 = .ok (.iconst 0, 1) := dk_3 (dk_at dksX3_isOneColour_2 21 rfl rfl)
theorem dX3_isOneColour_68 : decode cX3_isOneColour 68 = .ok (.ireturn, 1) := dk_172 (dk_at dksX3_isOneColour_2 22 rfl rfl)
theorem dX3_isOneColour_69 : decode cX3_isOneColour 69 = .ok (.iload_n 3, 1) := dk_29 (dk_at dksX3_isOneColour_2 23 rfl rfl)
theorem dX3_isOneColour_70 : decode cX3_isOneColour 70 = .ok (.istore_n 1, 1) := dk_60 (dk_at dksX3_isOneColour_3 0 rfl rfl)
theorem dX3_isOneColour_71 : decode cX3_isOneColour 71 = .ok (.iinc 2 1, 3) := dk_132 2 1 (dk_at dksX3_isOneColour_3 1 rfl rfl)
theorem dX3_isOneColour_74 : decode cX3_isOneColour 74 = .ok (.goto (-70), 3) := dk_167 255 186 (dk_at dksX3_isOneColour_3 4 rfl rfl)
theorem dX3_isOneColour_77 : decode cX3_isOneColour 77 = .ok (.iconst 1, 1) := dk_4 (dk_at dksX3_isOneColour_3 7 rfl rfl)
theorem dX3_isOneColour_78 : decode cX3_isOneColour 78 = .ok (.ireturn, 1) := dk_172 (dk_at dksX3_isOneColour_3 8 rfl rfl)
abbrev cX3_log : ByteArray := prog_17_method_111_code
def yX3_log : MethodName := ⟨RX3, "log", "(III)I"⟩
def dkwX3_log_4 : List UInt8 := [180, 0, 9, 16, 10, 92, 46, 4, 96, 79, 21, 4, 4, 96, 172]
abbrev dktX3_log_4 : List UInt8 := dkwX3_log_4 ++ []
def dkwX3_log_3 : List UInt8 := [180, 0, 40, 21, 4, 27, 79, 42, 180, 0, 43, 21, 4, 28, 79, 42, 180, 0, 46, 21, 4, 29, 79, 42]
abbrev dktX3_log_3 : List UInt8 := dkwX3_log_3 ++ dktX3_log_4
def dkwX3_log_2 : List UInt8 := [159, 0, 11, 42, 29, 182, 1, 167, 153, 0, 10, 21, 4, 16, 10, 160, 0, 6, 16, 254, 172, 42]
abbrev dktX3_log_2 : List UInt8 := dkwX3_log_2 ++ dktX3_log_3
def dkwX3_log_1 : List UInt8 := [27, 133, 9, 20, 2, 31, 184, 0, 164, 153, 0, 31, 42, 28, 182, 1, 161, 153, 0, 23, 29, 2]
abbrev dktX3_log_1 : List UInt8 := dkwX3_log_1 ++ dktX3_log_2
def dkwX3_log_0 : List UInt8 := [27, 2, 160, 0, 13, 42, 180, 0, 9, 16, 10, 3, 79, 3, 172, 42, 180, 0, 9, 16, 10, 46, 54, 4]
abbrev dktX3_log_0 : List UInt8 := dkwX3_log_0 ++ dktX3_log_1
theorem dksX3_log_0 : cX3_log.data.toList.drop 0 = dktX3_log_0 := by decide +kernel
theorem dksX3_log_1 : cX3_log.data.toList.drop 24 = dktX3_log_1 := dk_seg dksX3_log_0 24 rfl rfl
theorem dksX3_log_2 : cX3_log.data.toList.drop 46 = dktX3_log_2 := dk_seg dksX3_log_1 22 rfl rfl
theorem dksX3_log_3 : cX3_log.data.toList.drop 68 = dktX3_log_3 := dk_seg dksX3_log_2 22 rfl rfl
theorem dksX3_log_4 : cX3_log.data.toList.drop 92 = dktX3_log_4 := dk_seg dksX3_log_3 24 rfl rfl
theorem dX3_log_0 : decode cX3_log 0 = .ok (.iload_n 1, 1) := dk_27 (dk_at dksX3_log_0 0 rfl rfl)
theorem dX3_log_1 : decode cX3_log 1 = .ok (.iconst (-1), 1) := dk_2 (dk_at dksX3_log_0 1 rfl rfl)
theorem dX3_log_2 : decode cX3_log 2 = .ok (.if_icmp .ne 13, 3) := dk_160 0 13 (dk_at dksX3_log_0 2 rfl rfl)
theorem dX3_log_5 : decode cX3_log 5 = .ok (.aload_n 0, 1) := dk_42 (dk_at dksX3_log_0 5 rfl rfl)
theorem dX3_log_6 : decode cX3_log 6 = .ok (.getfield 9, 3) := dk_180 0 9 (dk_at dksX3_log_0 6 rfl rfl)
theorem dX3_log_9 : decode cX3_log 9 = .ok (.bipush 10, 2) := dk_16 10 (dk_at dksX3_log_0 9 rfl rfl)
theorem dX3_log_11 : decode cX3_log 11 = .ok (.iconst 0, 1) := dk_3 (dk_at dksX3_log_0 11 rfl rfl)
theorem dX3_log_12 : decode cX3_log 12 = .ok (.iastore, 1) := dk_79 (dk_at dksX3_log_0 12 rfl rfl)
theorem dX3_log_13 : decode cX3_log 13 = .ok (.iconst 0, 1) := dk_3 (dk_at dksX3_log_0 13 rfl rfl)
theorem dX3_log_14 : decode cX3_log 14 = .ok (.ireturn, 1) := dk_172 (dk_at dksX3_log_0 14 rfl rfl)
theorem dX3_log_15 : decode cX3_log 15 = .ok (.aload_n 0, 1) := dk_42 (dk_at dksX3_log_0 15 rfl rfl)
theorem dX3_log_16 : decode cX3_log 16 = .ok (.getfield 9, 3) := dk_180 0 9 (dk_at dksX3_log_0 16 rfl rfl)
theorem dX3_log_19 : decode cX3_log 19 = .ok (.bipush 10, 2) := dk_16 10 (dk_at dksX3_log_0 19 rfl rfl)
theorem dX3_log_21 : decode cX3_log 21 = .ok (.iaload, 1) := dk_46 (dk_at dksX3_log_0 21 rfl rfl)
theorem dX3_log_22 : decode cX3_log 22 = .ok (.istore 4, 2) := dk_54 4 (dk_at dksX3_log_0 22 rfl rfl)
theorem dX3_log_24 : decode cX3_log 24 = .ok (.iload_n 1, 1) := dk_27 (dk_at dksX3_log_1 0 rfl rfl)
theorem dX3_log_25 : decode cX3_log 25 = .ok (.i2l, 1) := dk_133 (dk_at dksX3_log_1 1 rfl rfl)
theorem dX3_log_26 : decode cX3_log 26 = .ok (.lconst 0, 1) := dk_9 (dk_at dksX3_log_1 2 rfl rfl)
theorem dX3_log_27 : decode cX3_log 27 = .ok (.ldc2_w 543, 3) := dk_20 2 31 (dk_at dksX3_log_1 3 rfl rfl)
theorem dX3_log_30 : decode cX3_log 30 = .ok (.invokestatic 164, 3) := dk_184 0 164 (dk_at dksX3_log_1 6 rfl rfl)
theorem dX3_log_33 : decode cX3_log 33 = .ok (.ifCond .eq 31, 3) := dk_153 0 31 (dk_at dksX3_log_1 9 rfl rfl)
theorem dX3_log_36 : decode cX3_log 36 = .ok (.aload_n 0, 1) := dk_42 (dk_at dksX3_log_1 12 rfl rfl)
theorem dX3_log_37 : decode cX3_log 37 = .ok (.iload_n 2, 1) := dk_28 (dk_at dksX3_log_1 13 rfl rfl)
theorem dX3_log_38 : decode cX3_log 38 = .ok (.invokevirtual 417, 3) := dk_182 1 161 (dk_at dksX3_log_1 14 rfl rfl)
theorem dX3_log_41 : decode cX3_log 41 = .ok (.ifCond .eq 23, 3) := dk_153 0 23 (dk_at dksX3_log_1 17 rfl rfl)
theorem dX3_log_44 : decode cX3_log 44 = .ok (.iload_n 3, 1) := dk_29 (dk_at dksX3_log_1 20 rfl rfl)
theorem dX3_log_45 : decode cX3_log 45 = .ok (.iconst (-1), 1) := dk_2 (dk_at dksX3_log_1 21 rfl rfl)
theorem dX3_log_46 : decode cX3_log 46 = .ok (.if_icmp .eq 11, 3) := dk_159 0 11 (dk_at dksX3_log_2 0 rfl rfl)
theorem dX3_log_49 : decode cX3_log 49 = .ok (.aload_n 0, 1) := dk_42 (dk_at dksX3_log_2 3 rfl rfl)
theorem dX3_log_50 : decode cX3_log 50 = .ok (.iload_n 3, 1) := dk_29 (dk_at dksX3_log_2 4 rfl rfl)
theorem dX3_log_51 : decode cX3_log 51 = .ok (.invokevirtual 423, 3) := dk_182 1 167 (dk_at dksX3_log_2 5 rfl rfl)
theorem dX3_log_54 : decode cX3_log 54 = .ok (.ifCond .eq 10, 3) := dk_153 0 10 (dk_at dksX3_log_2 8 rfl rfl)
theorem dX3_log_57 : decode cX3_log 57 = .ok (.iload 4, 2) := dk_21 4 (dk_at dksX3_log_2 11 rfl rfl)
theorem dX3_log_59 : decode cX3_log 59 = .ok (.bipush 10, 2) := dk_16 10 (dk_at dksX3_log_2 13 rfl rfl)
theorem dX3_log_61 : decode cX3_log 61 = .ok (.if_icmp .ne 6, 3) := dk_160 0 6 (dk_at dksX3_log_2 15 rfl rfl)
theorem dX3_log_64 : decode cX3_log 64 = .ok (.bipush (-2), 2) := dk_16 254 (dk_at dksX3_log_2 18 rfl rfl)
theorem dX3_log_66 : decode cX3_log 66 = .ok (.ireturn, 1) := dk_172 (dk_at dksX3_log_2 20 rfl rfl)
theorem dX3_log_67 : decode cX3_log 67 = .ok (.aload_n 0, 1) := dk_42 (dk_at dksX3_log_2 21 rfl rfl)
theorem dX3_log_68 : decode cX3_log 68 = .ok (.getfield 40, 3) := dk_180 0 40 (dk_at dksX3_log_3 0 rfl rfl)
theorem dX3_log_71 : decode cX3_log 71 = .ok (.iload 4, 2) := dk_21 4 (dk_at dksX3_log_3 3 rfl rfl)
theorem dX3_log_73 : decode cX3_log 73 = .ok (.iload_n 1, 1) := dk_27 (dk_at dksX3_log_3 5 rfl rfl)
theorem dX3_log_74 : decode cX3_log 74 = .ok (.iastore, 1) := dk_79 (dk_at dksX3_log_3 6 rfl rfl)
theorem dX3_log_75 : decode cX3_log 75 = .ok (.aload_n 0, 1) := dk_42 (dk_at dksX3_log_3 7 rfl rfl)
theorem dX3_log_76 : decode cX3_log 76 = .ok (.getfield 43, 3) := dk_180 0 43 (dk_at dksX3_log_3 8 rfl rfl)
theorem dX3_log_79 : decode cX3_log 79 = .ok (.iload 4, 2) := dk_21 4 (dk_at dksX3_log_3 11 rfl rfl)
theorem dX3_log_81 : decode cX3_log 81 = .ok (.iload_n 2, 1) := dk_28 (dk_at dksX3_log_3 13 rfl rfl)
theorem dX3_log_82 : decode cX3_log 82 = .ok (.iastore, 1) := dk_79 (dk_at dksX3_log_3 14 rfl rfl)
theorem dX3_log_83 : decode cX3_log 83 = .ok (.aload_n 0, 1) := dk_42 (dk_at dksX3_log_3 15 rfl rfl)
theorem dX3_log_84 : decode cX3_log 84 = .ok (.getfield 46, 3) := dk_180 0 46 (dk_at dksX3_log_3 16 rfl rfl)
theorem dX3_log_87 : decode cX3_log 87 = .ok (.iload 4, 2) := dk_21 4 (dk_at dksX3_log_3 19 rfl rfl)
theorem dX3_log_89 : decode cX3_log 89 = .ok (.iload_n 3, 1) := dk_29 (dk_at dksX3_log_3 21 rfl rfl)
theorem dX3_log_90 : decode cX3_log 90 = .ok (.iastore, 1) := dk_79 (dk_at dksX3_log_3 22 rfl rfl)
theorem dX3_log_91 : decode cX3_log 91 = .ok (.aload_n 0, 1) := dk_42 (dk_at dksX3_log_3 23 rfl rfl)
theorem dX3_log_92 : decode cX3_log 92 = .ok (.getfield 9, 3) := dk_180 0 9 (dk_at dksX3_log_4 0 rfl rfl)
theorem dX3_log_95 : decode cX3_log 95 = .ok (.bipush 10, 2) := dk_16 10 (dk_at dksX3_log_4 3 rfl rfl)
theorem dX3_log_97 : decode cX3_log 97 = .ok (.dup2, 1) := dk_92 (dk_at dksX3_log_4 5 rfl rfl)
theorem dX3_log_98 : decode cX3_log 98 = .ok (.iaload, 1) := dk_46 (dk_at dksX3_log_4 6 rfl rfl)
theorem dX3_log_99 : decode cX3_log 99 = .ok (.iconst 1, 1) := dk_4 (dk_at dksX3_log_4 7 rfl rfl)
theorem dX3_log_100 : decode cX3_log 100 = .ok (.iadd, 1) := dk_96 (dk_at dksX3_log_4 8 rfl rfl)
theorem dX3_log_101 : decode cX3_log 101 = .ok (.iastore, 1) := dk_79 (dk_at dksX3_log_4 9 rfl rfl)
theorem dX3_log_102 : decode cX3_log 102 = .ok (.iload 4, 2) := dk_21 4 (dk_at dksX3_log_4 10 rfl rfl)
theorem dX3_log_104 : decode cX3_log 104 = .ok (.iconst 1, 1) := dk_4 (dk_at dksX3_log_4 12 rfl rfl)
theorem dX3_log_105 : decode cX3_log 105 = .ok (.iadd, 1) := dk_96 (dk_at dksX3_log_4 13 rfl rfl)
theorem dX3_log_106 : decode cX3_log 106 = .ok (.ireturn, 1) := dk_172 (dk_at dksX3_log_4 14 rfl rfl)
abbrev cX3_ruled : ByteArray := prog_17_method_114_code
def yX3_ruled : MethodName := ⟨RX3, "ruled", "(I)I"⟩
def dkwX3_ruled_3 : List UInt8 := [154, 0, 7, 28, 167, 0, 4, 29, 172]
abbrev dktX3_ruled_3 : List UInt8 := dkwX3_ruled_3 ++ []
def dkwX3_ruled_2 : List UInt8 := [153, 0, 17, 28, 154, 0, 8, 21, 4, 167, 0, 4, 29, 62, 132, 2, 1, 132, 4, 1, 167, 255, 220, 27]
abbrev dktX3_ruled_2 : List UInt8 := dkwX3_ruled_2 ++ dktX3_ruled_3
def dkwX3_ruled_1 : List UInt8 := [3, 61, 16, 254, 62, 2, 54, 4, 21, 4, 42, 180, 1, 106, 162, 0, 33, 42, 21, 4, 2, 182, 2, 36]
abbrev dktX3_ruled_1 : List UInt8 := dkwX3_ruled_1 ++ dktX3_ruled_2
def dkwX3_ruled_0 : List UInt8 := [42, 182, 1, 173, 153, 0, 13, 27, 133, 9, 10, 184, 0, 164, 154, 0, 6, 16, 253, 172, 42, 182, 1, 235]
abbrev dktX3_ruled_0 : List UInt8 := dkwX3_ruled_0 ++ dktX3_ruled_1
theorem dksX3_ruled_0 : cX3_ruled.data.toList.drop 0 = dktX3_ruled_0 := by decide +kernel
theorem dksX3_ruled_1 : cX3_ruled.data.toList.drop 24 = dktX3_ruled_1 := dk_seg dksX3_ruled_0 24 rfl rfl
theorem dksX3_ruled_2 : cX3_ruled.data.toList.drop 48 = dktX3_ruled_2 := dk_seg dksX3_ruled_1 24 rfl rfl
theorem dksX3_ruled_3 : cX3_ruled.data.toList.drop 72 = dktX3_ruled_3 := dk_seg dksX3_ruled_2 24 rfl rfl
theorem dX3_ruled_0 : decode cX3_ruled 0 = .ok (.aload_n 0, 1) := dk_42 (dk_at dksX3_ruled_0 0 rfl rfl)
theorem dX3_ruled_1 : decode cX3_ruled 1 = .ok (.invokevirtual 429, 3) := dk_182 1 173 (dk_at dksX3_ruled_0 1 rfl rfl)
theorem dX3_ruled_4 : decode cX3_ruled 4 = .ok (.ifCond .eq 13, 3) := dk_153 0 13 (dk_at dksX3_ruled_0 4 rfl rfl)
theorem dX3_ruled_7 : decode cX3_ruled 7 = .ok (.iload_n 1, 1) := dk_27 (dk_at dksX3_ruled_0 7 rfl rfl)
theorem dX3_ruled_8 : decode cX3_ruled 8 = .ok (.i2l, 1) := dk_133 (dk_at dksX3_ruled_0 8 rfl rfl)
theorem dX3_ruled_9 : decode cX3_ruled 9 = .ok (.lconst 0, 1) := dk_9 (dk_at dksX3_ruled_0 9 rfl rfl)
theorem dX3_ruled_10 : decode cX3_ruled 10 = .ok (.lconst 1, 1) := dk_10 (dk_at dksX3_ruled_0 10 rfl rfl)
theorem dX3_ruled_11 : decode cX3_ruled 11 = .ok (.invokestatic 164, 3) := dk_184 0 164 (dk_at dksX3_ruled_0 11 rfl rfl)
theorem dX3_ruled_14 : decode cX3_ruled 14 = .ok (.ifCond .ne 6, 3) := dk_154 0 6 (dk_at dksX3_ruled_0 14 rfl rfl)
theorem dX3_ruled_17 : decode cX3_ruled 17 = .ok (.bipush (-3), 2) := dk_16 253 (dk_at dksX3_ruled_0 17 rfl rfl)
theorem dX3_ruled_19 : decode cX3_ruled 19 = .ok (.ireturn, 1) := dk_172 (dk_at dksX3_ruled_0 19 rfl rfl)
theorem dX3_ruled_20 : decode cX3_ruled 20 = .ok (.aload_n 0, 1) := dk_42 (dk_at dksX3_ruled_0 20 rfl rfl)
theorem dX3_ruled_21 : decode cX3_ruled 21 = .ok (.invokevirtual 491, 3) := dk_182 1 235 (dk_at dksX3_ruled_0 21 rfl rfl)
theorem dX3_ruled_24 : decode cX3_ruled 24 = .ok (.iconst 0, 1) := dk_3 (dk_at dksX3_ruled_1 0 rfl rfl)
theorem dX3_ruled_25 : decode cX3_ruled 25 = .ok (.istore_n 2, 1) := dk_61 (dk_at dksX3_ruled_1 1 rfl rfl)
theorem dX3_ruled_26 : decode cX3_ruled 26 = .ok (.bipush (-2), 2) := dk_16 254 (dk_at dksX3_ruled_1 2 rfl rfl)
theorem dX3_ruled_28 : decode cX3_ruled 28 = .ok (.istore_n 3, 1) := dk_62 (dk_at dksX3_ruled_1 4 rfl rfl)
theorem dX3_ruled_29 : decode cX3_ruled 29 = .ok (.iconst (-1), 1) := dk_2 (dk_at dksX3_ruled_1 5 rfl rfl)
theorem dX3_ruled_30 : decode cX3_ruled 30 = .ok (.istore 4, 2) := dk_54 4 (dk_at dksX3_ruled_1 6 rfl rfl)
theorem dX3_ruled_32 : decode cX3_ruled 32 = .ok (.iload 4, 2) := dk_21 4 (dk_at dksX3_ruled_1 8 rfl rfl)
theorem dX3_ruled_34 : decode cX3_ruled 34 = .ok (.aload_n 0, 1) := dk_42 (dk_at dksX3_ruled_1 10 rfl rfl)
theorem dX3_ruled_35 : decode cX3_ruled 35 = .ok (.getfield 362, 3) := dk_180 1 106 (dk_at dksX3_ruled_1 11 rfl rfl)
theorem dX3_ruled_38 : decode cX3_ruled 38 = .ok (.if_icmp .ge 33, 3) := dk_162 0 33 (dk_at dksX3_ruled_1 14 rfl rfl)
theorem dX3_ruled_41 : decode cX3_ruled 41 = .ok (.aload_n 0, 1) := dk_42 (dk_at dksX3_ruled_1 17 rfl rfl)
theorem dX3_ruled_42 : decode cX3_ruled 42 = .ok (.iload 4, 2) := dk_21 4 (dk_at dksX3_ruled_1 18 rfl rfl)
theorem dX3_ruled_44 : decode cX3_ruled 44 = .ok (.iconst (-1), 1) := dk_2 (dk_at dksX3_ruled_1 20 rfl rfl)
theorem dX3_ruled_45 : decode cX3_ruled 45 = .ok (.invokevirtual 548, 3) := dk_182 2 36 (dk_at dksX3_ruled_1 21 rfl rfl)
theorem dX3_ruled_48 : decode cX3_ruled 48 = .ok (.ifCond .eq 17, 3) := dk_153 0 17 (dk_at dksX3_ruled_2 0 rfl rfl)
theorem dX3_ruled_51 : decode cX3_ruled 51 = .ok (.iload_n 2, 1) := dk_28 (dk_at dksX3_ruled_2 3 rfl rfl)
theorem dX3_ruled_52 : decode cX3_ruled 52 = .ok (.ifCond .ne 8, 3) := dk_154 0 8 (dk_at dksX3_ruled_2 4 rfl rfl)
theorem dX3_ruled_55 : decode cX3_ruled 55 = .ok (.iload 4, 2) := dk_21 4 (dk_at dksX3_ruled_2 7 rfl rfl)
theorem dX3_ruled_57 : decode cX3_ruled 57 = .ok (.goto 4, 3) := dk_167 0 4 (dk_at dksX3_ruled_2 9 rfl rfl)
theorem dX3_ruled_60 : decode cX3_ruled 60 = .ok (.iload_n 3, 1) := dk_29 (dk_at dksX3_ruled_2 12 rfl rfl)
theorem dX3_ruled_61 : decode cX3_ruled 61 = .ok (.istore_n 3, 1) := dk_62 (dk_at dksX3_ruled_2 13 rfl rfl)
theorem dX3_ruled_62 : decode cX3_ruled 62 = .ok (.iinc 2 1, 3) := dk_132 2 1 (dk_at dksX3_ruled_2 14 rfl rfl)
theorem dX3_ruled_65 : decode cX3_ruled 65 = .ok (.iinc 4 1, 3) := dk_132 4 1 (dk_at dksX3_ruled_2 17 rfl rfl)
theorem dX3_ruled_68 : decode cX3_ruled 68 = .ok (.goto (-36), 3) := dk_167 255 220 (dk_at dksX3_ruled_2 20 rfl rfl)
theorem dX3_ruled_71 : decode cX3_ruled 71 = .ok (.iload_n 1, 1) := dk_27 (dk_at dksX3_ruled_2 23 rfl rfl)
theorem dX3_ruled_72 : decode cX3_ruled 72 = .ok (.ifCond .ne 7, 3) := dk_154 0 7 (dk_at dksX3_ruled_3 0 rfl rfl)
theorem dX3_ruled_75 : decode cX3_ruled 75 = .ok (.iload_n 2, 1) := dk_28 (dk_at dksX3_ruled_3 3 rfl rfl)
theorem dX3_ruled_76 : decode cX3_ruled 76 = .ok (.goto 4, 3) := dk_167 0 4 (dk_at dksX3_ruled_3 4 rfl rfl)
theorem dX3_ruled_79 : decode cX3_ruled 79 = .ok (.iload_n 3, 1) := dk_29 (dk_at dksX3_ruled_3 7 rfl rfl)
theorem dX3_ruled_80 : decode cX3_ruled 80 = .ok (.ireturn, 1) := dk_172 (dk_at dksX3_ruled_3 8 rfl rfl)
abbrev cX3_couldRule : ByteArray := prog_17_method_113_code
def yX3_couldRule : MethodName := ⟨RX3, "couldRule", "(II)Z"⟩
def dkwX3_couldRule_4 : List UInt8 := [182, 1, 241, 29, 172]
abbrev dktX3_couldRule_4 : List UInt8 := dkwX3_couldRule_4 ++ []
def dkwX3_couldRule_3 : List UInt8 := [182, 1, 164, 79, 132, 5, 1, 167, 255, 223, 42, 4, 182, 1, 238, 132, 4, 1, 167, 255, 183, 42]
abbrev dktX3_couldRule_3 : List UInt8 := dkwX3_couldRule_3 ++ dktX3_couldRule_4
def dkwX3_couldRule_2 : List UInt8 := [42, 180, 0, 9, 6, 46, 162, 0, 28, 21, 4, 28, 160, 0, 22, 42, 180, 0, 148, 21, 5, 42, 21, 5]
abbrev dktX3_couldRule_2 : List UInt8 := dkwX3_couldRule_2 ++ dktX3_couldRule_3
def dkwX3_couldRule_1 : List UInt8 := [29, 153, 0, 16, 42, 21, 4, 182, 2, 33, 153, 0, 7, 4, 167, 0, 4, 3, 62, 3, 54, 5, 21, 5]
abbrev dktX3_couldRule_1 : List UInt8 := dkwX3_couldRule_1 ++ dktX3_couldRule_2
def dkwX3_couldRule_0 : List UInt8 := [42, 180, 0, 9, 16, 12, 27, 79, 42, 182, 1, 90, 4, 62, 3, 54, 4, 21, 4, 16, 99, 163, 0, 72]
abbrev dktX3_couldRule_0 : List UInt8 := dkwX3_couldRule_0 ++ dktX3_couldRule_1
theorem dksX3_couldRule_0 : cX3_couldRule.data.toList.drop 0 = dktX3_couldRule_0 := by decide +kernel
theorem dksX3_couldRule_1 : cX3_couldRule.data.toList.drop 24 = dktX3_couldRule_1 := dk_seg dksX3_couldRule_0 24 rfl rfl
theorem dksX3_couldRule_2 : cX3_couldRule.data.toList.drop 48 = dktX3_couldRule_2 := dk_seg dksX3_couldRule_1 24 rfl rfl
theorem dksX3_couldRule_3 : cX3_couldRule.data.toList.drop 72 = dktX3_couldRule_3 := dk_seg dksX3_couldRule_2 24 rfl rfl
theorem dksX3_couldRule_4 : cX3_couldRule.data.toList.drop 94 = dktX3_couldRule_4 := dk_seg dksX3_couldRule_3 22 rfl rfl
theorem dX3_couldRule_0 : decode cX3_couldRule 0 = .ok (.aload_n 0, 1) := dk_42 (dk_at dksX3_couldRule_0 0 rfl rfl)
theorem dX3_couldRule_1 : decode cX3_couldRule 1 = .ok (.getfield 9, 3) := dk_180 0 9 (dk_at dksX3_couldRule_0 1 rfl rfl)
theorem dX3_couldRule_4 : decode cX3_couldRule 4 = .ok (.bipush 12, 2) := dk_16 12 (dk_at dksX3_couldRule_0 4 rfl rfl)
theorem dX3_couldRule_6 : decode cX3_couldRule 6 = .ok (.iload_n 1, 1) := dk_27 (dk_at dksX3_couldRule_0 6 rfl rfl)
theorem dX3_couldRule_7 : decode cX3_couldRule 7 = .ok (.iastore, 1) := dk_79 (dk_at dksX3_couldRule_0 7 rfl rfl)
theorem dX3_couldRule_8 : decode cX3_couldRule 8 = .ok (.aload_n 0, 1) := dk_42 (dk_at dksX3_couldRule_0 8 rfl rfl)
theorem dX3_couldRule_9 : decode cX3_couldRule 9 = .ok (.invokevirtual 346, 3) := dk_182 1 90 (dk_at dksX3_couldRule_0 9 rfl rfl)
theorem dX3_couldRule_12 : decode cX3_couldRule 12 = .ok (.iconst 1, 1) := dk_4 (dk_at dksX3_couldRule_0 12 rfl rfl)
theorem dX3_couldRule_13 : decode cX3_couldRule 13 = .ok (.istore_n 3, 1) := dk_62 (dk_at dksX3_couldRule_0 13 rfl rfl)
theorem dX3_couldRule_14 : decode cX3_couldRule 14 = .ok (.iconst 0, 1) := dk_3 (dk_at dksX3_couldRule_0 14 rfl rfl)
theorem dX3_couldRule_15 : decode cX3_couldRule 15 = .ok (.istore 4, 2) := dk_54 4 (dk_at dksX3_couldRule_0 15 rfl rfl)
theorem dX3_couldRule_17 : decode cX3_couldRule 17 = .ok (.iload 4, 2) := dk_21 4 (dk_at dksX3_couldRule_0 17 rfl rfl)
theorem dX3_couldRule_19 : decode cX3_couldRule 19 = .ok (.bipush 99, 2) := dk_16 99 (dk_at dksX3_couldRule_0 19 rfl rfl)
theorem dX3_couldRule_21 : decode cX3_couldRule 21 = .ok (.if_icmp .gt 72, 3) := dk_163 0 72 (dk_at dksX3_couldRule_0 21 rfl rfl)
theorem dX3_couldRule_24 : decode cX3_couldRule 24 = .ok (.iload_n 3, 1) := dk_29 (dk_at dksX3_couldRule_1 0 rfl rfl)
theorem dX3_couldRule_25 : decode cX3_couldRule 25 = .ok (.ifCond .eq 16, 3) := dk_153 0 16 (dk_at dksX3_couldRule_1 1 rfl rfl)
theorem dX3_couldRule_28 : decode cX3_couldRule 28 = .ok (.aload_n 0, 1) := dk_42 (dk_at dksX3_couldRule_1 4 rfl rfl)
theorem dX3_couldRule_29 : decode cX3_couldRule 29 = .ok (.iload 4, 2) := dk_21 4 (dk_at dksX3_couldRule_1 5 rfl rfl)
theorem dX3_couldRule_31 : decode cX3_couldRule 31 = .ok (.invokevirtual 545, 3) := dk_182 2 33 (dk_at dksX3_couldRule_1 7 rfl rfl)
theorem dX3_couldRule_34 : decode cX3_couldRule 34 = .ok (.ifCond .eq 7, 3) := dk_153 0 7 (dk_at dksX3_couldRule_1 10 rfl rfl)
theorem dX3_couldRule_37 : decode cX3_couldRule 37 = .ok (.iconst 1, 1) := dk_4 (dk_at dksX3_couldRule_1 13 rfl rfl)
theorem dX3_couldRule_38 : decode cX3_couldRule 38 = .ok (.goto 4, 3) := dk_167 0 4 (dk_at dksX3_couldRule_1 14 rfl rfl)
theorem dX3_couldRule_41 : decode cX3_couldRule 41 = .ok (.iconst 0, 1) := dk_3 (dk_at dksX3_couldRule_1 17 rfl rfl)
theorem dX3_couldRule_42 : decode cX3_couldRule 42 = .ok (.istore_n 3, 1) := dk_62 (dk_at dksX3_couldRule_1 18 rfl rfl)
theorem dX3_couldRule_43 : decode cX3_couldRule 43 = .ok (.iconst 0, 1) := dk_3 (dk_at dksX3_couldRule_1 19 rfl rfl)
theorem dX3_couldRule_44 : decode cX3_couldRule 44 = .ok (.istore 5, 2) := dk_54 5 (dk_at dksX3_couldRule_1 20 rfl rfl)
theorem dX3_couldRule_46 : decode cX3_couldRule 46 = .ok (.iload 5, 2) := dk_21 5 (dk_at dksX3_couldRule_1 22 rfl rfl)
theorem dX3_couldRule_48 : decode cX3_couldRule 48 = .ok (.aload_n 0, 1) := dk_42 (dk_at dksX3_couldRule_2 0 rfl rfl)
theorem dX3_couldRule_49 : decode cX3_couldRule 49 = .ok (.getfield 9, 3) := dk_180 0 9 (dk_at dksX3_couldRule_2 1 rfl rfl)
theorem dX3_couldRule_52 : decode cX3_couldRule 52 = .ok (.iconst 3, 1) := dk_6 (dk_at dksX3_couldRule_2 4 rfl rfl)
theorem dX3_couldRule_53 : decode cX3_couldRule 53 = .ok (.iaload, 1) := dk_46 (dk_at dksX3_couldRule_2 5 rfl rfl)
theorem dX3_couldRule_54 : decode cX3_couldRule 54 = .ok (.if_icmp .ge 28, 3) := dk_162 0 28 (dk_at dksX3_couldRule_2 6 rfl rfl)
theorem dX3_couldRule_57 : decode cX3_couldRule 57 = .ok (.iload 4, 2) := dk_21 4 (dk_at dksX3_couldRule_2 9 rfl rfl)
theorem dX3_couldRule_59 : decode cX3_couldRule 59 = .ok (.iload_n 2, 1) := dk_28 (dk_at dksX3_couldRule_2 11 rfl rfl)
theorem dX3_couldRule_60 : decode cX3_couldRule 60 = .ok (.if_icmp .ne 22, 3) := dk_160 0 22 (dk_at dksX3_couldRule_2 12 rfl rfl)
theorem dX3_couldRule_63 : decode cX3_couldRule 63 = .ok (.aload_n 0, 1) := dk_42 (dk_at dksX3_couldRule_2 15 rfl rfl)
theorem dX3_couldRule_64 : decode cX3_couldRule 64 = .ok (.getfield 148, 3) := dk_180 0 148 (dk_at dksX3_couldRule_2 16 rfl rfl)
theorem dX3_couldRule_67 : decode cX3_couldRule 67 = .ok (.iload 5, 2) := dk_21 5 (dk_at dksX3_couldRule_2 19 rfl rfl)
theorem dX3_couldRule_69 : decode cX3_couldRule 69 = .ok (.aload_n 0, 1) := dk_42 (dk_at dksX3_couldRule_2 21 rfl rfl)
theorem dX3_couldRule_70 : decode cX3_couldRule 70 = .ok (.iload 5, 2) := dk_21 5 (dk_at dksX3_couldRule_2 22 rfl rfl)
theorem dX3_couldRule_72 : decode cX3_couldRule 72 = .ok (.invokevirtual 420, 3) := dk_182 1 164 (dk_at dksX3_couldRule_3 0 rfl rfl)
theorem dX3_couldRule_75 : decode cX3_couldRule 75 = .ok (.iastore, 1) := dk_79 (dk_at dksX3_couldRule_3 3 rfl rfl)
theorem dX3_couldRule_76 : decode cX3_couldRule 76 = .ok (.iinc 5 1, 3) := dk_132 5 1 (dk_at dksX3_couldRule_3 4 rfl rfl)
theorem dX3_couldRule_79 : decode cX3_couldRule 79 = .ok (.goto (-33), 3) := dk_167 255 223 (dk_at dksX3_couldRule_3 7 rfl rfl)
theorem dX3_couldRule_82 : decode cX3_couldRule 82 = .ok (.aload_n 0, 1) := dk_42 (dk_at dksX3_couldRule_3 10 rfl rfl)
theorem dX3_couldRule_83 : decode cX3_couldRule 83 = .ok (.iconst 1, 1) := dk_4 (dk_at dksX3_couldRule_3 11 rfl rfl)
theorem dX3_couldRule_84 : decode cX3_couldRule 84 = .ok (.invokevirtual 494, 3) := dk_182 1 238 (dk_at dksX3_couldRule_3 12 rfl rfl)
theorem dX3_couldRule_87 : decode cX3_couldRule 87 = .ok (.iinc 4 1, 3) := dk_132 4 1 (dk_at dksX3_couldRule_3 15 rfl rfl)
theorem dX3_couldRule_90 : decode cX3_couldRule 90 = .ok (.goto (-73), 3) := dk_167 255 183 (dk_at dksX3_couldRule_3 18 rfl rfl)
theorem dX3_couldRule_93 : decode cX3_couldRule 93 = .ok (.aload_n 0, 1) := dk_42 (dk_at dksX3_couldRule_3 21 rfl rfl)
theorem dX3_couldRule_94 : decode cX3_couldRule 94 = .ok (.invokevirtual 497, 3) := dk_182 1 241 (dk_at dksX3_couldRule_4 0 rfl rfl)
theorem dX3_couldRule_97 : decode cX3_couldRule 97 = .ok (.iload_n 3, 1) := dk_29 (dk_at dksX3_couldRule_4 3 rfl rfl)
theorem dX3_couldRule_98 : decode cX3_couldRule 98 = .ok (.ireturn, 1) := dk_172 (dk_at dksX3_couldRule_4 4 rfl rfl)
abbrev cX3_areLogsSo : ByteArray := prog_17_method_112_code
def yX3_areLogsSo : MethodName := ⟨RX3, "areLogsSo", "(I)Z"⟩
def dkwX3_areLogsSo_2 : List UInt8 := [4, 167, 0, 4, 3, 61, 132, 3, 1, 167, 255, 203, 28, 172]
abbrev dktX3_areLogsSo_2 : List UInt8 := dkwX3_areLogsSo_2 ++ []
def dkwX3_areLogsSo_1 : List UInt8 := [46, 27, 160, 0, 22, 42, 42, 180, 0, 43, 29, 46, 182, 1, 164, 42, 180, 0, 46, 29, 46, 160, 0, 7]
abbrev dktX3_areLogsSo_1 : List UInt8 := dkwX3_areLogsSo_1 ++ dktX3_areLogsSo_2
def dkwX3_areLogsSo_0 : List UInt8 := [4, 61, 3, 62, 29, 42, 180, 0, 9, 16, 10, 46, 162, 0, 48, 28, 153, 0, 36, 42, 180, 0, 40, 29]
abbrev dktX3_areLogsSo_0 : List UInt8 := dkwX3_areLogsSo_0 ++ dktX3_areLogsSo_1
theorem dksX3_areLogsSo_0 : cX3_areLogsSo.data.toList.drop 0 = dktX3_areLogsSo_0 := by decide +kernel
theorem dksX3_areLogsSo_1 : cX3_areLogsSo.data.toList.drop 24 = dktX3_areLogsSo_1 := dk_seg dksX3_areLogsSo_0 24 rfl rfl
theorem dksX3_areLogsSo_2 : cX3_areLogsSo.data.toList.drop 48 = dktX3_areLogsSo_2 := dk_seg dksX3_areLogsSo_1 24 rfl rfl
theorem dX3_areLogsSo_0 : decode cX3_areLogsSo 0 = .ok (.iconst 1, 1) := dk_4 (dk_at dksX3_areLogsSo_0 0 rfl rfl)
theorem dX3_areLogsSo_1 : decode cX3_areLogsSo 1 = .ok (.istore_n 2, 1) := dk_61 (dk_at dksX3_areLogsSo_0 1 rfl rfl)
theorem dX3_areLogsSo_2 : decode cX3_areLogsSo 2 = .ok (.iconst 0, 1) := dk_3 (dk_at dksX3_areLogsSo_0 2 rfl rfl)
theorem dX3_areLogsSo_3 : decode cX3_areLogsSo 3 = .ok (.istore_n 3, 1) := dk_62 (dk_at dksX3_areLogsSo_0 3 rfl rfl)
theorem dX3_areLogsSo_4 : decode cX3_areLogsSo 4 = .ok (.iload_n 3, 1) := dk_29 (dk_at dksX3_areLogsSo_0 4 rfl rfl)
theorem dX3_areLogsSo_5 : decode cX3_areLogsSo 5 = .ok (.aload_n 0, 1) := dk_42 (dk_at dksX3_areLogsSo_0 5 rfl rfl)
theorem dX3_areLogsSo_6 : decode cX3_areLogsSo 6 = .ok (.getfield 9, 3) := dk_180 0 9 (dk_at dksX3_areLogsSo_0 6 rfl rfl)
theorem dX3_areLogsSo_9 : decode cX3_areLogsSo 9 = .ok (.bipush 10, 2) := dk_16 10 (dk_at dksX3_areLogsSo_0 9 rfl rfl)
theorem dX3_areLogsSo_11 : decode cX3_areLogsSo 11 = .ok (.iaload, 1) := dk_46 (dk_at dksX3_areLogsSo_0 11 rfl rfl)
theorem dX3_areLogsSo_12 : decode cX3_areLogsSo 12 = .ok (.if_icmp .ge 48, 3) := dk_162 0 48 (dk_at dksX3_areLogsSo_0 12 rfl rfl)
theorem dX3_areLogsSo_15 : decode cX3_areLogsSo 15 = .ok (.iload_n 2, 1) := dk_28 (dk_at dksX3_areLogsSo_0 15 rfl rfl)
theorem dX3_areLogsSo_16 : decode cX3_areLogsSo 16 = .ok (.ifCond .eq 36, 3) := dk_153 0 36 (dk_at dksX3_areLogsSo_0 16 rfl rfl)
theorem dX3_areLogsSo_19 : decode cX3_areLogsSo 19 = .ok (.aload_n 0, 1) := dk_42 (dk_at dksX3_areLogsSo_0 19 rfl rfl)
theorem dX3_areLogsSo_20 : decode cX3_areLogsSo 20 = .ok (.getfield 40, 3) := dk_180 0 40 (dk_at dksX3_areLogsSo_0 20 rfl rfl)
theorem dX3_areLogsSo_23 : decode cX3_areLogsSo 23 = .ok (.iload_n 3, 1) := dk_29 (dk_at dksX3_areLogsSo_0 23 rfl rfl)
theorem dX3_areLogsSo_24 : decode cX3_areLogsSo 24 = .ok (.iaload, 1) := dk_46 (dk_at dksX3_areLogsSo_1 0 rfl rfl)
theorem dX3_areLogsSo_25 : decode cX3_areLogsSo 25 = .ok (.iload_n 1, 1) := dk_27 (dk_at dksX3_areLogsSo_1 1 rfl rfl)
theorem dX3_areLogsSo_26 : decode cX3_areLogsSo 26 = .ok (.if_icmp .ne 22, 3) := dk_160 0 22 (dk_at dksX3_areLogsSo_1 2 rfl rfl)
theorem dX3_areLogsSo_29 : decode cX3_areLogsSo 29 = .ok (.aload_n 0, 1) := dk_42 (dk_at dksX3_areLogsSo_1 5 rfl rfl)
theorem dX3_areLogsSo_30 : decode cX3_areLogsSo 30 = .ok (.aload_n 0, 1) := dk_42 (dk_at dksX3_areLogsSo_1 6 rfl rfl)
theorem dX3_areLogsSo_31 : decode cX3_areLogsSo 31 = .ok (.getfield 43, 3) := dk_180 0 43 (dk_at dksX3_areLogsSo_1 7 rfl rfl)
theorem dX3_areLogsSo_34 : decode cX3_areLogsSo 34 = .ok (.iload_n 3, 1) := dk_29 (dk_at dksX3_areLogsSo_1 10 rfl rfl)
theorem dX3_areLogsSo_35 : decode cX3_areLogsSo 35 = .ok (.iaload, 1) := dk_46 (dk_at dksX3_areLogsSo_1 11 rfl rfl)
theorem dX3_areLogsSo_36 : decode cX3_areLogsSo 36 = .ok (.invokevirtual 420, 3) := dk_182 1 164 (dk_at dksX3_areLogsSo_1 12 rfl rfl)
theorem dX3_areLogsSo_39 : decode cX3_areLogsSo 39 = .ok (.aload_n 0, 1) := dk_42 (dk_at dksX3_areLogsSo_1 15 rfl rfl)
theorem dX3_areLogsSo_40 : decode cX3_areLogsSo 40 = .ok (.getfield 46, 3) := dk_180 0 46 (dk_at dksX3_areLogsSo_1 16 rfl rfl)
theorem dX3_areLogsSo_43 : decode cX3_areLogsSo 43 = .ok (.iload_n 3, 1) := dk_29 (dk_at dksX3_areLogsSo_1 19 rfl rfl)
theorem dX3_areLogsSo_44 : decode cX3_areLogsSo 44 = .ok (.iaload, 1) := dk_46 (dk_at dksX3_areLogsSo_1 20 rfl rfl)
theorem dX3_areLogsSo_45 : decode cX3_areLogsSo 45 = .ok (.if_icmp .ne 7, 3) := dk_160 0 7 (dk_at dksX3_areLogsSo_1 21 rfl rfl)
theorem dX3_areLogsSo_48 : decode cX3_areLogsSo 48 = .ok (.iconst 1, 1) := dk_4 (dk_at dksX3_areLogsSo_2 0 rfl rfl)
theorem dX3_areLogsSo_49 : decode cX3_areLogsSo 49 = .ok (.goto 4, 3) := dk_167 0 4 (dk_at dksX3_areLogsSo_2 1 rfl rfl)
theorem dX3_areLogsSo_52 : decode cX3_areLogsSo 52 = .ok (.iconst 0, 1) := dk_3 (dk_at dksX3_areLogsSo_2 4 rfl rfl)
theorem dX3_areLogsSo_53 : decode cX3_areLogsSo 53 = .ok (.istore_n 2, 1) := dk_61 (dk_at dksX3_areLogsSo_2 5 rfl rfl)
theorem dX3_areLogsSo_54 : decode cX3_areLogsSo 54 = .ok (.iinc 3 1, 3) := dk_132 3 1 (dk_at dksX3_areLogsSo_2 6 rfl rfl)
theorem dX3_areLogsSo_57 : decode cX3_areLogsSo 57 = .ok (.goto (-53), 3) := dk_167 255 203 (dk_at dksX3_areLogsSo_2 9 rfl rfl)
theorem dX3_areLogsSo_60 : decode cX3_areLogsSo 60 = .ok (.iload_n 2, 1) := dk_28 (dk_at dksX3_areLogsSo_2 12 rfl rfl)
theorem dX3_areLogsSo_61 : decode cX3_areLogsSo 61 = .ok (.ireturn, 1) := dk_172 (dk_at dksX3_areLogsSo_2 13 rfl rfl)
abbrev cX3_look : ByteArray := prog_17_method_115_code
def yX3_look : MethodName := ⟨RX3, "look", "(II)I"⟩
def dkwX3_look_10 : List UInt8 := [21, 7, 54, 5, 132, 6, 1, 167, 255, 164, 28, 154, 0, 8, 21, 4, 167, 0, 5, 21, 5, 172]
abbrev dktX3_look_10 : List UInt8 := dkwX3_look_10 ++ []
def dkwX3_look_9 : List UInt8 := [132, 8, 1, 167, 255, 216, 21, 4, 16, 254, 159, 0, 10, 21, 7, 21, 5, 162, 0, 11, 21, 6, 54, 4]
abbrev dktX3_look_9 : List UInt8 := dkwX3_look_9 ++ dktX3_look_10
def dkwX3_look_8 : List UInt8 := [21, 8, 46, 21, 7, 164, 0, 13, 42, 180, 0, 151, 21, 8, 46, 167, 0, 5, 21, 7, 54, 7]
abbrev dktX3_look_8 : List UInt8 := dkwX3_look_8 ++ dktX3_look_9
def dkwX3_look_7 : List UInt8 := [54, 7, 8, 21, 6, 104, 54, 8, 21, 8, 8, 21, 6, 4, 96, 104, 162, 0, 35, 42, 180, 0, 151]
abbrev dktX3_look_7 : List UInt8 := dkwX3_look_7 ++ dktX3_look_8
def dkwX3_look_6 : List UInt8 := [16, 254, 54, 5, 3, 54, 6, 21, 6, 42, 180, 0, 9, 6, 46, 162, 0, 87, 29, 158, 0, 83, 3]
abbrev dktX3_look_6 : List UInt8 := dkwX3_look_6 ++ dktX3_look_7
def dkwX3_look_5 : List UInt8 := [4, 96, 92, 46, 4, 96, 79, 132, 5, 1, 167, 255, 219, 132, 4, 1, 167, 255, 188, 16, 254, 54, 4]
abbrev dktX3_look_5 : List UInt8 := dkwX3_look_5 ++ dktX3_look_6
def dkwX3_look_4 : List UInt8 := [180, 0, 9, 6, 46, 162, 0, 32, 42, 180, 0, 151, 8, 21, 5, 104, 42, 180, 0, 148, 21, 5, 46, 96]
abbrev dktX3_look_4 : List UInt8 := dkwX3_look_4 ++ dktX3_look_5
def dkwX3_look_3 : List UInt8 := [162, 0, 65, 42, 21, 4, 27, 182, 2, 36, 153, 0, 49, 132, 3, 1, 3, 54, 5, 21, 5, 42]
abbrev dktX3_look_3 : List UInt8 := dkwX3_look_3 ++ dktX3_look_4
def dkwX3_look_2 : List UInt8 := [3, 79, 132, 3, 1, 167, 255, 237, 42, 182, 1, 235, 3, 62, 2, 54, 4, 21, 4, 42, 180, 1, 106]
abbrev dktX3_look_2 : List UInt8 := dkwX3_look_2 ++ dktX3_look_3
def dkwX3_look_1 : List UInt8 := [184, 0, 164, 154, 0, 5, 2, 172, 3, 62, 29, 42, 180, 0, 151, 190, 162, 0, 16, 42, 180, 0, 151, 29]
abbrev dktX3_look_1 : List UInt8 := dkwX3_look_1 ++ dktX3_look_2
def dkwX3_look_0 : List UInt8 := [42, 182, 1, 173, 153, 0, 25, 27, 133, 9, 20, 2, 31, 184, 0, 164, 153, 0, 13, 28, 133, 9, 10]
abbrev dktX3_look_0 : List UInt8 := dkwX3_look_0 ++ dktX3_look_1
theorem dksX3_look_0 : cX3_look.data.toList.drop 0 = dktX3_look_0 := by decide +kernel
theorem dksX3_look_1 : cX3_look.data.toList.drop 23 = dktX3_look_1 := dk_seg dksX3_look_0 23 rfl rfl
theorem dksX3_look_2 : cX3_look.data.toList.drop 47 = dktX3_look_2 := dk_seg dksX3_look_1 24 rfl rfl
theorem dksX3_look_3 : cX3_look.data.toList.drop 70 = dktX3_look_3 := dk_seg dksX3_look_2 23 rfl rfl
theorem dksX3_look_4 : cX3_look.data.toList.drop 92 = dktX3_look_4 := dk_seg dksX3_look_3 22 rfl rfl
theorem dksX3_look_5 : cX3_look.data.toList.drop 116 = dktX3_look_5 := dk_seg dksX3_look_4 24 rfl rfl
theorem dksX3_look_6 : cX3_look.data.toList.drop 139 = dktX3_look_6 := dk_seg dksX3_look_5 23 rfl rfl
theorem dksX3_look_7 : cX3_look.data.toList.drop 162 = dktX3_look_7 := dk_seg dksX3_look_6 23 rfl rfl
theorem dksX3_look_8 : cX3_look.data.toList.drop 185 = dktX3_look_8 := dk_seg dksX3_look_7 23 rfl rfl
theorem dksX3_look_9 : cX3_look.data.toList.drop 207 = dktX3_look_9 := dk_seg dksX3_look_8 22 rfl rfl
theorem dksX3_look_10 : cX3_look.data.toList.drop 231 = dktX3_look_10 := dk_seg dksX3_look_9 24 rfl rfl
theorem dX3_look_0 : decode cX3_look 0 = .ok (.aload_n 0, 1) := dk_42 (dk_at dksX3_look_0 0 rfl rfl)
theorem dX3_look_1 : decode cX3_look 1 = .ok (.invokevirtual 429, 3) := dk_182 1 173 (dk_at dksX3_look_0 1 rfl rfl)
theorem dX3_look_4 : decode cX3_look 4 = .ok (.ifCond .eq 25, 3) := dk_153 0 25 (dk_at dksX3_look_0 4 rfl rfl)
theorem dX3_look_7 : decode cX3_look 7 = .ok (.iload_n 1, 1) := dk_27 (dk_at dksX3_look_0 7 rfl rfl)
theorem dX3_look_8 : decode cX3_look 8 = .ok (.i2l, 1) := dk_133 (dk_at dksX3_look_0 8 rfl rfl)
theorem dX3_look_9 : decode cX3_look 9 = .ok (.lconst 0, 1) := dk_9 (dk_at dksX3_look_0 9 rfl rfl)
theorem dX3_look_10 : decode cX3_look 10 = .ok (.ldc2_w 543, 3) := dk_20 2 31 (dk_at dksX3_look_0 10 rfl rfl)
theorem dX3_look_13 : decode cX3_look 13 = .ok (.invokestatic 164, 3) := dk_184 0 164 (dk_at dksX3_look_0 13 rfl rfl)
theorem dX3_look_16 : decode cX3_look 16 = .ok (.ifCond .eq 13, 3) := dk_153 0 13 (dk_at dksX3_look_0 16 rfl rfl)
theorem dX3_look_19 : decode cX3_look 19 = .ok (.iload_n 2, 1) := dk_28 (dk_at dksX3_look_0 19 rfl rfl)
theorem dX3_look_20 : decode cX3_look 20 = .ok (.i2l, 1) := dk_133 (dk_at dksX3_look_0 20 rfl rfl)
theorem dX3_look_21 : decode cX3_look 21 = .ok (.lconst 0, 1) := dk_9 (dk_at dksX3_look_0 21 rfl rfl)
theorem dX3_look_22 : decode cX3_look 22 = .ok (.lconst 1, 1) := dk_10 (dk_at dksX3_look_0 22 rfl rfl)
theorem dX3_look_23 : decode cX3_look 23 = .ok (.invokestatic 164, 3) := dk_184 0 164 (dk_at dksX3_look_1 0 rfl rfl)
theorem dX3_look_26 : decode cX3_look 26 = .ok (.ifCond .ne 5, 3) := dk_154 0 5 (dk_at dksX3_look_1 3 rfl rfl)
theorem dX3_look_29 : decode cX3_look 29 = .ok (.iconst (-1), 1) := dk_2 (dk_at dksX3_look_1 6 rfl rfl)
theorem dX3_look_30 : decode cX3_look 30 = .ok (.ireturn, 1) := dk_172 (dk_at dksX3_look_1 7 rfl rfl)
theorem dX3_look_31 : decode cX3_look 31 = .ok (.iconst 0, 1) := dk_3 (dk_at dksX3_look_1 8 rfl rfl)
theorem dX3_look_32 : decode cX3_look 32 = .ok (.istore_n 3, 1) := dk_62 (dk_at dksX3_look_1 9 rfl rfl)
theorem dX3_look_33 : decode cX3_look 33 = .ok (.iload_n 3, 1) := dk_29 (dk_at dksX3_look_1 10 rfl rfl)
theorem dX3_look_34 : decode cX3_look 34 = .ok (.aload_n 0, 1) := dk_42 (dk_at dksX3_look_1 11 rfl rfl)
theorem dX3_look_35 : decode cX3_look 35 = .ok (.getfield 151, 3) := dk_180 0 151 (dk_at dksX3_look_1 12 rfl rfl)
theorem dX3_look_38 : decode cX3_look 38 = .ok (.arraylength, 1) := dk_190 (dk_at dksX3_look_1 15 rfl rfl)
theorem dX3_look_39 : decode cX3_look 39 = .ok (.if_icmp .ge 16, 3) := dk_162 0 16 (dk_at dksX3_look_1 16 rfl rfl)
theorem dX3_look_42 : decode cX3_look 42 = .ok (.aload_n 0, 1) := dk_42 (dk_at dksX3_look_1 19 rfl rfl)
theorem dX3_look_43 : decode cX3_look 43 = .ok (.getfield 151, 3) := dk_180 0 151 (dk_at dksX3_look_1 20 rfl rfl)
theorem dX3_look_46 : decode cX3_look 46 = .ok (.iload_n 3, 1) := dk_29 (dk_at dksX3_look_1 23 rfl rfl)
theorem dX3_look_47 : decode cX3_look 47 = .ok (.iconst 0, 1) := dk_3 (dk_at dksX3_look_2 0 rfl rfl)
theorem dX3_look_48 : decode cX3_look 48 = .ok (.iastore, 1) := dk_79 (dk_at dksX3_look_2 1 rfl rfl)
theorem dX3_look_49 : decode cX3_look 49 = .ok (.iinc 3 1, 3) := dk_132 3 1 (dk_at dksX3_look_2 2 rfl rfl)
theorem dX3_look_52 : decode cX3_look 52 = .ok (.goto (-19), 3) := dk_167 255 237 (dk_at dksX3_look_2 5 rfl rfl)
theorem dX3_look_55 : decode cX3_look 55 = .ok (.aload_n 0, 1) := dk_42 (dk_at dksX3_look_2 8 rfl rfl)
theorem dX3_look_56 : decode cX3_look 56 = .ok (.invokevirtual 491, 3) := dk_182 1 235 (dk_at dksX3_look_2 9 rfl rfl)
theorem dX3_look_59 : decode cX3_look 59 = .ok (.iconst 0, 1) := dk_3 (dk_at dksX3_look_2 12 rfl rfl)
theorem dX3_look_60 : decode cX3_look 60 = .ok (.istore_n 3, 1) := dk_62 (dk_at dksX3_look_2 13 rfl rfl)
theorem dX3_look_61 : decode cX3_look 61 = .ok (.iconst (-1), 1) := dk_2 (dk_at dksX3_look_2 14 rfl rfl)
theorem dX3_look_62 : decode cX3_look 62 = .ok (.istore 4, 2) := dk_54 4 (dk_at dksX3_look_2 15 rfl rfl)
theorem dX3_look_64 : decode cX3_look 64 = .ok (.iload 4, 2) := dk_21 4 (dk_at dksX3_look_2 17 rfl rfl)
theorem dX3_look_66 : decode cX3_look 66 = .ok (.aload_n 0, 1) := dk_42 (dk_at dksX3_look_2 19 rfl rfl)
theorem dX3_look_67 : decode cX3_look 67 = .ok (.getfield 362, 3) := dk_180 1 106 (dk_at dksX3_look_2 20 rfl rfl)
theorem dX3_look_70 : decode cX3_look 70 = .ok (.if_icmp .ge 65, 3) := dk_162 0 65 (dk_at dksX3_look_3 0 rfl rfl)
theorem dX3_look_73 : decode cX3_look 73 = .ok (.aload_n 0, 1) := dk_42 (dk_at dksX3_look_3 3 rfl rfl)
theorem dX3_look_74 : decode cX3_look 74 = .ok (.iload 4, 2) := dk_21 4 (dk_at dksX3_look_3 4 rfl rfl)
theorem dX3_look_76 : decode cX3_look 76 = .ok (.iload_n 1, 1) := dk_27 (dk_at dksX3_look_3 6 rfl rfl)
theorem dX3_look_77 : decode cX3_look 77 = .ok (.invokevirtual 548, 3) := dk_182 2 36 (dk_at dksX3_look_3 7 rfl rfl)
theorem dX3_look_80 : decode cX3_look 80 = .ok (.ifCond .eq 49, 3) := dk_153 0 49 (dk_at dksX3_look_3 10 rfl rfl)
theorem dX3_look_83 : decode cX3_look 83 = .ok (.iinc 3 1, 3) := dk_132 3 1 (dk_at dksX3_look_3 13 rfl rfl)
theorem dX3_look_86 : decode cX3_look 86 = .ok (.iconst 0, 1) := dk_3 (dk_at dksX3_look_3 16 rfl rfl)
theorem dX3_look_87 : decode cX3_look 87 = .ok (.istore 5, 2) := dk_54 5 (dk_at dksX3_look_3 17 rfl rfl)
theorem dX3_look_89 : decode cX3_look 89 = .ok (.iload 5, 2) := dk_21 5 (dk_at dksX3_look_3 19 rfl rfl)
theorem dX3_look_91 : decode cX3_look 91 = .ok (.aload_n 0, 1) := dk_42 (dk_at dksX3_look_3 21 rfl rfl)
theorem dX3_look_92 : decode cX3_look 92 = .ok (.getfield 9, 3) := dk_180 0 9 (dk_at dksX3_look_4 0 rfl rfl)
theorem dX3_look_95 : decode cX3_look 95 = .ok (.iconst 3, 1) := dk_6 (dk_at dksX3_look_4 3 rfl rfl)
theorem dX3_look_96 : decode cX3_look 96 = .ok (.iaload, 1) := dk_46 (dk_at dksX3_look_4 4 rfl rfl)
theorem dX3_look_97 : decode cX3_look 97 = .ok (.if_icmp .ge 32, 3) := dk_162 0 32 (dk_at dksX3_look_4 5 rfl rfl)
theorem dX3_look_100 : decode cX3_look 100 = .ok (.aload_n 0, 1) := dk_42 (dk_at dksX3_look_4 8 rfl rfl)
theorem dX3_look_101 : decode cX3_look 101 = .ok (.getfield 151, 3) := dk_180 0 151 (dk_at dksX3_look_4 9 rfl rfl)
theorem dX3_look_104 : decode cX3_look 104 = .ok (.iconst 5, 1) := dk_8 (dk_at dksX3_look_4 12 rfl rfl)
theorem dX3_look_105 : decode cX3_look 105 = .ok (.iload 5, 2) := dk_21 5 (dk_at dksX3_look_4 13 rfl rfl)
theorem dX3_look_107 : decode cX3_look 107 = .ok (.imul, 1) := dk_104 (dk_at dksX3_look_4 15 rfl rfl)
theorem dX3_look_108 : decode cX3_look 108 = .ok (.aload_n 0, 1) := dk_42 (dk_at dksX3_look_4 16 rfl rfl)
theorem dX3_look_109 : decode cX3_look 109 = .ok (.getfield 148, 3) := dk_180 0 148 (dk_at dksX3_look_4 17 rfl rfl)
theorem dX3_look_112 : decode cX3_look 112 = .ok (.iload 5, 2) := dk_21 5 (dk_at dksX3_look_4 20 rfl rfl)
theorem dX3_look_114 : decode cX3_look 114 = .ok (.iaload, 1) := dk_46 (dk_at dksX3_look_4 22 rfl rfl)
theorem dX3_look_115 : decode cX3_look 115 = .ok (.iadd, 1) := dk_96 (dk_at dksX3_look_4 23 rfl rfl)
theorem dX3_look_116 : decode cX3_look 116 = .ok (.iconst 1, 1) := dk_4 (dk_at dksX3_look_5 0 rfl rfl)
theorem dX3_look_117 : decode cX3_look 117 = .ok (.iadd, 1) := dk_96 (dk_at dksX3_look_5 1 rfl rfl)
theorem dX3_look_118 : decode cX3_look 118 = .ok (.dup2, 1) := dk_92 (dk_at dksX3_look_5 2 rfl rfl)
theorem dX3_look_119 : decode cX3_look 119 = .ok (.iaload, 1) := dk_46 (dk_at dksX3_look_5 3 rfl rfl)
theorem dX3_look_120 : decode cX3_look 120 = .ok (.iconst 1, 1) := dk_4 (dk_at dksX3_look_5 4 rfl rfl)
theorem dX3_look_121 : decode cX3_look 121 = .ok (.iadd, 1) := dk_96 (dk_at dksX3_look_5 5 rfl rfl)
theorem dX3_look_122 : decode cX3_look 122 = .ok (.iastore, 1) := dk_79 (dk_at dksX3_look_5 6 rfl rfl)
theorem dX3_look_123 : decode cX3_look 123 = .ok (.iinc 5 1, 3) := dk_132 5 1 (dk_at dksX3_look_5 7 rfl rfl)
theorem dX3_look_126 : decode cX3_look 126 = .ok (.goto (-37), 3) := dk_167 255 219 (dk_at dksX3_look_5 10 rfl rfl)
theorem dX3_look_129 : decode cX3_look 129 = .ok (.iinc 4 1, 3) := dk_132 4 1 (dk_at dksX3_look_5 13 rfl rfl)
theorem dX3_look_132 : decode cX3_look 132 = .ok (.goto (-68), 3) := dk_167 255 188 (dk_at dksX3_look_5 16 rfl rfl)
theorem dX3_look_135 : decode cX3_look 135 = .ok (.bipush (-2), 2) := dk_16 254 (dk_at dksX3_look_5 19 rfl rfl)
theorem dX3_look_137 : decode cX3_look 137 = .ok (.istore 4, 2) := dk_54 4 (dk_at dksX3_look_5 21 rfl rfl)
theorem dX3_look_139 : decode cX3_look 139 = .ok (.bipush (-2), 2) := dk_16 254 (dk_at dksX3_look_6 0 rfl rfl)
theorem dX3_look_141 : decode cX3_look 141 = .ok (.istore 5, 2) := dk_54 5 (dk_at dksX3_look_6 2 rfl rfl)
theorem dX3_look_143 : decode cX3_look 143 = .ok (.iconst 0, 1) := dk_3 (dk_at dksX3_look_6 4 rfl rfl)
theorem dX3_look_144 : decode cX3_look 144 = .ok (.istore 6, 2) := dk_54 6 (dk_at dksX3_look_6 5 rfl rfl)
theorem dX3_look_146 : decode cX3_look 146 = .ok (.iload 6, 2) := dk_21 6 (dk_at dksX3_look_6 7 rfl rfl)
theorem dX3_look_148 : decode cX3_look 148 = .ok (.aload_n 0, 1) := dk_42 (dk_at dksX3_look_6 9 rfl rfl)
theorem dX3_look_149 : decode cX3_look 149 = .ok (.getfield 9, 3) := dk_180 0 9 (dk_at dksX3_look_6 10 rfl rfl)
theorem dX3_look_152 : decode cX3_look 152 = .ok (.iconst 3, 1) := dk_6 (dk_at dksX3_look_6 13 rfl rfl)
theorem dX3_look_153 : decode cX3_look 153 = .ok (.iaload, 1) := dk_46 (dk_at dksX3_look_6 14 rfl rfl)
theorem dX3_look_154 : decode cX3_look 154 = .ok (.if_icmp .ge 87, 3) := dk_162 0 87 (dk_at dksX3_look_6 15 rfl rfl)
theorem dX3_look_157 : decode cX3_look 157 = .ok (.iload_n 3, 1) := dk_29 (dk_at dksX3_look_6 18 rfl rfl)
theorem dX3_look_158 : decode cX3_look 158 = .ok (.ifCond .le 83, 3) := dk_158 0 83 (dk_at dksX3_look_6 19 rfl rfl)
theorem dX3_look_161 : decode cX3_look 161 = .ok (.iconst 0, 1) := dk_3 (dk_at dksX3_look_6 22 rfl rfl)
theorem dX3_look_162 : decode cX3_look 162 = .ok (.istore 7, 2) := dk_54 7 (dk_at dksX3_look_7 0 rfl rfl)
theorem dX3_look_164 : decode cX3_look 164 = .ok (.iconst 5, 1) := dk_8 (dk_at dksX3_look_7 2 rfl rfl)
theorem dX3_look_165 : decode cX3_look 165 = .ok (.iload 6, 2) := dk_21 6 (dk_at dksX3_look_7 3 rfl rfl)
theorem dX3_look_167 : decode cX3_look 167 = .ok (.imul, 1) := dk_104 (dk_at dksX3_look_7 5 rfl rfl)
theorem dX3_look_168 : decode cX3_look 168 = .ok (.istore 8, 2) := dk_54 8 (dk_at dksX3_look_7 6 rfl rfl)
theorem dX3_look_170 : decode cX3_look 170 = .ok (.iload 8, 2) := dk_21 8 (dk_at dksX3_look_7 8 rfl rfl)
theorem dX3_look_172 : decode cX3_look 172 = .ok (.iconst 5, 1) := dk_8 (dk_at dksX3_look_7 10 rfl rfl)
theorem dX3_look_173 : decode cX3_look 173 = .ok (.iload 6, 2) := dk_21 6 (dk_at dksX3_look_7 11 rfl rfl)
theorem dX3_look_175 : decode cX3_look 175 = .ok (.iconst 1, 1) := dk_4 (dk_at dksX3_look_7 13 rfl rfl)
theorem dX3_look_176 : decode cX3_look 176 = .ok (.iadd, 1) := dk_96 (dk_at dksX3_look_7 14 rfl rfl)
theorem dX3_look_177 : decode cX3_look 177 = .ok (.imul, 1) := dk_104 (dk_at dksX3_look_7 15 rfl rfl)
theorem dX3_look_178 : decode cX3_look 178 = .ok (.if_icmp .ge 35, 3) := dk_162 0 35 (dk_at dksX3_look_7 16 rfl rfl)
theorem dX3_look_181 : decode cX3_look 181 = .ok (.aload_n 0, 1) := dk_42 (dk_at dksX3_look_7 19 rfl rfl)
theorem dX3_look_182 : decode cX3_look 182 = .ok (.getfield 151, 3) := dk_180 0 151 (dk_at dksX3_look_7 20 rfl rfl)
theorem dX3_look_185 : decode cX3_look 185 = .ok (.iload 8, 2) := dk_21 8 (dk_at dksX3_look_8 0 rfl rfl)
theorem dX3_look_187 : decode cX3_look 187 = .ok (.iaload, 1) := dk_46 (dk_at dksX3_look_8 2 rfl rfl)
theorem dX3_look_188 : decode cX3_look 188 = .ok (.iload 7, 2) := dk_21 7 (dk_at dksX3_look_8 3 rfl rfl)
theorem dX3_look_190 : decode cX3_look 190 = .ok (.if_icmp .le 13, 3) := dk_164 0 13 (dk_at dksX3_look_8 5 rfl rfl)
theorem dX3_look_193 : decode cX3_look 193 = .ok (.aload_n 0, 1) := dk_42 (dk_at dksX3_look_8 8 rfl rfl)
theorem dX3_look_194 : decode cX3_look 194 = .ok (.getfield 151, 3) := dk_180 0 151 (dk_at dksX3_look_8 9 rfl rfl)
theorem dX3_look_197 : decode cX3_look 197 = .ok (.iload 8, 2) := dk_21 8 (dk_at dksX3_look_8 12 rfl rfl)
theorem dX3_look_199 : decode cX3_look 199 = .ok (.iaload, 1) := dk_46 (dk_at dksX3_look_8 14 rfl rfl)
theorem dX3_look_200 : decode cX3_look 200 = .ok (.goto 5, 3) := dk_167 0 5 (dk_at dksX3_look_8 15 rfl rfl)
theorem dX3_look_203 : decode cX3_look 203 = .ok (.iload 7, 2) := dk_21 7 (dk_at dksX3_look_8 18 rfl rfl)
theorem dX3_look_205 : decode cX3_look 205 = .ok (.istore 7, 2) := dk_54 7 (dk_at dksX3_look_8 20 rfl rfl)
theorem dX3_look_207 : decode cX3_look 207 = .ok (.iinc 8 1, 3) := dk_132 8 1 (dk_at dksX3_look_9 0 rfl rfl)
theorem dX3_look_210 : decode cX3_look 210 = .ok (.goto (-40), 3) := dk_167 255 216 (dk_at dksX3_look_9 3 rfl rfl)
theorem dX3_look_213 : decode cX3_look 213 = .ok (.iload 4, 2) := dk_21 4 (dk_at dksX3_look_9 6 rfl rfl)
theorem dX3_look_215 : decode cX3_look 215 = .ok (.bipush (-2), 2) := dk_16 254 (dk_at dksX3_look_9 8 rfl rfl)
theorem dX3_look_217 : decode cX3_look 217 = .ok (.if_icmp .eq 10, 3) := dk_159 0 10 (dk_at dksX3_look_9 10 rfl rfl)
theorem dX3_look_220 : decode cX3_look 220 = .ok (.iload 7, 2) := dk_21 7 (dk_at dksX3_look_9 13 rfl rfl)
theorem dX3_look_222 : decode cX3_look 222 = .ok (.iload 5, 2) := dk_21 5 (dk_at dksX3_look_9 15 rfl rfl)
theorem dX3_look_224 : decode cX3_look 224 = .ok (.if_icmp .ge 11, 3) := dk_162 0 11 (dk_at dksX3_look_9 17 rfl rfl)
theorem dX3_look_227 : decode cX3_look 227 = .ok (.iload 6, 2) := dk_21 6 (dk_at dksX3_look_9 20 rfl rfl)
theorem dX3_look_229 : decode cX3_look 229 = .ok (.istore 4, 2) := dk_54 4 (dk_at dksX3_look_9 22 rfl rfl)
theorem dX3_look_231 : decode cX3_look 231 = .ok (.iload 7, 2) := dk_21 7 (dk_at dksX3_look_10 0 rfl rfl)
theorem dX3_look_233 : decode cX3_look 233 = .ok (.istore 5, 2) := dk_54 5 (dk_at dksX3_look_10 2 rfl rfl)
theorem dX3_look_235 : decode cX3_look 235 = .ok (.iinc 6 1, 3) := dk_132 6 1 (dk_at dksX3_look_10 4 rfl rfl)
theorem dX3_look_238 : decode cX3_look 238 = .ok (.goto (-92), 3) := dk_167 255 164 (dk_at dksX3_look_10 7 rfl rfl)
theorem dX3_look_241 : decode cX3_look 241 = .ok (.iload_n 2, 1) := dk_28 (dk_at dksX3_look_10 10 rfl rfl)
theorem dX3_look_242 : decode cX3_look 242 = .ok (.ifCond .ne 8, 3) := dk_154 0 8 (dk_at dksX3_look_10 11 rfl rfl)
theorem dX3_look_245 : decode cX3_look 245 = .ok (.iload 4, 2) := dk_21 4 (dk_at dksX3_look_10 14 rfl rfl)
theorem dX3_look_247 : decode cX3_look 247 = .ok (.goto 5, 3) := dk_167 0 5 (dk_at dksX3_look_10 16 rfl rfl)
theorem dX3_look_250 : decode cX3_look 250 = .ok (.iload 5, 2) := dk_21 5 (dk_at dksX3_look_10 19 rfl rfl)
theorem dX3_look_252 : decode cX3_look 252 = .ok (.ireturn, 1) := dk_172 (dk_at dksX3_look_10 21 rfl rfl)
abbrev cX3_seed : ByteArray := prog_17_method_116_code
def yX3_seed : MethodName := ⟨RX3, "seed", "(I)I"⟩
def dkwX3_seed_0 : List UInt8 := [27, 156, 0, 5, 2, 172, 42, 180, 0, 9, 16, 11, 46, 61, 42, 180, 0, 9, 16, 11, 27, 79, 28, 172]
abbrev dktX3_seed_0 : List UInt8 := dkwX3_seed_0 ++ []
theorem dksX3_seed_0 : cX3_seed.data.toList.drop 0 = dktX3_seed_0 := by decide +kernel
theorem dX3_seed_0 : decode cX3_seed 0 = .ok (.iload_n 1, 1) := dk_27 (dk_at dksX3_seed_0 0 rfl rfl)
theorem dX3_seed_1 : decode cX3_seed 1 = .ok (.ifCond .ge 5, 3) := dk_156 0 5 (dk_at dksX3_seed_0 1 rfl rfl)
theorem dX3_seed_4 : decode cX3_seed 4 = .ok (.iconst (-1), 1) := dk_2 (dk_at dksX3_seed_0 4 rfl rfl)
theorem dX3_seed_5 : decode cX3_seed 5 = .ok (.ireturn, 1) := dk_172 (dk_at dksX3_seed_0 5 rfl rfl)
theorem dX3_seed_6 : decode cX3_seed 6 = .ok (.aload_n 0, 1) := dk_42 (dk_at dksX3_seed_0 6 rfl rfl)
theorem dX3_seed_7 : decode cX3_seed 7 = .ok (.getfield 9, 3) := dk_180 0 9 (dk_at dksX3_seed_0 7 rfl rfl)
theorem dX3_seed_10 : decode cX3_seed 10 = .ok (.bipush 11, 2) := dk_16 11 (dk_at dksX3_seed_0 10 rfl rfl)
theorem dX3_seed_12 : decode cX3_seed 12 = .ok (.iaload, 1) := dk_46 (dk_at dksX3_seed_0 12 rfl rfl)
theorem dX3_seed_13 : decode cX3_seed 13 = .ok (.istore_n 2, 1) := dk_61 (dk_at dksX3_seed_0 13 rfl rfl)
theorem dX3_seed_14 : decode cX3_seed 14 = .ok (.aload_n 0, 1) := dk_42 (dk_at dksX3_seed_0 14 rfl rfl)
theorem dX3_seed_15 : decode cX3_seed 15 = .ok (.getfield 9, 3) := dk_180 0 9 (dk_at dksX3_seed_0 15 rfl rfl)
theorem dX3_seed_18 : decode cX3_seed 18 = .ok (.bipush 11, 2) := dk_16 11 (dk_at dksX3_seed_0 18 rfl rfl)
theorem dX3_seed_20 : decode cX3_seed 20 = .ok (.iload_n 1, 1) := dk_27 (dk_at dksX3_seed_0 20 rfl rfl)
theorem dX3_seed_21 : decode cX3_seed 21 = .ok (.iastore, 1) := dk_79 (dk_at dksX3_seed_0 21 rfl rfl)
theorem dX3_seed_22 : decode cX3_seed 22 = .ok (.iload_n 2, 1) := dk_28 (dk_at dksX3_seed_0 22 rfl rfl)
theorem dX3_seed_23 : decode cX3_seed 23 = .ok (.ireturn, 1) := dk_172 (dk_at dksX3_seed_0 23 rfl rfl)
abbrev cX3_years : ByteArray := prog_17_method_119_code
def yX3_years : MethodName := ⟨RX3, "years", "(III)I"⟩
def dkwX3_years_7 : List UInt8 := [167, 255, 235, 29, 154, 0, 8, 21, 6, 167, 0, 5, 21, 7, 172]
abbrev dktX3_years_7 : List UInt8 := dkwX3_years_7 ++ []
def dkwX3_years_6 : List UInt8 := [3, 54, 8, 21, 8, 7, 162, 0, 21, 21, 7, 42, 180, 0, 127, 21, 8, 46, 96, 54, 7, 132, 8, 1]
abbrev dktX3_years_6 : List UInt8 := dkwX3_years_6 ++ dktX3_years_7
def dkwX3_years_5 : List UInt8 := [54, 5, 42, 182, 1, 241, 132, 7, 1, 167, 255, 197, 42, 180, 0, 9, 16, 11, 21, 4, 79, 3, 54, 7]
abbrev dktX3_years_5 : List UInt8 := dkwX3_years_5 ++ dktX3_years_6
def dkwX3_years_4 : List UInt8 := [42, 182, 2, 51, 96, 54, 6, 42, 182, 1, 201, 132, 8, 1, 167, 255, 234, 42, 180, 0, 9, 16, 11, 46]
abbrev dktX3_years_4 : List UInt8 := dkwX3_years_4 ++ dktX3_years_5
def dkwX3_years_3 : List UInt8 := [27, 162, 0, 59, 42, 180, 0, 9, 16, 11, 21, 5, 79, 3, 54, 8, 21, 8, 28, 162, 0, 22, 21, 6]
abbrev dktX3_years_3 : List UInt8 := dkwX3_years_3 ++ dktX3_years_4
def dkwX3_years_2 : List UInt8 := [180, 0, 9, 16, 11, 46, 54, 4, 21, 4, 54, 5, 3, 54, 6, 42, 182, 1, 235, 3, 54, 7, 21, 7]
abbrev dktX3_years_2 : List UInt8 := dkwX3_years_2 ++ dktX3_years_3
def dkwX3_years_1 : List UInt8 := [20, 1, 233, 184, 0, 164, 153, 0, 13, 29, 133, 9, 10, 184, 0, 164, 154, 0, 5, 2, 172, 42]
abbrev dktX3_years_1 : List UInt8 := dkwX3_years_1 ++ dktX3_years_2
def dkwX3_years_0 : List UInt8 := [42, 182, 1, 173, 153, 0, 37, 27, 133, 10, 20, 2, 49, 184, 0, 164, 153, 0, 25, 28, 133, 10]
abbrev dktX3_years_0 : List UInt8 := dkwX3_years_0 ++ dktX3_years_1
theorem dksX3_years_0 : cX3_years.data.toList.drop 0 = dktX3_years_0 := by decide +kernel
theorem dksX3_years_1 : cX3_years.data.toList.drop 22 = dktX3_years_1 := dk_seg dksX3_years_0 22 rfl rfl
theorem dksX3_years_2 : cX3_years.data.toList.drop 44 = dktX3_years_2 := dk_seg dksX3_years_1 22 rfl rfl
theorem dksX3_years_3 : cX3_years.data.toList.drop 68 = dktX3_years_3 := dk_seg dksX3_years_2 24 rfl rfl
theorem dksX3_years_4 : cX3_years.data.toList.drop 92 = dktX3_years_4 := dk_seg dksX3_years_3 24 rfl rfl
theorem dksX3_years_5 : cX3_years.data.toList.drop 116 = dktX3_years_5 := dk_seg dksX3_years_4 24 rfl rfl
theorem dksX3_years_6 : cX3_years.data.toList.drop 140 = dktX3_years_6 := dk_seg dksX3_years_5 24 rfl rfl
theorem dksX3_years_7 : cX3_years.data.toList.drop 164 = dktX3_years_7 := dk_seg dksX3_years_6 24 rfl rfl
theorem dX3_years_0 : decode cX3_years 0 = .ok (.aload_n 0, 1) := dk_42 (dk_at dksX3_years_0 0 rfl rfl)
theorem dX3_years_1 : decode cX3_years 1 = .ok (.invokevirtual 429, 3) := dk_182 1 173 (dk_at dksX3_years_0 1 rfl rfl)
theorem dX3_years_4 : decode cX3_years 4 = .ok (.ifCond .eq 37, 3) := dk_153 0 37 (dk_at dksX3_years_0 4 rfl rfl)
theorem dX3_years_7 : decode cX3_years 7 = .ok (.iload_n 1, 1) := dk_27 (dk_at dksX3_years_0 7 rfl rfl)
theorem dX3_years_8 : decode cX3_years 8 = .ok (.i2l, 1) := dk_133 (dk_at dksX3_years_0 8 rfl rfl)
theorem dX3_years_9 : decode cX3_years 9 = .ok (.lconst 1, 1) := dk_10 (dk_at dksX3_years_0 9 rfl rfl)
theorem dX3_years_10 : decode cX3_years 10 = .ok (.ldc2_w 561, 3) := dk_20 2 49 (dk_at dksX3_years_0 10 rfl rfl)
theorem dX3_years_13 : decode cX3_years 13 = .ok (.invokestatic 164, 3) := dk_184 0 164 (dk_at dksX3_years_0 13 rfl rfl)
theorem dX3_years_16 : decode cX3_years 16 = .ok (.ifCond .eq 25, 3) := dk_153 0 25 (dk_at dksX3_years_0 16 rfl rfl)
theorem dX3_years_19 : decode cX3_years 19 = .ok (.iload_n 2, 1) := dk_28 (dk_at dksX3_years_0 19 rfl rfl)
theorem dX3_years_20 : decode cX3_years 20 = .ok (.i2l, 1) := dk_133 (dk_at dksX3_years_0 20 rfl rfl)
theorem dX3_years_21 : decode cX3_years 21 = .ok (.lconst 1, 1) := dk_10 (dk_at dksX3_years_0 21 rfl rfl)
theorem dX3_years_22 : decode cX3_years 22 = .ok (.ldc2_w 489, 3) := dk_20 1 233 (dk_at dksX3_years_1 0 rfl rfl)
theorem dX3_years_25 : decode cX3_years 25 = .ok (.invokestatic 164, 3) := dk_184 0 164 (dk_at dksX3_years_1 3 rfl rfl)
theorem dX3_years_28 : decode cX3_years 28 = .ok (.ifCond .eq 13, 3) := dk_153 0 13 (dk_at dksX3_years_1 6 rfl rfl)
theorem dX3_years_31 : decode cX3_years 31 = .ok (.iload_n 3, 1) := dk_29 (dk_at dksX3_years_1 9 rfl rfl)
theorem dX3_years_32 : decode cX3_years 32 = .ok (.i2l, 1) := dk_133 (dk_at dksX3_years_1 10 rfl rfl)
theorem dX3_years_33 : decode cX3_years 33 = .ok (.lconst 0, 1) := dk_9 (dk_at dksX3_years_1 11 rfl rfl)
theorem dX3_years_34 : decode cX3_years 34 = .ok (.lconst 1, 1) := dk_10 (dk_at dksX3_years_1 12 rfl rfl)
theorem dX3_years_35 : decode cX3_years 35 = .ok (.invokestatic 164, 3) := dk_184 0 164 (dk_at dksX3_years_1 13 rfl rfl)
theorem dX3_years_38 : decode cX3_years 38 = .ok (.ifCond .ne 5, 3) := dk_154 0 5 (dk_at dksX3_years_1 16 rfl rfl)
theorem dX3_years_41 : decode cX3_years 41 = .ok (.iconst (-1), 1) := dk_2 (dk_at dksX3_years_1 19 rfl rfl)
theorem dX3_years_42 : decode cX3_years 42 = .ok (.ireturn, 1) := dk_172 (dk_at dksX3_years_1 20 rfl rfl)
theorem dX3_years_43 : decode cX3_years 43 = .ok (.aload_n 0, 1) := dk_42 (dk_at dksX3_years_1 21 rfl rfl)
theorem dX3_years_44 : decode cX3_years 44 = .ok (.getfield 9, 3) := dk_180 0 9 (dk_at dksX3_years_2 0 rfl rfl)
theorem dX3_years_47 : decode cX3_years 47 = .ok (.bipush 11, 2) := dk_16 11 (dk_at dksX3_years_2 3 rfl rfl)
theorem dX3_years_49 : decode cX3_years 49 = .ok (.iaload, 1) := dk_46 (dk_at dksX3_years_2 5 rfl rfl)
theorem dX3_years_50 : decode cX3_years 50 = .ok (.istore 4, 2) := dk_54 4 (dk_at dksX3_years_2 6 rfl rfl)
theorem dX3_years_52 : decode cX3_years 52 = .ok (.iload 4, 2) := dk_21 4 (dk_at dksX3_years_2 8 rfl rfl)
theorem dX3_years_54 : decode cX3_years 54 = .ok (.istore 5, 2) := dk_54 5 (dk_at dksX3_years_2 10 rfl rfl)
theorem dX3_years_56 : decode cX3_years 56 = .ok (.iconst 0, 1) := dk_3 (dk_at dksX3_years_2 12 rfl rfl)
theorem dX3_years_57 : decode cX3_years 57 = .ok (.istore 6, 2) := dk_54 6 (dk_at dksX3_years_2 13 rfl rfl)
theorem dX3_years_59 : decode cX3_years 59 = .ok (.aload_n 0, 1) := dk_42 (dk_at dksX3_years_2 15 rfl rfl)
theorem dX3_years_60 : decode cX3_years 60 = .ok (.invokevirtual 491, 3) := dk_182 1 235 (dk_at dksX3_years_2 16 rfl rfl)
theorem dX3_years_63 : decode cX3_years 63 = .ok (.iconst 0, 1) := dk_3 (dk_at dksX3_years_2 19 rfl rfl)
theorem dX3_years_64 : decode cX3_years 64 = .ok (.istore 7, 2) := dk_54 7 (dk_at dksX3_years_2 20 rfl rfl)
theorem dX3_years_66 : decode cX3_years 66 = .ok (.iload 7, 2) := dk_21 7 (dk_at dksX3_years_2 22 rfl rfl)
theorem dX3_years_68 : decode cX3_years 68 = .ok (.iload_n 1, 1) := dk_27 (dk_at dksX3_years_3 0 rfl rfl)
theorem dX3_years_69 : decode cX3_years 69 = .ok (.if_icmp .ge 59, 3) := dk_162 0 59 (dk_at dksX3_years_3 1 rfl rfl)
theorem dX3_years_72 : decode cX3_years 72 = .ok (.aload_n 0, 1) := dk_42 (dk_at dksX3_years_3 4 rfl rfl)
theorem dX3_years_73 : decode cX3_years 73 = .ok (.getfield 9, 3) := dk_180 0 9 (dk_at dksX3_years_3 5 rfl rfl)
theorem dX3_years_76 : decode cX3_years 76 = .ok (.bipush 11, 2) := dk_16 11 (dk_at dksX3_years_3 8 rfl rfl)
theorem dX3_years_78 : decode cX3_years 78 = .ok (.iload 5, 2) := dk_21 5 (dk_at dksX3_years_3 10 rfl rfl)
theorem dX3_years_80 : decode cX3_years 80 = .ok (.iastore, 1) := dk_79 (dk_at dksX3_years_3 12 rfl rfl)
theorem dX3_years_81 : decode cX3_years 81 = .ok (.iconst 0, 1) := dk_3 (dk_at dksX3_years_3 13 rfl rfl)
theorem dX3_years_82 : decode cX3_years 82 = .ok (.istore 8, 2) := dk_54 8 (dk_at dksX3_years_3 14 rfl rfl)
theorem dX3_years_84 : decode cX3_years 84 = .ok (.iload 8, 2) := dk_21 8 (dk_at dksX3_years_3 16 rfl rfl)
theorem dX3_years_86 : decode cX3_years 86 = .ok (.iload_n 2, 1) := dk_28 (dk_at dksX3_years_3 18 rfl rfl)
theorem dX3_years_87 : decode cX3_years 87 = .ok (.if_icmp .ge 22, 3) := dk_162 0 22 (dk_at dksX3_years_3 19 rfl rfl)
theorem dX3_years_90 : decode cX3_years 90 = .ok (.iload 6, 2) := dk_21 6 (dk_at dksX3_years_3 22 rfl rfl)
theorem dX3_years_92 : decode cX3_years 92 = .ok (.aload_n 0, 1) := dk_42 (dk_at dksX3_years_4 0 rfl rfl)
theorem dX3_years_93 : decode cX3_years 93 = .ok (.invokevirtual 563, 3) := dk_182 2 51 (dk_at dksX3_years_4 1 rfl rfl)
theorem dX3_years_96 : decode cX3_years 96 = .ok (.iadd, 1) := dk_96 (dk_at dksX3_years_4 4 rfl rfl)
theorem dX3_years_97 : decode cX3_years 97 = .ok (.istore 6, 2) := dk_54 6 (dk_at dksX3_years_4 5 rfl rfl)
theorem dX3_years_99 : decode cX3_years 99 = .ok (.aload_n 0, 1) := dk_42 (dk_at dksX3_years_4 7 rfl rfl)
theorem dX3_years_100 : decode cX3_years 100 = .ok (.invokevirtual 457, 3) := dk_182 1 201 (dk_at dksX3_years_4 8 rfl rfl)
theorem dX3_years_103 : decode cX3_years 103 = .ok (.iinc 8 1, 3) := dk_132 8 1 (dk_at dksX3_years_4 11 rfl rfl)
theorem dX3_years_106 : decode cX3_years 106 = .ok (.goto (-22), 3) := dk_167 255 234 (dk_at dksX3_years_4 14 rfl rfl)
theorem dX3_years_109 : decode cX3_years 109 = .ok (.aload_n 0, 1) := dk_42 (dk_at dksX3_years_4 17 rfl rfl)
theorem dX3_years_110 : decode cX3_years 110 = .ok (.getfield 9, 3) := dk_180 0 9 (dk_at dksX3_years_4 18 rfl rfl)
theorem dX3_years_113 : decode cX3_years 113 = .ok (.bipush 11, 2) := dk_16 11 (dk_at dksX3_years_4 21 rfl rfl)
theorem dX3_years_115 : decode cX3_years 115 = .ok (.iaload, 1) := dk_46 (dk_at dksX3_years_4 23 rfl rfl)
theorem dX3_years_116 : decode cX3_years 116 = .ok (.istore 5, 2) := dk_54 5 (dk_at dksX3_years_5 0 rfl rfl)
theorem dX3_years_118 : decode cX3_years 118 = .ok (.aload_n 0, 1) := dk_42 (dk_at dksX3_years_5 2 rfl rfl)
theorem dX3_years_119 : decode cX3_years 119 = .ok (.invokevirtual 497, 3) := dk_182 1 241 (dk_at dksX3_years_5 3 rfl rfl)
theorem dX3_years_122 : decode cX3_years 122 = .ok (.iinc 7 1, 3) := dk_132 7 1 (dk_at dksX3_years_5 6 rfl rfl)
theorem dX3_years_125 : decode cX3_years 125 = .ok (.goto (-59), 3) := dk_167 255 197 (dk_at dksX3_years_5 9 rfl rfl)
theorem dX3_years_128 : decode cX3_years 128 = .ok (.aload_n 0, 1) := dk_42 (dk_at dksX3_years_5 12 rfl rfl)
theorem dX3_years_129 : decode cX3_years 129 = .ok (.getfield 9, 3) := dk_180 0 9 (dk_at dksX3_years_5 13 rfl rfl)
theorem dX3_years_132 : decode cX3_years 132 = .ok (.bipush 11, 2) := dk_16 11 (dk_at dksX3_years_5 16 rfl rfl)
theorem dX3_years_134 : decode cX3_years 134 = .ok (.iload 4, 2) := dk_21 4 (dk_at dksX3_years_5 18 rfl rfl)
theorem dX3_years_136 : decode cX3_years 136 = .ok (.iastore, 1) := dk_79 (dk_at dksX3_years_5 20 rfl rfl)
theorem dX3_years_137 : decode cX3_years 137 = .ok (.iconst 0, 1) := dk_3 (dk_at dksX3_years_5 21 rfl rfl)
theorem dX3_years_138 : decode cX3_years 138 = .ok (.istore 7, 2) := dk_54 7 (dk_at dksX3_years_5 22 rfl rfl)
theorem dX3_years_140 : decode cX3_years 140 = .ok (.iconst 0, 1) := dk_3 (dk_at dksX3_years_6 0 rfl rfl)
theorem dX3_years_141 : decode cX3_years 141 = .ok (.istore 8, 2) := dk_54 8 (dk_at dksX3_years_6 1 rfl rfl)
theorem dX3_years_143 : decode cX3_years 143 = .ok (.iload 8, 2) := dk_21 8 (dk_at dksX3_years_6 3 rfl rfl)
theorem dX3_years_145 : decode cX3_years 145 = .ok (.iconst 4, 1) := dk_7 (dk_at dksX3_years_6 5 rfl rfl)
theorem dX3_years_146 : decode cX3_years 146 = .ok (.if_icmp .ge 21, 3) := dk_162 0 21 (dk_at dksX3_years_6 6 rfl rfl)
theorem dX3_years_149 : decode cX3_years 149 = .ok (.iload 7, 2) := dk_21 7 (dk_at dksX3_years_6 9 rfl rfl)
theorem dX3_years_151 : decode cX3_years 151 = .ok (.aload_n 0, 1) := dk_42 (dk_at dksX3_years_6 11 rfl rfl)
theorem dX3_years_152 : decode cX3_years 152 = .ok (.getfield 127, 3) := dk_180 0 127 (dk_at dksX3_years_6 12 rfl rfl)
theorem dX3_years_155 : decode cX3_years 155 = .ok (.iload 8, 2) := dk_21 8 (dk_at dksX3_years_6 15 rfl rfl)
theorem dX3_years_157 : decode cX3_years 157 = .ok (.iaload, 1) := dk_46 (dk_at dksX3_years_6 17 rfl rfl)
theorem dX3_years_158 : decode cX3_years 158 = .ok (.iadd, 1) := dk_96 (dk_at dksX3_years_6 18 rfl rfl)
theorem dX3_years_159 : decode cX3_years 159 = .ok (.istore 7, 2) := dk_54 7 (dk_at dksX3_years_6 19 rfl rfl)
theorem dX3_years_161 : decode cX3_years 161 = .ok (.iinc 8 1, 3) := dk_132 8 1 (dk_at dksX3_years_6 21 rfl rfl)
theorem dX3_years_164 : decode cX3_years 164 = .ok (.goto (-21), 3) := dk_167 255 235 (dk_at dksX3_years_7 0 rfl rfl)
theorem dX3_years_167 : decode cX3_years 167 = .ok (.iload_n 3, 1) := dk_29 (dk_at dksX3_years_7 3 rfl rfl)
theorem dX3_years_168 : decode cX3_years 168 = .ok (.ifCond .ne 8, 3) := dk_154 0 8 (dk_at dksX3_years_7 4 rfl rfl)
theorem dX3_years_171 : decode cX3_years 171 = .ok (.iload 6, 2) := dk_21 6 (dk_at dksX3_years_7 7 rfl rfl)
theorem dX3_years_173 : decode cX3_years 173 = .ok (.goto 5, 3) := dk_167 0 5 (dk_at dksX3_years_7 9 rfl rfl)
theorem dX3_years_176 : decode cX3_years 176 = .ok (.iload 7, 2) := dk_21 7 (dk_at dksX3_years_7 12 rfl rfl)
theorem dX3_years_178 : decode cX3_years 178 = .ok (.ireturn, 1) := dk_172 (dk_at dksX3_years_7 14 rfl rfl)
abbrev cX3_drawsCoat : ByteArray := prog_17_method_118_code
def yX3_drawsCoat : MethodName := ⟨RX3, "drawsCoat", "()I"⟩
def dkwX3_drawsCoat_3 : List UInt8 := [180, 0, 9, 5, 46, 100, 79, 4, 172]
abbrev dktX3_drawsCoat_3 : List UInt8 := dkwX3_drawsCoat_3 ++ []
def dkwX3_drawsCoat_2 : List UInt8 := [182, 1, 179, 154, 0, 5, 3, 172, 42, 28, 27, 182, 1, 192, 42, 180, 0, 22, 27, 92, 46, 42]
abbrev dktX3_drawsCoat_2 : List UInt8 := dkwX3_drawsCoat_2 ++ dktX3_drawsCoat_3
def dkwX3_drawsCoat_1 : List UInt8 := [180, 0, 9, 8, 46, 182, 2, 46, 60, 42, 42, 180, 0, 9, 7, 46, 182, 2, 46, 61, 42, 28, 27]
abbrev dktX3_drawsCoat_1 : List UInt8 := dkwX3_drawsCoat_1 ++ dktX3_drawsCoat_2
def dkwX3_drawsCoat_0 : List UInt8 := [42, 180, 0, 9, 8, 46, 153, 0, 12, 42, 180, 0, 9, 7, 46, 154, 0, 5, 3, 172, 42, 42]
abbrev dktX3_drawsCoat_0 : List UInt8 := dkwX3_drawsCoat_0 ++ dktX3_drawsCoat_1
theorem dksX3_drawsCoat_0 : cX3_drawsCoat.data.toList.drop 0 = dktX3_drawsCoat_0 := by decide +kernel
theorem dksX3_drawsCoat_1 : cX3_drawsCoat.data.toList.drop 22 = dktX3_drawsCoat_1 := dk_seg dksX3_drawsCoat_0 22 rfl rfl
theorem dksX3_drawsCoat_2 : cX3_drawsCoat.data.toList.drop 45 = dktX3_drawsCoat_2 := dk_seg dksX3_drawsCoat_1 23 rfl rfl
theorem dksX3_drawsCoat_3 : cX3_drawsCoat.data.toList.drop 67 = dktX3_drawsCoat_3 := dk_seg dksX3_drawsCoat_2 22 rfl rfl
theorem dX3_drawsCoat_0 : decode cX3_drawsCoat 0 = .ok (.aload_n 0, 1) := dk_42 (dk_at dksX3_drawsCoat_0 0 rfl rfl)
theorem dX3_drawsCoat_1 : decode cX3_drawsCoat 1 = .ok (.getfield 9, 3) := dk_180 0 9 (dk_at dksX3_drawsCoat_0 1 rfl rfl)
theorem dX3_drawsCoat_4 : decode cX3_drawsCoat 4 = .ok (.iconst 5, 1) := dk_8 (dk_at dksX3_drawsCoat_0 4 rfl rfl)
theorem dX3_drawsCoat_5 : decode cX3_drawsCoat 5 = .ok (.iaload, 1) := dk_46 (dk_at dksX3_drawsCoat_0 5 rfl rfl)
theorem dX3_drawsCoat_6 : decode cX3_drawsCoat 6 = .ok (.ifCond .eq 12, 3) := dk_153 0 12 (dk_at dksX3_drawsCoat_0 6 rfl rfl)
theorem dX3_drawsCoat_9 : decode cX3_drawsCoat 9 = .ok (.aload_n 0, 1) := dk_42 (dk_at dksX3_drawsCoat_0 9 rfl rfl)
theorem dX3_drawsCoat_10 : decode cX3_drawsCoat 10 = .ok (.getfield 9, 3) := dk_180 0 9 (dk_at dksX3_drawsCoat_0 10 rfl rfl)
theorem dX3_drawsCoat_13 : decode cX3_drawsCoat 13 = .ok (.iconst 4, 1) := dk_7 (dk_at dksX3_drawsCoat_0 13 rfl rfl)
theorem dX3_drawsCoat_14 : decode cX3_drawsCoat 14 = .ok (.iaload, 1) := dk_46 (dk_at dksX3_drawsCoat_0 14 rfl rfl)
theorem dX3_drawsCoat_15 : decode cX3_drawsCoat 15 = .ok (.ifCond .ne 5, 3) := dk_154 0 5 (dk_at dksX3_drawsCoat_0 15 rfl rfl)
theorem dX3_drawsCoat_18 : decode cX3_drawsCoat 18 = .ok (.iconst 0, 1) := dk_3 (dk_at dksX3_drawsCoat_0 18 rfl rfl)
theorem dX3_drawsCoat_19 : decode cX3_drawsCoat 19 = .ok (.ireturn, 1) := dk_172 (dk_at dksX3_drawsCoat_0 19 rfl rfl)
theorem dX3_drawsCoat_20 : decode cX3_drawsCoat 20 = .ok (.aload_n 0, 1) := dk_42 (dk_at dksX3_drawsCoat_0 20 rfl rfl)
theorem dX3_drawsCoat_21 : decode cX3_drawsCoat 21 = .ok (.aload_n 0, 1) := dk_42 (dk_at dksX3_drawsCoat_0 21 rfl rfl)
theorem dX3_drawsCoat_22 : decode cX3_drawsCoat 22 = .ok (.getfield 9, 3) := dk_180 0 9 (dk_at dksX3_drawsCoat_1 0 rfl rfl)
theorem dX3_drawsCoat_25 : decode cX3_drawsCoat 25 = .ok (.iconst 5, 1) := dk_8 (dk_at dksX3_drawsCoat_1 3 rfl rfl)
theorem dX3_drawsCoat_26 : decode cX3_drawsCoat 26 = .ok (.iaload, 1) := dk_46 (dk_at dksX3_drawsCoat_1 4 rfl rfl)
theorem dX3_drawsCoat_27 : decode cX3_drawsCoat 27 = .ok (.invokevirtual 558, 3) := dk_182 2 46 (dk_at dksX3_drawsCoat_1 5 rfl rfl)
theorem dX3_drawsCoat_30 : decode cX3_drawsCoat 30 = .ok (.istore_n 1, 1) := dk_60 (dk_at dksX3_drawsCoat_1 8 rfl rfl)
theorem dX3_drawsCoat_31 : decode cX3_drawsCoat 31 = .ok (.aload_n 0, 1) := dk_42 (dk_at dksX3_drawsCoat_1 9 rfl rfl)
theorem dX3_drawsCoat_32 : decode cX3_drawsCoat 32 = .ok (.aload_n 0, 1) := dk_42 (dk_at dksX3_drawsCoat_1 10 rfl rfl)
theorem dX3_drawsCoat_33 : decode cX3_drawsCoat 33 = .ok (.getfield 9, 3) := dk_180 0 9 (dk_at dksX3_drawsCoat_1 11 rfl rfl)
theorem dX3_drawsCoat_36 : decode cX3_drawsCoat 36 = .ok (.iconst 4, 1) := dk_7 (dk_at dksX3_drawsCoat_1 14 rfl rfl)
theorem dX3_drawsCoat_37 : decode cX3_drawsCoat 37 = .ok (.iaload, 1) := dk_46 (dk_at dksX3_drawsCoat_1 15 rfl rfl)
theorem dX3_drawsCoat_38 : decode cX3_drawsCoat 38 = .ok (.invokevirtual 558, 3) := dk_182 2 46 (dk_at dksX3_drawsCoat_1 16 rfl rfl)
theorem dX3_drawsCoat_41 : decode cX3_drawsCoat 41 = .ok (.istore_n 2, 1) := dk_61 (dk_at dksX3_drawsCoat_1 19 rfl rfl)
theorem dX3_drawsCoat_42 : decode cX3_drawsCoat 42 = .ok (.aload_n 0, 1) := dk_42 (dk_at dksX3_drawsCoat_1 20 rfl rfl)
theorem dX3_drawsCoat_43 : decode cX3_drawsCoat 43 = .ok (.iload_n 2, 1) := dk_28 (dk_at dksX3_drawsCoat_1 21 rfl rfl)
theorem dX3_drawsCoat_44 : decode cX3_drawsCoat 44 = .ok (.iload_n 1, 1) := dk_27 (dk_at dksX3_drawsCoat_1 22 rfl rfl)
theorem dX3_drawsCoat_45 : decode cX3_drawsCoat 45 = .ok (.invokevirtual 435, 3) := dk_182 1 179 (dk_at dksX3_drawsCoat_2 0 rfl rfl)
theorem dX3_drawsCoat_48 : decode cX3_drawsCoat 48 = .ok (.ifCond .ne 5, 3) := dk_154 0 5 (dk_at dksX3_drawsCoat_2 3 rfl rfl)
theorem dX3_drawsCoat_51 : decode cX3_drawsCoat 51 = .ok (.iconst 0, 1) := dk_3 (dk_at dksX3_drawsCoat_2 6 rfl rfl)
theorem dX3_drawsCoat_52 : decode cX3_drawsCoat 52 = .ok (.ireturn, 1) := dk_172 (dk_at dksX3_drawsCoat_2 7 rfl rfl)
theorem dX3_drawsCoat_53 : decode cX3_drawsCoat 53 = .ok (.aload_n 0, 1) := dk_42 (dk_at dksX3_drawsCoat_2 8 rfl rfl)
theorem dX3_drawsCoat_54 : decode cX3_drawsCoat 54 = .ok (.iload_n 2, 1) := dk_28 (dk_at dksX3_drawsCoat_2 9 rfl rfl)
theorem dX3_drawsCoat_55 : decode cX3_drawsCoat 55 = .ok (.iload_n 1, 1) := dk_27 (dk_at dksX3_drawsCoat_2 10 rfl rfl)
theorem dX3_drawsCoat_56 : decode cX3_drawsCoat 56 = .ok (.invokevirtual 448, 3) := dk_182 1 192 (dk_at dksX3_drawsCoat_2 11 rfl rfl)
theorem dX3_drawsCoat_59 : decode cX3_drawsCoat 59 = .ok (.aload_n 0, 1) := dk_42 (dk_at dksX3_drawsCoat_2 14 rfl rfl)
theorem dX3_drawsCoat_60 : decode cX3_drawsCoat 60 = .ok (.getfield 22, 3) := dk_180 0 22 (dk_at dksX3_drawsCoat_2 15 rfl rfl)
theorem dX3_drawsCoat_63 : decode cX3_drawsCoat 63 = .ok (.iload_n 1, 1) := dk_27 (dk_at dksX3_drawsCoat_2 18 rfl rfl)
theorem dX3_drawsCoat_64 : decode cX3_drawsCoat 64 = .ok (.dup2, 1) := dk_92 (dk_at dksX3_drawsCoat_2 19 rfl rfl)
theorem dX3_drawsCoat_65 : decode cX3_drawsCoat 65 = .ok (.iaload, 1) := dk_46 (dk_at dksX3_drawsCoat_2 20 rfl rfl)
theorem dX3_drawsCoat_66 : decode cX3_drawsCoat 66 = .ok (.aload_n 0, 1) := dk_42 (dk_at dksX3_drawsCoat_2 21 rfl rfl)
theorem dX3_drawsCoat_67 : decode cX3_drawsCoat 67 = .ok (.getfield 9, 3) := dk_180 0 9 (dk_at dksX3_drawsCoat_3 0 rfl rfl)
theorem dX3_drawsCoat_70 : decode cX3_drawsCoat 70 = .ok (.iconst 2, 1) := dk_5 (dk_at dksX3_drawsCoat_3 3 rfl rfl)
theorem dX3_drawsCoat_71 : decode cX3_drawsCoat 71 = .ok (.iaload, 1) := dk_46 (dk_at dksX3_drawsCoat_3 4 rfl rfl)
theorem dX3_drawsCoat_72 : decode cX3_drawsCoat 72 = .ok (.isub, 1) := dk_100 (dk_at dksX3_drawsCoat_3 5 rfl rfl)
theorem dX3_drawsCoat_73 : decode cX3_drawsCoat 73 = .ok (.iastore, 1) := dk_79 (dk_at dksX3_drawsCoat_3 6 rfl rfl)
theorem dX3_drawsCoat_74 : decode cX3_drawsCoat 74 = .ok (.iconst 1, 1) := dk_4 (dk_at dksX3_drawsCoat_3 7 rfl rfl)
theorem dX3_drawsCoat_75 : decode cX3_drawsCoat 75 = .ok (.ireturn, 1) := dk_172 (dk_at dksX3_drawsCoat_3 8 rfl rfl)
abbrev cX3_draws : ByteArray := prog_17_method_117_code
def yX3_draws : MethodName := ⟨RX3, "draws", "(I)I"⟩
def dkwX3_draws_1 : List UInt8 := [20, 2, 43, 113, 136, 79, 42, 180, 0, 9, 16, 11, 46, 19, 2, 45, 108, 27, 112, 172]
abbrev dktX3_draws_1 : List UInt8 := dkwX3_draws_1 ++ []
def dkwX3_draws_0 : List UInt8 := [42, 180, 0, 9, 16, 11, 42, 180, 0, 9, 16, 11, 46, 133, 20, 2, 39, 105, 20, 2, 41, 97]
abbrev dktX3_draws_0 : List UInt8 := dkwX3_draws_0 ++ dktX3_draws_1
theorem dksX3_draws_0 : cX3_draws.data.toList.drop 0 = dktX3_draws_0 := by decide +kernel
theorem dksX3_draws_1 : cX3_draws.data.toList.drop 22 = dktX3_draws_1 := dk_seg dksX3_draws_0 22 rfl rfl
theorem dX3_draws_0 : decode cX3_draws 0 = .ok (.aload_n 0, 1) := dk_42 (dk_at dksX3_draws_0 0 rfl rfl)
theorem dX3_draws_1 : decode cX3_draws 1 = .ok (.getfield 9, 3) := dk_180 0 9 (dk_at dksX3_draws_0 1 rfl rfl)
theorem dX3_draws_4 : decode cX3_draws 4 = .ok (.bipush 11, 2) := dk_16 11 (dk_at dksX3_draws_0 4 rfl rfl)
theorem dX3_draws_6 : decode cX3_draws 6 = .ok (.aload_n 0, 1) := dk_42 (dk_at dksX3_draws_0 6 rfl rfl)
theorem dX3_draws_7 : decode cX3_draws 7 = .ok (.getfield 9, 3) := dk_180 0 9 (dk_at dksX3_draws_0 7 rfl rfl)
theorem dX3_draws_10 : decode cX3_draws 10 = .ok (.bipush 11, 2) := dk_16 11 (dk_at dksX3_draws_0 10 rfl rfl)
theorem dX3_draws_12 : decode cX3_draws 12 = .ok (.iaload, 1) := dk_46 (dk_at dksX3_draws_0 12 rfl rfl)
theorem dX3_draws_13 : decode cX3_draws 13 = .ok (.i2l, 1) := dk_133 (dk_at dksX3_draws_0 13 rfl rfl)
theorem dX3_draws_14 : decode cX3_draws 14 = .ok (.ldc2_w 551, 3) := dk_20 2 39 (dk_at dksX3_draws_0 14 rfl rfl)
theorem dX3_draws_17 : decode cX3_draws 17 = .ok (.lmul, 1) := dk_105 (dk_at dksX3_draws_0 17 rfl rfl)
theorem dX3_draws_18 : decode cX3_draws 18 = .ok (.ldc2_w 553, 3) := dk_20 2 41 (dk_at dksX3_draws_0 18 rfl rfl)
theorem dX3_draws_21 : decode cX3_draws 21 = .ok (.ladd, 1) := dk_97 (dk_at dksX3_draws_0 21 rfl rfl)
theorem dX3_draws_22 : decode cX3_draws 22 = .ok (.ldc2_w 555, 3) := dk_20 2 43 (dk_at dksX3_draws_1 0 rfl rfl)
theorem dX3_draws_25 : decode cX3_draws 25 = .ok (.lrem, 1) := dk_113 (dk_at dksX3_draws_1 3 rfl rfl)
theorem dX3_draws_26 : decode cX3_draws 26 = .ok (.l2i, 1) := dk_136 (dk_at dksX3_draws_1 4 rfl rfl)
theorem dX3_draws_27 : decode cX3_draws 27 = .ok (.iastore, 1) := dk_79 (dk_at dksX3_draws_1 5 rfl rfl)
theorem dX3_draws_28 : decode cX3_draws 28 = .ok (.aload_n 0, 1) := dk_42 (dk_at dksX3_draws_1 6 rfl rfl)
theorem dX3_draws_29 : decode cX3_draws 29 = .ok (.getfield 9, 3) := dk_180 0 9 (dk_at dksX3_draws_1 7 rfl rfl)
theorem dX3_draws_32 : decode cX3_draws 32 = .ok (.bipush 11, 2) := dk_16 11 (dk_at dksX3_draws_1 10 rfl rfl)
theorem dX3_draws_34 : decode cX3_draws 34 = .ok (.iaload, 1) := dk_46 (dk_at dksX3_draws_1 12 rfl rfl)
theorem dX3_draws_35 : decode cX3_draws 35 = .ok (.ldc_w 557, 3) := dk_19 2 45 (dk_at dksX3_draws_1 13 rfl rfl)
theorem dX3_draws_38 : decode cX3_draws 38 = .ok (.idiv, 1) := dk_108 (dk_at dksX3_draws_1 16 rfl rfl)
theorem dX3_draws_39 : decode cX3_draws 39 = .ok (.iload_n 1, 1) := dk_27 (dk_at dksX3_draws_1 17 rfl rfl)
theorem dX3_draws_40 : decode cX3_draws 40 = .ok (.irem, 1) := dk_112 (dk_at dksX3_draws_1 18 rfl rfl)
theorem dX3_draws_41 : decode cX3_draws 41 = .ok (.ireturn, 1) := dk_172 (dk_at dksX3_draws_1 19 rfl rfl)
abbrev cX3_count : ByteArray := prog_17_method_121_code
def yX3_count : MethodName := ⟨RX3, "count", "(I)I"⟩
def dkwX3_count_6 : List UInt8 := [180, 1, 93, 172, 42, 180, 0, 9, 16, 11, 46, 172, 42, 180, 0, 168, 172, 2, 172]
abbrev dktX3_count_6 : List UInt8 := dkwX3_count_6 ++ []
def dkwX3_count_5 : List UInt8 := [172, 42, 182, 2, 54, 172, 42, 180, 0, 9, 16, 8, 46, 172, 42, 180, 0, 9, 16, 10, 46, 172, 42]
abbrev dktX3_count_5 : List UInt8 := dkwX3_count_5 ++ dktX3_count_6
def dkwX3_count_4 : List UInt8 := [16, 6, 46, 172, 42, 180, 1, 106, 172, 42, 180, 0, 9, 16, 12, 46, 172, 42, 180, 0, 9, 16, 9, 46]
abbrev dktX3_count_4 : List UInt8 := dkwX3_count_4 ++ dktX3_count_5
def dkwX3_count_3 : List UInt8 := [180, 0, 9, 6, 46, 172, 42, 180, 0, 9, 7, 46, 172, 42, 180, 0, 9, 8, 46, 172, 42, 180, 0, 9]
abbrev dktX3_count_3 : List UInt8 := dkwX3_count_3 ++ dktX3_count_4
def dkwX3_count_2 : List UInt8 := [42, 180, 0, 9, 3, 46, 172, 42, 180, 0, 9, 4, 46, 172, 42, 180, 0, 9, 5, 46, 172, 42]
abbrev dktX3_count_2 : List UInt8 := dkwX3_count_2 ++ dktX3_count_3
def dkwX3_count_1 : List UInt8 := [170, 0, 0, 0, 0, 0, 189, 0, 0, 0, 0, 0, 0, 0, 15, 0, 0, 0, 79, 0, 0, 0, 86, 0, 0, 0, 93, 0, 0, 0, 100, 0, 0, 0, 107, 0, 0, 0, 114, 0, 0, 0, 121, 0, 0, 0, 129, 0, 0, 0, 134, 0, 0, 0, 142, 0, 0, 0, 150, 0, 0, 0, 155, 0, 0, 0, 163, 0, 0, 0, 171, 0, 0, 0, 176, 0, 0, 0, 184]
abbrev dktX3_count_1 : List UInt8 := dkwX3_count_1 ++ dktX3_count_2
def dkwX3_count_0 : List UInt8 := [27]
abbrev dktX3_count_0 : List UInt8 := dkwX3_count_0 ++ dktX3_count_1
theorem dksX3_count_0 : cX3_count.data.toList.drop 0 = dktX3_count_0 := by decide +kernel
theorem dksX3_count_1 : cX3_count.data.toList.drop 1 = dktX3_count_1 := dk_seg dksX3_count_0 1 rfl rfl
theorem dksX3_count_2 : cX3_count.data.toList.drop 80 = dktX3_count_2 := dk_seg dksX3_count_1 79 rfl rfl
theorem dksX3_count_3 : cX3_count.data.toList.drop 102 = dktX3_count_3 := dk_seg dksX3_count_2 22 rfl rfl
theorem dksX3_count_4 : cX3_count.data.toList.drop 126 = dktX3_count_4 := dk_seg dksX3_count_3 24 rfl rfl
theorem dksX3_count_5 : cX3_count.data.toList.drop 150 = dktX3_count_5 := dk_seg dksX3_count_4 24 rfl rfl
theorem dksX3_count_6 : cX3_count.data.toList.drop 173 = dktX3_count_6 := dk_seg dksX3_count_5 23 rfl rfl
theorem dX3_count_0 : decode cX3_count 0 = .ok (.iload_n 1, 1) := dk_27 (dk_at dksX3_count_0 0 rfl rfl)
theorem dX3_count_1 : decode cX3_count 1 = .ok (.tableswitch 189 0 15 #[79, 86, 93, 100, 107, 114, 121, 129, 134, 142, 150, 155, 163, 171, 176, 184], 79) := by decide +kernel
theorem dX3_count_80 : decode cX3_count 80 = .ok (.aload_n 0, 1) := dk_42 (dk_at dksX3_count_2 0 rfl rfl)
theorem dX3_count_81 : decode cX3_count 81 = .ok (.getfield 9, 3) := dk_180 0 9 (dk_at dksX3_count_2 1 rfl rfl)
theorem dX3_count_84 : decode cX3_count 84 = .ok (.iconst 0, 1) := dk_3 (dk_at dksX3_count_2 4 rfl rfl)
theorem dX3_count_85 : decode cX3_count 85 = .ok (.iaload, 1) := dk_46 (dk_at dksX3_count_2 5 rfl rfl)
theorem dX3_count_86 : decode cX3_count 86 = .ok (.ireturn, 1) := dk_172 (dk_at dksX3_count_2 6 rfl rfl)
theorem dX3_count_87 : decode cX3_count 87 = .ok (.aload_n 0, 1) := dk_42 (dk_at dksX3_count_2 7 rfl rfl)
theorem dX3_count_88 : decode cX3_count 88 = .ok (.getfield 9, 3) := dk_180 0 9 (dk_at dksX3_count_2 8 rfl rfl)
theorem dX3_count_91 : decode cX3_count 91 = .ok (.iconst 1, 1) := dk_4 (dk_at dksX3_count_2 11 rfl rfl)
theorem dX3_count_92 : decode cX3_count 92 = .ok (.iaload, 1) := dk_46 (dk_at dksX3_count_2 12 rfl rfl)
theorem dX3_count_93 : decode cX3_count 93 = .ok (.ireturn, 1) := dk_172 (dk_at dksX3_count_2 13 rfl rfl)
theorem dX3_count_94 : decode cX3_count 94 = .ok (.aload_n 0, 1) := dk_42 (dk_at dksX3_count_2 14 rfl rfl)
theorem dX3_count_95 : decode cX3_count 95 = .ok (.getfield 9, 3) := dk_180 0 9 (dk_at dksX3_count_2 15 rfl rfl)
theorem dX3_count_98 : decode cX3_count 98 = .ok (.iconst 2, 1) := dk_5 (dk_at dksX3_count_2 18 rfl rfl)
theorem dX3_count_99 : decode cX3_count 99 = .ok (.iaload, 1) := dk_46 (dk_at dksX3_count_2 19 rfl rfl)
theorem dX3_count_100 : decode cX3_count 100 = .ok (.ireturn, 1) := dk_172 (dk_at dksX3_count_2 20 rfl rfl)
theorem dX3_count_101 : decode cX3_count 101 = .ok (.aload_n 0, 1) := dk_42 (dk_at dksX3_count_2 21 rfl rfl)
theorem dX3_count_102 : decode cX3_count 102 = .ok (.getfield 9, 3) := dk_180 0 9 (dk_at dksX3_count_3 0 rfl rfl)
theorem dX3_count_105 : decode cX3_count 105 = .ok (.iconst 3, 1) := dk_6 (dk_at dksX3_count_3 3 rfl rfl)
theorem dX3_count_106 : decode cX3_count 106 = .ok (.iaload, 1) := dk_46 (dk_at dksX3_count_3 4 rfl rfl)
theorem dX3_count_107 : decode cX3_count 107 = .ok (.ireturn, 1) := dk_172 (dk_at dksX3_count_3 5 rfl rfl)
theorem dX3_count_108 : decode cX3_count 108 = .ok (.aload_n 0, 1) := dk_42 (dk_at dksX3_count_3 6 rfl rfl)
theorem dX3_count_109 : decode cX3_count 109 = .ok (.getfield 9, 3) := dk_180 0 9 (dk_at dksX3_count_3 7 rfl rfl)
theorem dX3_count_112 : decode cX3_count 112 = .ok (.iconst 4, 1) := dk_7 (dk_at dksX3_count_3 10 rfl rfl)
theorem dX3_count_113 : decode cX3_count 113 = .ok (.iaload, 1) := dk_46 (dk_at dksX3_count_3 11 rfl rfl)
theorem dX3_count_114 : decode cX3_count 114 = .ok (.ireturn, 1) := dk_172 (dk_at dksX3_count_3 12 rfl rfl)
theorem dX3_count_115 : decode cX3_count 115 = .ok (.aload_n 0, 1) := dk_42 (dk_at dksX3_count_3 13 rfl rfl)
theorem dX3_count_116 : decode cX3_count 116 = .ok (.getfield 9, 3) := dk_180 0 9 (dk_at dksX3_count_3 14 rfl rfl)
theorem dX3_count_119 : decode cX3_count 119 = .ok (.iconst 5, 1) := dk_8 (dk_at dksX3_count_3 17 rfl rfl)
theorem dX3_count_120 : decode cX3_count 120 = .ok (.iaload, 1) := dk_46 (dk_at dksX3_count_3 18 rfl rfl)
theorem dX3_count_121 : decode cX3_count 121 = .ok (.ireturn, 1) := dk_172 (dk_at dksX3_count_3 19 rfl rfl)
theorem dX3_count_122 : decode cX3_count 122 = .ok (.aload_n 0, 1) := dk_42 (dk_at dksX3_count_3 20 rfl rfl)
theorem dX3_count_123 : decode cX3_count 123 = .ok (.getfield 9, 3) := dk_180 0 9 (dk_at dksX3_count_3 21 rfl rfl)
theorem dX3_count_126 : decode cX3_count 126 = .ok (.bipush 6, 2) := dk_16 6 (dk_at dksX3_count_4 0 rfl rfl)
theorem dX3_count_128 : decode cX3_count 128 = .ok (.iaload, 1) := dk_46 (dk_at dksX3_count_4 2 rfl rfl)
theorem dX3_count_129 : decode cX3_count 129 = .ok (.ireturn, 1) := dk_172 (dk_at dksX3_count_4 3 rfl rfl)
theorem dX3_count_130 : decode cX3_count 130 = .ok (.aload_n 0, 1) := dk_42 (dk_at dksX3_count_4 4 rfl rfl)
theorem dX3_count_131 : decode cX3_count 131 = .ok (.getfield 362, 3) := dk_180 1 106 (dk_at dksX3_count_4 5 rfl rfl)
theorem dX3_count_134 : decode cX3_count 134 = .ok (.ireturn, 1) := dk_172 (dk_at dksX3_count_4 8 rfl rfl)
theorem dX3_count_135 : decode cX3_count 135 = .ok (.aload_n 0, 1) := dk_42 (dk_at dksX3_count_4 9 rfl rfl)
theorem dX3_count_136 : decode cX3_count 136 = .ok (.getfield 9, 3) := dk_180 0 9 (dk_at dksX3_count_4 10 rfl rfl)
theorem dX3_count_139 : decode cX3_count 139 = .ok (.bipush 12, 2) := dk_16 12 (dk_at dksX3_count_4 13 rfl rfl)
theorem dX3_count_141 : decode cX3_count 141 = .ok (.iaload, 1) := dk_46 (dk_at dksX3_count_4 15 rfl rfl)
theorem dX3_count_142 : decode cX3_count 142 = .ok (.ireturn, 1) := dk_172 (dk_at dksX3_count_4 16 rfl rfl)
theorem dX3_count_143 : decode cX3_count 143 = .ok (.aload_n 0, 1) := dk_42 (dk_at dksX3_count_4 17 rfl rfl)
theorem dX3_count_144 : decode cX3_count 144 = .ok (.getfield 9, 3) := dk_180 0 9 (dk_at dksX3_count_4 18 rfl rfl)
theorem dX3_count_147 : decode cX3_count 147 = .ok (.bipush 9, 2) := dk_16 9 (dk_at dksX3_count_4 21 rfl rfl)
theorem dX3_count_149 : decode cX3_count 149 = .ok (.iaload, 1) := dk_46 (dk_at dksX3_count_4 23 rfl rfl)
theorem dX3_count_150 : decode cX3_count 150 = .ok (.ireturn, 1) := dk_172 (dk_at dksX3_count_5 0 rfl rfl)
theorem dX3_count_151 : decode cX3_count 151 = .ok (.aload_n 0, 1) := dk_42 (dk_at dksX3_count_5 1 rfl rfl)
theorem dX3_count_152 : decode cX3_count 152 = .ok (.invokevirtual 566, 3) := dk_182 2 54 (dk_at dksX3_count_5 2 rfl rfl)
theorem dX3_count_155 : decode cX3_count 155 = .ok (.ireturn, 1) := dk_172 (dk_at dksX3_count_5 5 rfl rfl)
theorem dX3_count_156 : decode cX3_count 156 = .ok (.aload_n 0, 1) := dk_42 (dk_at dksX3_count_5 6 rfl rfl)
theorem dX3_count_157 : decode cX3_count 157 = .ok (.getfield 9, 3) := dk_180 0 9 (dk_at dksX3_count_5 7 rfl rfl)
theorem dX3_count_160 : decode cX3_count 160 = .ok (.bipush 8, 2) := dk_16 8 (dk_at dksX3_count_5 10 rfl rfl)
theorem dX3_count_162 : decode cX3_count 162 = .ok (.iaload, 1) := dk_46 (dk_at dksX3_count_5 12 rfl rfl)
theorem dX3_count_163 : decode cX3_count 163 = .ok (.ireturn, 1) := dk_172 (dk_at dksX3_count_5 13 rfl rfl)
theorem dX3_count_164 : decode cX3_count 164 = .ok (.aload_n 0, 1) := dk_42 (dk_at dksX3_count_5 14 rfl rfl)
theorem dX3_count_165 : decode cX3_count 165 = .ok (.getfield 9, 3) := dk_180 0 9 (dk_at dksX3_count_5 15 rfl rfl)
theorem dX3_count_168 : decode cX3_count 168 = .ok (.bipush 10, 2) := dk_16 10 (dk_at dksX3_count_5 18 rfl rfl)
theorem dX3_count_170 : decode cX3_count 170 = .ok (.iaload, 1) := dk_46 (dk_at dksX3_count_5 20 rfl rfl)
theorem dX3_count_171 : decode cX3_count 171 = .ok (.ireturn, 1) := dk_172 (dk_at dksX3_count_5 21 rfl rfl)
theorem dX3_count_172 : decode cX3_count 172 = .ok (.aload_n 0, 1) := dk_42 (dk_at dksX3_count_5 22 rfl rfl)
theorem dX3_count_173 : decode cX3_count 173 = .ok (.getfield 349, 3) := dk_180 1 93 (dk_at dksX3_count_6 0 rfl rfl)
theorem dX3_count_176 : decode cX3_count 176 = .ok (.ireturn, 1) := dk_172 (dk_at dksX3_count_6 3 rfl rfl)
theorem dX3_count_177 : decode cX3_count 177 = .ok (.aload_n 0, 1) := dk_42 (dk_at dksX3_count_6 4 rfl rfl)
theorem dX3_count_178 : decode cX3_count 178 = .ok (.getfield 9, 3) := dk_180 0 9 (dk_at dksX3_count_6 5 rfl rfl)
theorem dX3_count_181 : decode cX3_count 181 = .ok (.bipush 11, 2) := dk_16 11 (dk_at dksX3_count_6 8 rfl rfl)
theorem dX3_count_183 : decode cX3_count 183 = .ok (.iaload, 1) := dk_46 (dk_at dksX3_count_6 10 rfl rfl)
theorem dX3_count_184 : decode cX3_count 184 = .ok (.ireturn, 1) := dk_172 (dk_at dksX3_count_6 11 rfl rfl)
theorem dX3_count_185 : decode cX3_count 185 = .ok (.aload_n 0, 1) := dk_42 (dk_at dksX3_count_6 12 rfl rfl)
theorem dX3_count_186 : decode cX3_count 186 = .ok (.getfield 168, 3) := dk_180 0 168 (dk_at dksX3_count_6 13 rfl rfl)
theorem dX3_count_189 : decode cX3_count 189 = .ok (.ireturn, 1) := dk_172 (dk_at dksX3_count_6 16 rfl rfl)
theorem dX3_count_190 : decode cX3_count 190 = .ok (.iconst (-1), 1) := dk_2 (dk_at dksX3_count_6 17 rfl rfl)
theorem dX3_count_191 : decode cX3_count 191 = .ok (.ireturn, 1) := dk_172 (dk_at dksX3_count_6 18 rfl rfl)
abbrev cX3_wetCells : ByteArray := prog_17_method_120_code
def yX3_wetCells : MethodName := ⟨RX3, "wetCells", "()I"⟩
def dkwX3_wetCells_1 : List UInt8 := [28, 120, 167, 0, 4, 3, 128, 60, 132, 2, 1, 167, 255, 225, 27, 172]
abbrev dktX3_wetCells_1 : List UInt8 := dkwX3_wetCells_1 ++ []
def dkwX3_wetCells_0 : List UInt8 := [3, 60, 3, 61, 28, 42, 180, 0, 9, 7, 46, 162, 0, 27, 27, 42, 28, 182, 1, 158, 153, 0, 9, 4]
abbrev dktX3_wetCells_0 : List UInt8 := dkwX3_wetCells_0 ++ dktX3_wetCells_1
theorem dksX3_wetCells_0 : cX3_wetCells.data.toList.drop 0 = dktX3_wetCells_0 := by decide +kernel
theorem dksX3_wetCells_1 : cX3_wetCells.data.toList.drop 24 = dktX3_wetCells_1 := dk_seg dksX3_wetCells_0 24 rfl rfl
theorem dX3_wetCells_0 : decode cX3_wetCells 0 = .ok (.iconst 0, 1) := dk_3 (dk_at dksX3_wetCells_0 0 rfl rfl)
theorem dX3_wetCells_1 : decode cX3_wetCells 1 = .ok (.istore_n 1, 1) := dk_60 (dk_at dksX3_wetCells_0 1 rfl rfl)
theorem dX3_wetCells_2 : decode cX3_wetCells 2 = .ok (.iconst 0, 1) := dk_3 (dk_at dksX3_wetCells_0 2 rfl rfl)
theorem dX3_wetCells_3 : decode cX3_wetCells 3 = .ok (.istore_n 2, 1) := dk_61 (dk_at dksX3_wetCells_0 3 rfl rfl)
theorem dX3_wetCells_4 : decode cX3_wetCells 4 = .ok (.iload_n 2, 1) := dk_28 (dk_at dksX3_wetCells_0 4 rfl rfl)
theorem dX3_wetCells_5 : decode cX3_wetCells 5 = .ok (.aload_n 0, 1) := dk_42 (dk_at dksX3_wetCells_0 5 rfl rfl)
theorem dX3_wetCells_6 : decode cX3_wetCells 6 = .ok (.getfield 9, 3) := dk_180 0 9 (dk_at dksX3_wetCells_0 6 rfl rfl)
theorem dX3_wetCells_9 : decode cX3_wetCells 9 = .ok (.iconst 4, 1) := dk_7 (dk_at dksX3_wetCells_0 9 rfl rfl)
theorem dX3_wetCells_10 : decode cX3_wetCells 10 = .ok (.iaload, 1) := dk_46 (dk_at dksX3_wetCells_0 10 rfl rfl)
theorem dX3_wetCells_11 : decode cX3_wetCells 11 = .ok (.if_icmp .ge 27, 3) := dk_162 0 27 (dk_at dksX3_wetCells_0 11 rfl rfl)
theorem dX3_wetCells_14 : decode cX3_wetCells 14 = .ok (.iload_n 1, 1) := dk_27 (dk_at dksX3_wetCells_0 14 rfl rfl)
theorem dX3_wetCells_15 : decode cX3_wetCells 15 = .ok (.aload_n 0, 1) := dk_42 (dk_at dksX3_wetCells_0 15 rfl rfl)
theorem dX3_wetCells_16 : decode cX3_wetCells 16 = .ok (.iload_n 2, 1) := dk_28 (dk_at dksX3_wetCells_0 16 rfl rfl)
theorem dX3_wetCells_17 : decode cX3_wetCells 17 = .ok (.invokevirtual 414, 3) := dk_182 1 158 (dk_at dksX3_wetCells_0 17 rfl rfl)
theorem dX3_wetCells_20 : decode cX3_wetCells 20 = .ok (.ifCond .eq 9, 3) := dk_153 0 9 (dk_at dksX3_wetCells_0 20 rfl rfl)
theorem dX3_wetCells_23 : decode cX3_wetCells 23 = .ok (.iconst 1, 1) := dk_4 (dk_at dksX3_wetCells_0 23 rfl rfl)
theorem dX3_wetCells_24 : decode cX3_wetCells 24 = .ok (.iload_n 2, 1) := dk_28 (dk_at dksX3_wetCells_1 0 rfl rfl)
theorem dX3_wetCells_25 : decode cX3_wetCells 25 = .ok (.ishl, 1) := dk_120 (dk_at dksX3_wetCells_1 1 rfl rfl)
theorem dX3_wetCells_26 : decode cX3_wetCells 26 = .ok (.goto 4, 3) := dk_167 0 4 (dk_at dksX3_wetCells_1 2 rfl rfl)
theorem dX3_wetCells_29 : decode cX3_wetCells 29 = .ok (.iconst 0, 1) := dk_3 (dk_at dksX3_wetCells_1 5 rfl rfl)
theorem dX3_wetCells_30 : decode cX3_wetCells 30 = .ok (.ior, 1) := dk_128 (dk_at dksX3_wetCells_1 6 rfl rfl)
theorem dX3_wetCells_31 : decode cX3_wetCells 31 = .ok (.istore_n 1, 1) := dk_60 (dk_at dksX3_wetCells_1 7 rfl rfl)
theorem dX3_wetCells_32 : decode cX3_wetCells 32 = .ok (.iinc 2 1, 3) := dk_132 2 1 (dk_at dksX3_wetCells_1 8 rfl rfl)
theorem dX3_wetCells_35 : decode cX3_wetCells 35 = .ok (.goto (-31), 3) := dk_167 255 225 (dk_at dksX3_wetCells_1 11 rfl rfl)
theorem dX3_wetCells_38 : decode cX3_wetCells 38 = .ok (.iload_n 1, 1) := dk_27 (dk_at dksX3_wetCells_1 14 rfl rfl)
theorem dX3_wetCells_39 : decode cX3_wetCells 39 = .ok (.ireturn, 1) := dk_172 (dk_at dksX3_wetCells_1 15 rfl rfl)
abbrev cX3_image : ByteArray := prog_17_method_124_code
def yX3_image : MethodName := ⟨RX3, "image", "(I)I"⟩
def dkwX3_image_1 : List UInt8 := [182, 1, 225, 42, 180, 0, 9, 16, 9, 46, 172]
abbrev dktX3_image_1 : List UInt8 := dkwX3_image_1 ++ []
def dkwX3_image_0 : List UInt8 := [27, 133, 9, 20, 2, 66, 184, 0, 164, 154, 0, 5, 2, 172, 42, 180, 0, 157, 27, 4, 84, 42, 27, 3]
abbrev dktX3_image_0 : List UInt8 := dkwX3_image_0 ++ dktX3_image_1
theorem dksX3_image_0 : cX3_image.data.toList.drop 0 = dktX3_image_0 := by decide +kernel
theorem dksX3_image_1 : cX3_image.data.toList.drop 24 = dktX3_image_1 := dk_seg dksX3_image_0 24 rfl rfl
theorem dX3_image_0 : decode cX3_image 0 = .ok (.iload_n 1, 1) := dk_27 (dk_at dksX3_image_0 0 rfl rfl)
theorem dX3_image_1 : decode cX3_image 1 = .ok (.i2l, 1) := dk_133 (dk_at dksX3_image_0 1 rfl rfl)
theorem dX3_image_2 : decode cX3_image 2 = .ok (.lconst 0, 1) := dk_9 (dk_at dksX3_image_0 2 rfl rfl)
theorem dX3_image_3 : decode cX3_image 3 = .ok (.ldc2_w 578, 3) := dk_20 2 66 (dk_at dksX3_image_0 3 rfl rfl)
theorem dX3_image_6 : decode cX3_image 6 = .ok (.invokestatic 164, 3) := dk_184 0 164 (dk_at dksX3_image_0 6 rfl rfl)
theorem dX3_image_9 : decode cX3_image 9 = .ok (.ifCond .ne 5, 3) := dk_154 0 5 (dk_at dksX3_image_0 9 rfl rfl)
theorem dX3_image_12 : decode cX3_image 12 = .ok (.iconst (-1), 1) := dk_2 (dk_at dksX3_image_0 12 rfl rfl)
theorem dX3_image_13 : decode cX3_image 13 = .ok (.ireturn, 1) := dk_172 (dk_at dksX3_image_0 13 rfl rfl)
theorem dX3_image_14 : decode cX3_image 14 = .ok (.aload_n 0, 1) := dk_42 (dk_at dksX3_image_0 14 rfl rfl)
theorem dX3_image_15 : decode cX3_image 15 = .ok (.getfield 157, 3) := dk_180 0 157 (dk_at dksX3_image_0 15 rfl rfl)
theorem dX3_image_18 : decode cX3_image 18 = .ok (.iload_n 1, 1) := dk_27 (dk_at dksX3_image_0 18 rfl rfl)
theorem dX3_image_19 : decode cX3_image 19 = .ok (.iconst 1, 1) := dk_4 (dk_at dksX3_image_0 19 rfl rfl)
theorem dX3_image_20 : decode cX3_image 20 = .ok (.bastore, 1) := dk_84 (dk_at dksX3_image_0 20 rfl rfl)
theorem dX3_image_21 : decode cX3_image 21 = .ok (.aload_n 0, 1) := dk_42 (dk_at dksX3_image_0 21 rfl rfl)
theorem dX3_image_22 : decode cX3_image 22 = .ok (.iload_n 1, 1) := dk_27 (dk_at dksX3_image_0 22 rfl rfl)
theorem dX3_image_23 : decode cX3_image 23 = .ok (.iconst 0, 1) := dk_3 (dk_at dksX3_image_0 23 rfl rfl)
theorem dX3_image_24 : decode cX3_image 24 = .ok (.invokevirtual 481, 3) := dk_182 1 225 (dk_at dksX3_image_1 0 rfl rfl)
theorem dX3_image_27 : decode cX3_image 27 = .ok (.aload_n 0, 1) := dk_42 (dk_at dksX3_image_1 3 rfl rfl)
theorem dX3_image_28 : decode cX3_image 28 = .ok (.getfield 9, 3) := dk_180 0 9 (dk_at dksX3_image_1 4 rfl rfl)
theorem dX3_image_31 : decode cX3_image 31 = .ok (.bipush 9, 2) := dk_16 9 (dk_at dksX3_image_1 7 rfl rfl)
theorem dX3_image_33 : decode cX3_image 33 = .ok (.iaload, 1) := dk_46 (dk_at dksX3_image_1 9 rfl rfl)
theorem dX3_image_34 : decode cX3_image 34 = .ok (.ireturn, 1) := dk_172 (dk_at dksX3_image_1 10 rfl rfl)
abbrev cX3_back : ByteArray := prog_17_method_125_code
def yX3_back : MethodName := ⟨RX3, "back", "(I)I"⟩
def dkwX3_back_1 : List UInt8 := [27, 4, 182, 1, 225, 42, 180, 0, 9, 16, 9, 46, 172]
abbrev dktX3_back_1 : List UInt8 := dkwX3_back_1 ++ []
def dkwX3_back_0 : List UInt8 := [27, 133, 9, 20, 2, 66, 184, 0, 164, 153, 0, 12, 42, 180, 0, 157, 27, 51, 154, 0, 5, 2, 172, 42]
abbrev dktX3_back_0 : List UInt8 := dkwX3_back_0 ++ dktX3_back_1
theorem dksX3_back_0 : cX3_back.data.toList.drop 0 = dktX3_back_0 := by decide +kernel
theorem dksX3_back_1 : cX3_back.data.toList.drop 24 = dktX3_back_1 := dk_seg dksX3_back_0 24 rfl rfl
theorem dX3_back_0 : decode cX3_back 0 = .ok (.iload_n 1, 1) := dk_27 (dk_at dksX3_back_0 0 rfl rfl)
theorem dX3_back_1 : decode cX3_back 1 = .ok (.i2l, 1) := dk_133 (dk_at dksX3_back_0 1 rfl rfl)
theorem dX3_back_2 : decode cX3_back 2 = .ok (.lconst 0, 1) := dk_9 (dk_at dksX3_back_0 2 rfl rfl)
theorem dX3_back_3 : decode cX3_back 3 = .ok (.ldc2_w 578, 3) := dk_20 2 66 (dk_at dksX3_back_0 3 rfl rfl)
theorem dX3_back_6 : decode cX3_back 6 = .ok (.invokestatic 164, 3) := dk_184 0 164 (dk_at dksX3_back_0 6 rfl rfl)
theorem dX3_back_9 : decode cX3_back 9 = .ok (.ifCond .eq 12, 3) := dk_153 0 12 (dk_at dksX3_back_0 9 rfl rfl)
theorem dX3_back_12 : decode cX3_back 12 = .ok (.aload_n 0, 1) := dk_42 (dk_at dksX3_back_0 12 rfl rfl)
theorem dX3_back_13 : decode cX3_back 13 = .ok (.getfield 157, 3) := dk_180 0 157 (dk_at dksX3_back_0 13 rfl rfl)
theorem dX3_back_16 : decode cX3_back 16 = .ok (.iload_n 1, 1) := dk_27 (dk_at dksX3_back_0 16 rfl rfl)
theorem dX3_back_17 : decode cX3_back 17 = .ok (.baload, 1) := dk_51 (dk_at dksX3_back_0 17 rfl rfl)
theorem dX3_back_18 : decode cX3_back 18 = .ok (.ifCond .ne 5, 3) := dk_154 0 5 (dk_at dksX3_back_0 18 rfl rfl)
theorem dX3_back_21 : decode cX3_back 21 = .ok (.iconst (-1), 1) := dk_2 (dk_at dksX3_back_0 21 rfl rfl)
theorem dX3_back_22 : decode cX3_back 22 = .ok (.ireturn, 1) := dk_172 (dk_at dksX3_back_0 22 rfl rfl)
theorem dX3_back_23 : decode cX3_back 23 = .ok (.aload_n 0, 1) := dk_42 (dk_at dksX3_back_0 23 rfl rfl)
theorem dX3_back_24 : decode cX3_back 24 = .ok (.iload_n 1, 1) := dk_27 (dk_at dksX3_back_1 0 rfl rfl)
theorem dX3_back_25 : decode cX3_back 25 = .ok (.iconst 1, 1) := dk_4 (dk_at dksX3_back_1 1 rfl rfl)
theorem dX3_back_26 : decode cX3_back 26 = .ok (.invokevirtual 481, 3) := dk_182 1 225 (dk_at dksX3_back_1 2 rfl rfl)
theorem dX3_back_29 : decode cX3_back 29 = .ok (.aload_n 0, 1) := dk_42 (dk_at dksX3_back_1 5 rfl rfl)
theorem dX3_back_30 : decode cX3_back 30 = .ok (.getfield 9, 3) := dk_180 0 9 (dk_at dksX3_back_1 6 rfl rfl)
theorem dX3_back_33 : decode cX3_back 33 = .ok (.bipush 9, 2) := dk_16 9 (dk_at dksX3_back_1 9 rfl rfl)
theorem dX3_back_35 : decode cX3_back 35 = .ok (.iaload, 1) := dk_46 (dk_at dksX3_back_1 11 rfl rfl)
theorem dX3_back_36 : decode cX3_back 36 = .ok (.ireturn, 1) := dk_172 (dk_at dksX3_back_1 12 rfl rfl)
theorem q135 : (Jvm.Cond.initialized "LatestCoatModel") ∈ lw_all := lw_g (lw_at lw_m1 7 rfl) rfl
theorem q1217 : (Jvm.Cond.instantiable "LatestCoatModel" (65 : Nat)) ∈ lw_all := lw_g (lw_at lw_m5 129 rfl) rfl
theorem q1219 : (Jvm.Cond.instanceMethod ({ cls := "LatestCoatModel", name := "<init>", desc := "()V" } : Jvm.MethodName)) ∈ lw_all := lw_g (lw_at lw_m5 131 rfl) rfl
theorem q1220 : (Jvm.Cond.code ({ cls := "LatestCoatModel", name := "<init>", desc := "()V" } : Jvm.MethodName) prog_17_method_1_code (1 : Nat) (Option.none : Option Jvm.ClassFile.FieldType)) ∈ lw_all := lw_g (lw_at lw_m5 132 rfl) rfl
theorem q1221 : (Jvm.Cond.methodLink "LatestCoatModel" (3 : Nat) ({ cls := "java/lang/Object", name := "<init>", desc := "()V" } : Jvm.MethodName)) ∈ lw_all := lw_g (lw_at lw_m5 133 rfl) rfl
theorem q1222 : (Jvm.Cond.fieldLink "LatestCoatModel" (9 : Nat) "LatestCoatModel" "scalar" "[I") ∈ lw_all := lw_g (lw_at lw_m5 134 rfl) rfl
theorem q1223 : (Jvm.Cond.fieldLink "LatestCoatModel" (13 : Nat) "LatestCoatModel" "first" "[I") ∈ lw_all := lw_g (lw_at lw_m5 135 rfl) rfl
theorem q1224 : (Jvm.Cond.fieldLink "LatestCoatModel" (16 : Nat) "LatestCoatModel" "rent" "[I") ∈ lw_all := lw_g (lw_at lw_m5 136 rfl) rfl
theorem q1225 : (Jvm.Cond.fieldLink "LatestCoatModel" (19 : Nat) "LatestCoatModel" "colour" "[I") ∈ lw_all := lw_g (lw_at lw_m5 137 rfl) rfl
theorem q1226 : (Jvm.Cond.fieldLink "LatestCoatModel" (22 : Nat) "LatestCoatModel" "purse" "[I") ∈ lw_all := lw_g (lw_at lw_m5 138 rfl) rfl
theorem q1227 : (Jvm.Cond.fieldLink "LatestCoatModel" (25 : Nat) "LatestCoatModel" "rainFrom" "[I") ∈ lw_all := lw_g (lw_at lw_m5 139 rfl) rfl
theorem q1228 : (Jvm.Cond.fieldLink "LatestCoatModel" (28 : Nat) "LatestCoatModel" "rainTo" "[I") ∈ lw_all := lw_g (lw_at lw_m5 140 rfl) rfl
theorem q1229 : (Jvm.Cond.fieldLink "LatestCoatModel" (31 : Nat) "LatestCoatModel" "many" "[I") ∈ lw_all := lw_g (lw_at lw_m5 141 rfl) rfl
theorem q1230 : (Jvm.Cond.fieldLink "LatestCoatModel" (34 : Nat) "LatestCoatModel" "by" "[I") ∈ lw_all := lw_g (lw_at lw_m5 142 rfl) rfl
theorem q1231 : (Jvm.Cond.fieldLink "LatestCoatModel" (37 : Nat) "LatestCoatModel" "when" "[I") ∈ lw_all := lw_g (lw_at lw_m5 143 rfl) rfl
theorem q1232 : (Jvm.Cond.fieldLink "LatestCoatModel" (40 : Nat) "LatestCoatModel" "logHour" "[I") ∈ lw_all := lw_g (lw_at lw_m5 144 rfl) rfl
theorem q1233 : (Jvm.Cond.fieldLink "LatestCoatModel" (43 : Nat) "LatestCoatModel" "logThing" "[I") ∈ lw_all := lw_g (lw_at lw_m5 145 rfl) rfl
theorem q1234 : (Jvm.Cond.fieldLink "LatestCoatModel" (46 : Nat) "LatestCoatModel" "logWho" "[I") ∈ lw_all := lw_g (lw_at lw_m5 146 rfl) rfl
theorem q1235 : (Jvm.Cond.fieldLink "LatestCoatModel" (49 : Nat) "LatestCoatModel" "toldMany" "[I") ∈ lw_all := lw_g (lw_at lw_m5 147 rfl) rfl
theorem q1236 : (Jvm.Cond.fieldLink "LatestCoatModel" (52 : Nat) "LatestCoatModel" "toldBy" "[I") ∈ lw_all := lw_g (lw_at lw_m5 148 rfl) rfl
theorem q1237 : (Jvm.Cond.fieldLink "LatestCoatModel" (55 : Nat) "LatestCoatModel" "toldPurse" "[I") ∈ lw_all := lw_g (lw_at lw_m5 149 rfl) rfl
theorem q1238 : (Jvm.Cond.fieldLink "LatestCoatModel" (58 : Nat) "LatestCoatModel" "toldBare" "[I") ∈ lw_all := lw_g (lw_at lw_m5 150 rfl) rfl
theorem q1239 : (Jvm.Cond.fieldLink "LatestCoatModel" (61 : Nat) "LatestCoatModel" "newScalar" "[I") ∈ lw_all := lw_g (lw_at lw_m5 151 rfl) rfl
theorem q1240 : (Jvm.Cond.fieldLink "LatestCoatModel" (64 : Nat) "LatestCoatModel" "newFirst" "[I") ∈ lw_all := lw_g (lw_at lw_m5 152 rfl) rfl
theorem q1241 : (Jvm.Cond.fieldLink "LatestCoatModel" (67 : Nat) "LatestCoatModel" "newRent" "[I") ∈ lw_all := lw_g (lw_at lw_m5 153 rfl) rfl
theorem q1242 : (Jvm.Cond.fieldLink "LatestCoatModel" (70 : Nat) "LatestCoatModel" "newColour" "[I") ∈ lw_all := lw_g (lw_at lw_m5 154 rfl) rfl
theorem q1243 : (Jvm.Cond.fieldLink "LatestCoatModel" (73 : Nat) "LatestCoatModel" "newPurse" "[I") ∈ lw_all := lw_g (lw_at lw_m5 155 rfl) rfl
theorem q1244 : (Jvm.Cond.fieldLink "LatestCoatModel" (76 : Nat) "LatestCoatModel" "newFrom" "[I") ∈ lw_all := lw_g (lw_at lw_m5 156 rfl) rfl
theorem q1245 : (Jvm.Cond.fieldLink "LatestCoatModel" (79 : Nat) "LatestCoatModel" "newTo" "[I") ∈ lw_all := lw_g (lw_at lw_m5 157 rfl) rfl
theorem q1246 : (Jvm.Cond.fieldLink "LatestCoatModel" (82 : Nat) "LatestCoatModel" "newMany" "[I") ∈ lw_all := lw_g (lw_at lw_m5 158 rfl) rfl
theorem q1247 : (Jvm.Cond.fieldLink "LatestCoatModel" (85 : Nat) "LatestCoatModel" "newBy" "[I") ∈ lw_all := lw_g (lw_at lw_m5 159 rfl) rfl
theorem q1248 : (Jvm.Cond.fieldLink "LatestCoatModel" (168 : Nat) "LatestCoatModel" "taped" "I") ∈ lw_all := lw_g (lw_at lw_m5 160 rfl) rfl
theorem q1249 : (Jvm.Cond.fieldLink "LatestCoatModel" (202 : Nat) "LatestCoatModel" "p" "I") ∈ lw_all := lw_g (lw_at lw_m5 161 rfl) rfl
theorem q1250 : (Jvm.Cond.fieldLink "LatestCoatModel" (199 : Nat) "LatestCoatModel" "fault" "I") ∈ lw_all := lw_g (lw_at lw_m5 162 rfl) rfl
theorem q1251 : (Jvm.Cond.fieldLink "LatestCoatModel" (229 : Nat) "LatestCoatModel" "slot" "I") ∈ lw_all := lw_g (lw_at lw_m5 163 rfl) rfl
theorem q1252 : (Jvm.Cond.fieldLink "LatestCoatModel" (362 : Nat) "LatestCoatModel" "rules" "I") ∈ lw_all := lw_g (lw_at lw_m5 164 rfl) rfl
theorem q1253 : (Jvm.Cond.fieldLink "LatestCoatModel" (232 : Nat) "LatestCoatModel" "entries" "I") ∈ lw_all := lw_g (lw_at lw_m5 165 rfl) rfl
theorem q1254 : (Jvm.Cond.fieldLink "LatestCoatModel" (272 : Nat) "LatestCoatModel" "deep" "I") ∈ lw_all := lw_g (lw_at lw_m5 166 rfl) rfl
theorem q1255 : (Jvm.Cond.fieldLink "LatestCoatModel" (235 : Nat) "LatestCoatModel" "counted" "I") ∈ lw_all := lw_g (lw_at lw_m5 167 rfl) rfl
theorem q1256 : (Jvm.Cond.fieldLink "LatestCoatModel" (269 : Nat) "LatestCoatModel" "opened" "I") ∈ lw_all := lw_g (lw_at lw_m5 168 rfl) rfl
theorem q1257 : (Jvm.Cond.fieldLink "LatestCoatModel" (88 : Nat) "LatestCoatModel" "words" "I") ∈ lw_all := lw_g (lw_at lw_m5 169 rfl) rfl
theorem q1258 : (Jvm.Cond.fieldLink "LatestCoatModel" (92 : Nat) "LatestCoatModel" "tape" "[B") ∈ lw_all := lw_g (lw_at lw_m5 170 rfl) rfl
theorem q1259 : (Jvm.Cond.fieldLink "LatestCoatModel" (96 : Nat) "LatestCoatModel" "sort" "[I") ∈ lw_all := lw_g (lw_at lw_m5 171 rfl) rfl
theorem q1260 : (Jvm.Cond.fieldLink "LatestCoatModel" (99 : Nat) "LatestCoatModel" "number" "[I") ∈ lw_all := lw_g (lw_at lw_m5 172 rfl) rfl
theorem q1261 : (Jvm.Cond.fieldLink "LatestCoatModel" (102 : Nat) "LatestCoatModel" "clauses" "[I") ∈ lw_all := lw_g (lw_at lw_m5 173 rfl) rfl
theorem q1262 : (Jvm.Cond.fieldLink "LatestCoatModel" (105 : Nat) "LatestCoatModel" "sumAt" "[I") ∈ lw_all := lw_g (lw_at lw_m5 174 rfl) rfl
theorem q1263 : (Jvm.Cond.fieldLink "LatestCoatModel" (108 : Nat) "LatestCoatModel" "testAt" "[I") ∈ lw_all := lw_g (lw_at lw_m5 175 rfl) rfl
theorem q1264 : (Jvm.Cond.fieldLink "LatestCoatModel" (111 : Nat) "LatestCoatModel" "endAt" "[I") ∈ lw_all := lw_g (lw_at lw_m5 176 rfl) rfl
theorem q1265 : (Jvm.Cond.fieldLink "LatestCoatModel" (114 : Nat) "LatestCoatModel" "open" "[I") ∈ lw_all := lw_g (lw_at lw_m5 177 rfl) rfl
theorem q1266 : (Jvm.Cond.fieldLink "LatestCoatModel" (117 : Nat) "LatestCoatModel" "asked" "[J") ∈ lw_all := lw_g (lw_at lw_m5 178 rfl) rfl
theorem q1267 : (Jvm.Cond.fieldLink "LatestCoatModel" (121 : Nat) "LatestCoatModel" "stack" "[J") ∈ lw_all := lw_g (lw_at lw_m5 179 rfl) rfl
theorem q1268 : (Jvm.Cond.fieldLink "LatestCoatModel" (124 : Nat) "LatestCoatModel" "cellsOf" "[I") ∈ lw_all := lw_g (lw_at lw_m5 180 rfl) rfl
theorem q1269 : (Jvm.Cond.fieldLink "LatestCoatModel" (127 : Nat) "LatestCoatModel" "got" "[I") ∈ lw_all := lw_g (lw_at lw_m5 181 rfl) rfl
theorem q1270 : (Jvm.Cond.fieldLink "LatestCoatModel" (130 : Nat) "LatestCoatModel" "past" "[I") ∈ lw_all := lw_g (lw_at lw_m5 182 rfl) rfl
theorem q1271 : (Jvm.Cond.fieldLink "LatestCoatModel" (133 : Nat) "LatestCoatModel" "ring" "[I") ∈ lw_all := lw_g (lw_at lw_m5 183 rfl) rfl
theorem q1272 : (Jvm.Cond.fieldLink "LatestCoatModel" (349 : Nat) "LatestCoatModel" "pastMany" "I") ∈ lw_all := lw_g (lw_at lw_m5 184 rfl) rfl
theorem q1273 : (Jvm.Cond.fieldLink "LatestCoatModel" (464 : Nat) "LatestCoatModel" "pastAt" "I") ∈ lw_all := lw_g (lw_at lw_m5 185 rfl) rfl
theorem q1274 : (Jvm.Cond.fieldLink "LatestCoatModel" (460 : Nat) "LatestCoatModel" "takesBack" "Z") ∈ lw_all := lw_g (lw_at lw_m5 186 rfl) rfl
theorem q1275 : (Jvm.Cond.fieldLink "LatestCoatModel" (136 : Nat) "LatestCoatModel" "scraped" "[I") ∈ lw_all := lw_g (lw_at lw_m5 187 rfl) rfl
theorem q1276 : (Jvm.Cond.fieldLink "LatestCoatModel" (139 : Nat) "LatestCoatModel" "bestScraped" "[I") ∈ lw_all := lw_g (lw_at lw_m5 188 rfl) rfl
theorem q1277 : (Jvm.Cond.fieldLink "LatestCoatModel" (142 : Nat) "LatestCoatModel" "choice" "[I") ∈ lw_all := lw_g (lw_at lw_m5 189 rfl) rfl
theorem q1278 : (Jvm.Cond.fieldLink "LatestCoatModel" (145 : Nat) "LatestCoatModel" "value" "[I") ∈ lw_all := lw_g (lw_at lw_m5 190 rfl) rfl
theorem q1279 : (Jvm.Cond.fieldLink "LatestCoatModel" (524 : Nat) "LatestCoatModel" "firstCell" "I") ∈ lw_all := lw_g (lw_at lw_m5 191 rfl) rfl
theorem q1280 : (Jvm.Cond.fieldLink "LatestCoatModel" (148 : Nat) "LatestCoatModel" "shown" "[I") ∈ lw_all := lw_g (lw_at lw_m5 192 rfl) rfl
theorem q1281 : (Jvm.Cond.fieldLink "LatestCoatModel" (151 : Nat) "LatestCoatModel" "alike" "[I") ∈ lw_all := lw_g (lw_at lw_m5 193 rfl) rfl
theorem q1282 : (Jvm.Cond.fieldLink "LatestCoatModel" (154 : Nat) "LatestCoatModel" "images" "[I") ∈ lw_all := lw_g (lw_at lw_m5 194 rfl) rfl
theorem q1283 : (Jvm.Cond.fieldLink "LatestCoatModel" (157 : Nat) "LatestCoatModel" "isMade" "[Z") ∈ lw_all := lw_g (lw_at lw_m5 195 rfl) rfl
theorem q1284 : (Jvm.Cond.fieldLink "LatestCoatModel" (572 : Nat) "LatestCoatModel" "imageAt" "I") ∈ lw_all := lw_g (lw_at lw_m5 196 rfl) rfl
theorem q1285 : (Jvm.Cond.fieldLink "LatestCoatModel" (569 : Nat) "LatestCoatModel" "goesBack" "Z") ∈ lw_all := lw_g (lw_at lw_m5 197 rfl) rfl
theorem q1286 : (Jvm.Cond.lays "LatestCoatModel" "LatestCoatModel" "thrown" "I") ∈ lw_all := lw_g (lw_at lw_m5 198 rfl) rfl
theorem q1287 : (Jvm.Cond.soleField "LatestCoatModel" "thrown") ∈ lw_all := lw_g (lw_at lw_m5 199 rfl) rfl
theorem q1288 : (Jvm.Cond.laysFinal "LatestCoatModel" "LatestCoatModel" "scalar" "[I") ∈ lw_all := lw_g (lw_at lw_m5 200 rfl) rfl
theorem q1289 : (Jvm.Cond.soleField "LatestCoatModel" "scalar") ∈ lw_all := lw_g (lw_at lw_m5 201 rfl) rfl
theorem q1290 : (Jvm.Cond.laysFinal "LatestCoatModel" "LatestCoatModel" "first" "[I") ∈ lw_all := lw_g (lw_at lw_m5 202 rfl) rfl
theorem q1291 : (Jvm.Cond.soleField "LatestCoatModel" "first") ∈ lw_all := lw_g (lw_at lw_m5 203 rfl) rfl
theorem q1292 : (Jvm.Cond.laysFinal "LatestCoatModel" "LatestCoatModel" "rent" "[I") ∈ lw_all := lw_g (lw_at lw_m5 204 rfl) rfl
theorem q1293 : (Jvm.Cond.soleField "LatestCoatModel" "rent") ∈ lw_all := lw_g (lw_at lw_m5 205 rfl) rfl
theorem q1294 : (Jvm.Cond.laysFinal "LatestCoatModel" "LatestCoatModel" "colour" "[I") ∈ lw_all := lw_g (lw_at lw_m5 206 rfl) rfl
theorem q1295 : (Jvm.Cond.soleField "LatestCoatModel" "colour") ∈ lw_all := lw_g (lw_at lw_m5 207 rfl) rfl
theorem q1296 : (Jvm.Cond.laysFinal "LatestCoatModel" "LatestCoatModel" "purse" "[I") ∈ lw_all := lw_g (lw_at lw_m5 208 rfl) rfl
theorem q1297 : (Jvm.Cond.soleField "LatestCoatModel" "purse") ∈ lw_all := lw_g (lw_at lw_m5 209 rfl) rfl
theorem q1298 : (Jvm.Cond.laysFinal "LatestCoatModel" "LatestCoatModel" "rainFrom" "[I") ∈ lw_all := lw_g (lw_at lw_m5 210 rfl) rfl
theorem q1299 : (Jvm.Cond.soleField "LatestCoatModel" "rainFrom") ∈ lw_all := lw_g (lw_at lw_m5 211 rfl) rfl
theorem q1300 : (Jvm.Cond.laysFinal "LatestCoatModel" "LatestCoatModel" "rainTo" "[I") ∈ lw_all := lw_g (lw_at lw_m5 212 rfl) rfl
theorem q1301 : (Jvm.Cond.soleField "LatestCoatModel" "rainTo") ∈ lw_all := lw_g (lw_at lw_m5 213 rfl) rfl
theorem q1302 : (Jvm.Cond.laysFinal "LatestCoatModel" "LatestCoatModel" "many" "[I") ∈ lw_all := lw_g (lw_at lw_m5 214 rfl) rfl
theorem q1303 : (Jvm.Cond.soleField "LatestCoatModel" "many") ∈ lw_all := lw_g (lw_at lw_m5 215 rfl) rfl
theorem q1304 : (Jvm.Cond.laysFinal "LatestCoatModel" "LatestCoatModel" "by" "[I") ∈ lw_all := lw_g (lw_at lw_m5 216 rfl) rfl
theorem q1305 : (Jvm.Cond.soleField "LatestCoatModel" "by") ∈ lw_all := lw_g (lw_at lw_m5 217 rfl) rfl
theorem q1306 : (Jvm.Cond.laysFinal "LatestCoatModel" "LatestCoatModel" "when" "[I") ∈ lw_all := lw_g (lw_at lw_m5 218 rfl) rfl
theorem q1307 : (Jvm.Cond.soleField "LatestCoatModel" "when") ∈ lw_all := lw_g (lw_at lw_m5 219 rfl) rfl
theorem q1308 : (Jvm.Cond.laysFinal "LatestCoatModel" "LatestCoatModel" "logHour" "[I") ∈ lw_all := lw_g (lw_at lw_m5 220 rfl) rfl
theorem q1309 : (Jvm.Cond.soleField "LatestCoatModel" "logHour") ∈ lw_all := lw_g (lw_at lw_m5 221 rfl) rfl
theorem q1310 : (Jvm.Cond.laysFinal "LatestCoatModel" "LatestCoatModel" "logThing" "[I") ∈ lw_all := lw_g (lw_at lw_m5 222 rfl) rfl
theorem q1311 : (Jvm.Cond.soleField "LatestCoatModel" "logThing") ∈ lw_all := lw_g (lw_at lw_m5 223 rfl) rfl
theorem q1312 : (Jvm.Cond.laysFinal "LatestCoatModel" "LatestCoatModel" "logWho" "[I") ∈ lw_all := lw_g (lw_at lw_m5 224 rfl) rfl
theorem q1313 : (Jvm.Cond.soleField "LatestCoatModel" "logWho") ∈ lw_all := lw_g (lw_at lw_m5 225 rfl) rfl
theorem q1314 : (Jvm.Cond.laysFinal "LatestCoatModel" "LatestCoatModel" "toldMany" "[I") ∈ lw_all := lw_g (lw_at lw_m5 226 rfl) rfl
theorem q1315 : (Jvm.Cond.soleField "LatestCoatModel" "toldMany") ∈ lw_all := lw_g (lw_at lw_m5 227 rfl) rfl
theorem q1316 : (Jvm.Cond.laysFinal "LatestCoatModel" "LatestCoatModel" "toldBy" "[I") ∈ lw_all := lw_g (lw_at lw_m5 228 rfl) rfl
theorem q1317 : (Jvm.Cond.soleField "LatestCoatModel" "toldBy") ∈ lw_all := lw_g (lw_at lw_m5 229 rfl) rfl
theorem q1318 : (Jvm.Cond.laysFinal "LatestCoatModel" "LatestCoatModel" "toldPurse" "[I") ∈ lw_all := lw_g (lw_at lw_m5 230 rfl) rfl
theorem q1319 : (Jvm.Cond.soleField "LatestCoatModel" "toldPurse") ∈ lw_all := lw_g (lw_at lw_m5 231 rfl) rfl
theorem q1320 : (Jvm.Cond.laysFinal "LatestCoatModel" "LatestCoatModel" "toldBare" "[I") ∈ lw_all := lw_g (lw_at lw_m5 232 rfl) rfl
theorem q1321 : (Jvm.Cond.soleField "LatestCoatModel" "toldBare") ∈ lw_all := lw_g (lw_at lw_m5 233 rfl) rfl
theorem q1322 : (Jvm.Cond.laysFinal "LatestCoatModel" "LatestCoatModel" "newScalar" "[I") ∈ lw_all := lw_g (lw_at lw_m5 234 rfl) rfl
theorem q1323 : (Jvm.Cond.soleField "LatestCoatModel" "newScalar") ∈ lw_all := lw_g (lw_at lw_m5 235 rfl) rfl
theorem q1324 : (Jvm.Cond.laysFinal "LatestCoatModel" "LatestCoatModel" "newFirst" "[I") ∈ lw_all := lw_g (lw_at lw_m5 236 rfl) rfl
theorem q1325 : (Jvm.Cond.soleField "LatestCoatModel" "newFirst") ∈ lw_all := lw_g (lw_at lw_m5 237 rfl) rfl
theorem q1326 : (Jvm.Cond.laysFinal "LatestCoatModel" "LatestCoatModel" "newRent" "[I") ∈ lw_all := lw_g (lw_at lw_m5 238 rfl) rfl
theorem q1327 : (Jvm.Cond.soleField "LatestCoatModel" "newRent") ∈ lw_all := lw_g (lw_at lw_m5 239 rfl) rfl
theorem q1328 : (Jvm.Cond.laysFinal "LatestCoatModel" "LatestCoatModel" "newColour" "[I") ∈ lw_all := lw_g (lw_at lw_m6 0 rfl) rfl
theorem q1329 : (Jvm.Cond.soleField "LatestCoatModel" "newColour") ∈ lw_all := lw_g (lw_at lw_m6 1 rfl) rfl
theorem q1330 : (Jvm.Cond.laysFinal "LatestCoatModel" "LatestCoatModel" "newPurse" "[I") ∈ lw_all := lw_g (lw_at lw_m6 2 rfl) rfl
theorem q1331 : (Jvm.Cond.soleField "LatestCoatModel" "newPurse") ∈ lw_all := lw_g (lw_at lw_m6 3 rfl) rfl
theorem q1332 : (Jvm.Cond.laysFinal "LatestCoatModel" "LatestCoatModel" "newFrom" "[I") ∈ lw_all := lw_g (lw_at lw_m6 4 rfl) rfl
theorem q1333 : (Jvm.Cond.soleField "LatestCoatModel" "newFrom") ∈ lw_all := lw_g (lw_at lw_m6 5 rfl) rfl
theorem q1334 : (Jvm.Cond.laysFinal "LatestCoatModel" "LatestCoatModel" "newTo" "[I") ∈ lw_all := lw_g (lw_at lw_m6 6 rfl) rfl
theorem q1335 : (Jvm.Cond.soleField "LatestCoatModel" "newTo") ∈ lw_all := lw_g (lw_at lw_m6 7 rfl) rfl
theorem q1336 : (Jvm.Cond.laysFinal "LatestCoatModel" "LatestCoatModel" "newMany" "[I") ∈ lw_all := lw_g (lw_at lw_m6 8 rfl) rfl
theorem q1337 : (Jvm.Cond.soleField "LatestCoatModel" "newMany") ∈ lw_all := lw_g (lw_at lw_m6 9 rfl) rfl
theorem q1338 : (Jvm.Cond.laysFinal "LatestCoatModel" "LatestCoatModel" "newBy" "[I") ∈ lw_all := lw_g (lw_at lw_m6 10 rfl) rfl
theorem q1339 : (Jvm.Cond.soleField "LatestCoatModel" "newBy") ∈ lw_all := lw_g (lw_at lw_m6 11 rfl) rfl
theorem q1340 : (Jvm.Cond.lays "LatestCoatModel" "LatestCoatModel" "taped" "I") ∈ lw_all := lw_g (lw_at lw_m6 12 rfl) rfl
theorem q1341 : (Jvm.Cond.soleField "LatestCoatModel" "taped") ∈ lw_all := lw_g (lw_at lw_m6 13 rfl) rfl
theorem q1342 : (Jvm.Cond.lays "LatestCoatModel" "LatestCoatModel" "p" "I") ∈ lw_all := lw_g (lw_at lw_m6 14 rfl) rfl
theorem q1343 : (Jvm.Cond.soleField "LatestCoatModel" "p") ∈ lw_all := lw_g (lw_at lw_m6 15 rfl) rfl
theorem q1344 : (Jvm.Cond.lays "LatestCoatModel" "LatestCoatModel" "fault" "I") ∈ lw_all := lw_g (lw_at lw_m6 16 rfl) rfl
theorem q1345 : (Jvm.Cond.soleField "LatestCoatModel" "fault") ∈ lw_all := lw_g (lw_at lw_m6 17 rfl) rfl
theorem q1346 : (Jvm.Cond.lays "LatestCoatModel" "LatestCoatModel" "slot" "I") ∈ lw_all := lw_g (lw_at lw_m6 18 rfl) rfl
theorem q1347 : (Jvm.Cond.soleField "LatestCoatModel" "slot") ∈ lw_all := lw_g (lw_at lw_m6 19 rfl) rfl
theorem q1348 : (Jvm.Cond.lays "LatestCoatModel" "LatestCoatModel" "rules" "I") ∈ lw_all := lw_g (lw_at lw_m6 20 rfl) rfl
theorem q1349 : (Jvm.Cond.soleField "LatestCoatModel" "rules") ∈ lw_all := lw_g (lw_at lw_m6 21 rfl) rfl
theorem q1350 : (Jvm.Cond.lays "LatestCoatModel" "LatestCoatModel" "entries" "I") ∈ lw_all := lw_g (lw_at lw_m6 22 rfl) rfl
theorem q1351 : (Jvm.Cond.soleField "LatestCoatModel" "entries") ∈ lw_all := lw_g (lw_at lw_m6 23 rfl) rfl
theorem q1352 : (Jvm.Cond.lays "LatestCoatModel" "LatestCoatModel" "deep" "I") ∈ lw_all := lw_g (lw_at lw_m6 24 rfl) rfl
theorem q1353 : (Jvm.Cond.soleField "LatestCoatModel" "deep") ∈ lw_all := lw_g (lw_at lw_m6 25 rfl) rfl
theorem q1354 : (Jvm.Cond.lays "LatestCoatModel" "LatestCoatModel" "counted" "I") ∈ lw_all := lw_g (lw_at lw_m6 26 rfl) rfl
theorem q1355 : (Jvm.Cond.soleField "LatestCoatModel" "counted") ∈ lw_all := lw_g (lw_at lw_m6 27 rfl) rfl
theorem q1356 : (Jvm.Cond.lays "LatestCoatModel" "LatestCoatModel" "opened" "I") ∈ lw_all := lw_g (lw_at lw_m6 28 rfl) rfl
theorem q1357 : (Jvm.Cond.soleField "LatestCoatModel" "opened") ∈ lw_all := lw_g (lw_at lw_m6 29 rfl) rfl
theorem q1358 : (Jvm.Cond.lays "LatestCoatModel" "LatestCoatModel" "words" "I") ∈ lw_all := lw_g (lw_at lw_m6 30 rfl) rfl
theorem q1359 : (Jvm.Cond.soleField "LatestCoatModel" "words") ∈ lw_all := lw_g (lw_at lw_m6 31 rfl) rfl
theorem q1360 : (Jvm.Cond.laysFinal "LatestCoatModel" "LatestCoatModel" "tape" "[B") ∈ lw_all := lw_g (lw_at lw_m6 32 rfl) rfl
theorem q1361 : (Jvm.Cond.soleField "LatestCoatModel" "tape") ∈ lw_all := lw_g (lw_at lw_m6 33 rfl) rfl
theorem q1362 : (Jvm.Cond.laysFinal "LatestCoatModel" "LatestCoatModel" "sort" "[I") ∈ lw_all := lw_g (lw_at lw_m6 34 rfl) rfl
theorem q1363 : (Jvm.Cond.soleField "LatestCoatModel" "sort") ∈ lw_all := lw_g (lw_at lw_m6 35 rfl) rfl
theorem q1364 : (Jvm.Cond.laysFinal "LatestCoatModel" "LatestCoatModel" "number" "[I") ∈ lw_all := lw_g (lw_at lw_m6 36 rfl) rfl
theorem q1365 : (Jvm.Cond.soleField "LatestCoatModel" "number") ∈ lw_all := lw_g (lw_at lw_m6 37 rfl) rfl
theorem q1366 : (Jvm.Cond.laysFinal "LatestCoatModel" "LatestCoatModel" "clauses" "[I") ∈ lw_all := lw_g (lw_at lw_m6 38 rfl) rfl
theorem q1367 : (Jvm.Cond.soleField "LatestCoatModel" "clauses") ∈ lw_all := lw_g (lw_at lw_m6 39 rfl) rfl
theorem q1368 : (Jvm.Cond.laysFinal "LatestCoatModel" "LatestCoatModel" "sumAt" "[I") ∈ lw_all := lw_g (lw_at lw_m6 40 rfl) rfl
theorem q1369 : (Jvm.Cond.soleField "LatestCoatModel" "sumAt") ∈ lw_all := lw_g (lw_at lw_m6 41 rfl) rfl
theorem q1370 : (Jvm.Cond.laysFinal "LatestCoatModel" "LatestCoatModel" "testAt" "[I") ∈ lw_all := lw_g (lw_at lw_m6 42 rfl) rfl
theorem q1371 : (Jvm.Cond.soleField "LatestCoatModel" "testAt") ∈ lw_all := lw_g (lw_at lw_m6 43 rfl) rfl
theorem q1372 : (Jvm.Cond.laysFinal "LatestCoatModel" "LatestCoatModel" "endAt" "[I") ∈ lw_all := lw_g (lw_at lw_m6 44 rfl) rfl
theorem q1373 : (Jvm.Cond.soleField "LatestCoatModel" "endAt") ∈ lw_all := lw_g (lw_at lw_m6 45 rfl) rfl
theorem q1374 : (Jvm.Cond.laysFinal "LatestCoatModel" "LatestCoatModel" "open" "[I") ∈ lw_all := lw_g (lw_at lw_m6 46 rfl) rfl
theorem q1375 : (Jvm.Cond.soleField "LatestCoatModel" "open") ∈ lw_all := lw_g (lw_at lw_m6 47 rfl) rfl
theorem q1376 : (Jvm.Cond.laysFinal "LatestCoatModel" "LatestCoatModel" "asked" "[J") ∈ lw_all := lw_g (lw_at lw_m6 48 rfl) rfl
theorem q1377 : (Jvm.Cond.soleField "LatestCoatModel" "asked") ∈ lw_all := lw_g (lw_at lw_m6 49 rfl) rfl
theorem q1378 : (Jvm.Cond.laysFinal "LatestCoatModel" "LatestCoatModel" "stack" "[J") ∈ lw_all := lw_g (lw_at lw_m6 50 rfl) rfl
theorem q1379 : (Jvm.Cond.soleField "LatestCoatModel" "stack") ∈ lw_all := lw_g (lw_at lw_m6 51 rfl) rfl
theorem q1380 : (Jvm.Cond.laysFinal "LatestCoatModel" "LatestCoatModel" "cellsOf" "[I") ∈ lw_all := lw_g (lw_at lw_m6 52 rfl) rfl
theorem q1381 : (Jvm.Cond.soleField "LatestCoatModel" "cellsOf") ∈ lw_all := lw_g (lw_at lw_m6 53 rfl) rfl
theorem q1382 : (Jvm.Cond.laysFinal "LatestCoatModel" "LatestCoatModel" "got" "[I") ∈ lw_all := lw_g (lw_at lw_m6 54 rfl) rfl
theorem q1383 : (Jvm.Cond.soleField "LatestCoatModel" "got") ∈ lw_all := lw_g (lw_at lw_m6 55 rfl) rfl
theorem q1384 : (Jvm.Cond.laysFinal "LatestCoatModel" "LatestCoatModel" "past" "[I") ∈ lw_all := lw_g (lw_at lw_m6 56 rfl) rfl
theorem q1385 : (Jvm.Cond.soleField "LatestCoatModel" "past") ∈ lw_all := lw_g (lw_at lw_m6 57 rfl) rfl
theorem q1386 : (Jvm.Cond.laysFinal "LatestCoatModel" "LatestCoatModel" "ring" "[I") ∈ lw_all := lw_g (lw_at lw_m6 58 rfl) rfl
theorem q1387 : (Jvm.Cond.soleField "LatestCoatModel" "ring") ∈ lw_all := lw_g (lw_at lw_m6 59 rfl) rfl
theorem q1388 : (Jvm.Cond.lays "LatestCoatModel" "LatestCoatModel" "pastMany" "I") ∈ lw_all := lw_g (lw_at lw_m6 60 rfl) rfl
theorem q1389 : (Jvm.Cond.soleField "LatestCoatModel" "pastMany") ∈ lw_all := lw_g (lw_at lw_m6 61 rfl) rfl
theorem q1390 : (Jvm.Cond.lays "LatestCoatModel" "LatestCoatModel" "pastAt" "I") ∈ lw_all := lw_g (lw_at lw_m6 62 rfl) rfl
theorem q1391 : (Jvm.Cond.soleField "LatestCoatModel" "pastAt") ∈ lw_all := lw_g (lw_at lw_m6 63 rfl) rfl
theorem q1392 : (Jvm.Cond.lays "LatestCoatModel" "LatestCoatModel" "takesBack" "Z") ∈ lw_all := lw_g (lw_at lw_m6 64 rfl) rfl
theorem q1393 : (Jvm.Cond.soleField "LatestCoatModel" "takesBack") ∈ lw_all := lw_g (lw_at lw_m6 65 rfl) rfl
theorem q1394 : (Jvm.Cond.laysFinal "LatestCoatModel" "LatestCoatModel" "scraped" "[I") ∈ lw_all := lw_g (lw_at lw_m6 66 rfl) rfl
theorem q1395 : (Jvm.Cond.soleField "LatestCoatModel" "scraped") ∈ lw_all := lw_g (lw_at lw_m6 67 rfl) rfl
theorem q1396 : (Jvm.Cond.laysFinal "LatestCoatModel" "LatestCoatModel" "bestScraped" "[I") ∈ lw_all := lw_g (lw_at lw_m6 68 rfl) rfl
theorem q1397 : (Jvm.Cond.soleField "LatestCoatModel" "bestScraped") ∈ lw_all := lw_g (lw_at lw_m6 69 rfl) rfl
theorem q1398 : (Jvm.Cond.laysFinal "LatestCoatModel" "LatestCoatModel" "choice" "[I") ∈ lw_all := lw_g (lw_at lw_m6 70 rfl) rfl
theorem q1399 : (Jvm.Cond.soleField "LatestCoatModel" "choice") ∈ lw_all := lw_g (lw_at lw_m6 71 rfl) rfl
theorem q1400 : (Jvm.Cond.laysFinal "LatestCoatModel" "LatestCoatModel" "value" "[I") ∈ lw_all := lw_g (lw_at lw_m6 72 rfl) rfl
theorem q1401 : (Jvm.Cond.soleField "LatestCoatModel" "value") ∈ lw_all := lw_g (lw_at lw_m6 73 rfl) rfl
theorem q1402 : (Jvm.Cond.lays "LatestCoatModel" "LatestCoatModel" "firstCell" "I") ∈ lw_all := lw_g (lw_at lw_m6 74 rfl) rfl
theorem q1403 : (Jvm.Cond.soleField "LatestCoatModel" "firstCell") ∈ lw_all := lw_g (lw_at lw_m6 75 rfl) rfl
theorem q1404 : (Jvm.Cond.laysFinal "LatestCoatModel" "LatestCoatModel" "shown" "[I") ∈ lw_all := lw_g (lw_at lw_m6 76 rfl) rfl
theorem q1405 : (Jvm.Cond.soleField "LatestCoatModel" "shown") ∈ lw_all := lw_g (lw_at lw_m6 77 rfl) rfl
theorem q1406 : (Jvm.Cond.laysFinal "LatestCoatModel" "LatestCoatModel" "alike" "[I") ∈ lw_all := lw_g (lw_at lw_m6 78 rfl) rfl
theorem q1407 : (Jvm.Cond.soleField "LatestCoatModel" "alike") ∈ lw_all := lw_g (lw_at lw_m6 79 rfl) rfl
theorem q1408 : (Jvm.Cond.laysFinal "LatestCoatModel" "LatestCoatModel" "images" "[I") ∈ lw_all := lw_g (lw_at lw_m6 80 rfl) rfl
theorem q1409 : (Jvm.Cond.soleField "LatestCoatModel" "images") ∈ lw_all := lw_g (lw_at lw_m6 81 rfl) rfl
theorem q1410 : (Jvm.Cond.laysFinal "LatestCoatModel" "LatestCoatModel" "isMade" "[Z") ∈ lw_all := lw_g (lw_at lw_m6 82 rfl) rfl
theorem q1411 : (Jvm.Cond.soleField "LatestCoatModel" "isMade") ∈ lw_all := lw_g (lw_at lw_m6 83 rfl) rfl
theorem q1412 : (Jvm.Cond.lays "LatestCoatModel" "LatestCoatModel" "imageAt" "I") ∈ lw_all := lw_g (lw_at lw_m6 84 rfl) rfl
theorem q1413 : (Jvm.Cond.soleField "LatestCoatModel" "imageAt") ∈ lw_all := lw_g (lw_at lw_m6 85 rfl) rfl
theorem q1414 : (Jvm.Cond.lays "LatestCoatModel" "LatestCoatModel" "goesBack" "Z") ∈ lw_all := lw_g (lw_at lw_m6 86 rfl) rfl
theorem q1415 : (Jvm.Cond.soleField "LatestCoatModel" "goesBack") ∈ lw_all := lw_g (lw_at lw_m6 87 rfl) rfl
theorem q1416 : (Jvm.Cond.superclass "LatestCoatModel" "java/lang/Object") ∈ lw_all := lw_g (lw_at lw_m6 88 rfl) rfl
theorem q1418 : (Jvm.Cond.instanceMethod ({ cls := "LatestCoatModel", name := "feed", desc := "(IIIII)I" } : Jvm.MethodName)) ∈ lw_all := lw_g (lw_at lw_m6 90 rfl) rfl
theorem q1419 : (Jvm.Cond.selects "LatestCoatModel" ({ cls := "LatestCoatModel", name := "feed", desc := "(IIIII)I" } : Jvm.MethodName) ({ cls := "LatestCoatModel", name := "feed", desc := "(IIIII)I" } : Jvm.MethodName)) ∈ lw_all := lw_g (lw_at lw_m6 91 rfl) rfl
theorem q1420 : (Jvm.Cond.code ({ cls := "LatestCoatModel", name := "feed", desc := "(IIIII)I" } : Jvm.MethodName) prog_17_method_10_code (6 : Nat) (Option.some Jvm.ClassFile.FieldType.int)) ∈ lw_all := lw_g (lw_at lw_m6 92 rfl) rfl
theorem q1421 : (Jvm.Cond.methodLink "LatestCoatModel" (171 : Nat) ({ cls := "LatestCoatModel", name := "put", desc := "(I)V" } : Jvm.MethodName)) ∈ lw_all := lw_g (lw_at lw_m6 93 rfl) rfl
theorem q1422 : (Jvm.Cond.privateMethod ({ cls := "LatestCoatModel", name := "put", desc := "(I)V" } : Jvm.MethodName)) ∈ lw_tbl := lw_at lw_m6 94 rfl
theorem q1423 : (Jvm.Cond.instanceMethod ({ cls := "LatestCoatModel", name := "put", desc := "(I)V" } : Jvm.MethodName)) ∈ lw_all := lw_g (lw_at lw_m6 95 rfl) rfl
theorem q1424 : (Jvm.Cond.code ({ cls := "LatestCoatModel", name := "put", desc := "(I)V" } : Jvm.MethodName) prog_17_method_11_code (3 : Nat) (Option.none : Option Jvm.ClassFile.FieldType)) ∈ lw_all := lw_g (lw_at lw_m6 96 rfl) rfl
theorem q1426 : (Jvm.Cond.instanceMethod ({ cls := "LatestCoatModel", name := "end", desc := "(I)I" } : Jvm.MethodName)) ∈ lw_all := lw_g (lw_at lw_m6 98 rfl) rfl
theorem q1427 : (Jvm.Cond.selects "LatestCoatModel" ({ cls := "LatestCoatModel", name := "end", desc := "(I)I" } : Jvm.MethodName) ({ cls := "LatestCoatModel", name := "end", desc := "(I)I" } : Jvm.MethodName)) ∈ lw_all := lw_g (lw_at lw_m6 99 rfl) rfl
theorem q1428 : (Jvm.Cond.code ({ cls := "LatestCoatModel", name := "end", desc := "(I)I" } : Jvm.MethodName) prog_17_method_12_code (2 : Nat) (Option.some Jvm.ClassFile.FieldType.int)) ∈ lw_all := lw_g (lw_at lw_m6 100 rfl) rfl
theorem q1430 : (Jvm.Cond.instanceMethod ({ cls := "LatestCoatModel", name := "street", desc := "()I" } : Jvm.MethodName)) ∈ lw_all := lw_g (lw_at lw_m6 102 rfl) rfl
theorem q1431 : (Jvm.Cond.selects "LatestCoatModel" ({ cls := "LatestCoatModel", name := "street", desc := "()I" } : Jvm.MethodName) ({ cls := "LatestCoatModel", name := "street", desc := "()I" } : Jvm.MethodName)) ∈ lw_all := lw_g (lw_at lw_m6 103 rfl) rfl
theorem q1432 : (Jvm.Cond.code ({ cls := "LatestCoatModel", name := "street", desc := "()I" } : Jvm.MethodName) prog_17_method_44_code (2 : Nat) (Option.some Jvm.ClassFile.FieldType.int)) ∈ lw_all := lw_g (lw_at lw_m6 104 rfl) rfl
theorem q1433 : (Jvm.Cond.methodLink "LatestCoatModel" (343 : Nat) ({ cls := "LatestCoatModel", name := "readsAll", desc := "()V" } : Jvm.MethodName)) ∈ lw_all := lw_g (lw_at lw_m6 105 rfl) rfl
theorem q1434 : (Jvm.Cond.privateMethod ({ cls := "LatestCoatModel", name := "readsAll", desc := "()V" } : Jvm.MethodName)) ∈ lw_tbl := lw_at lw_m6 106 rfl
theorem q1435 : (Jvm.Cond.instanceMethod ({ cls := "LatestCoatModel", name := "readsAll", desc := "()V" } : Jvm.MethodName)) ∈ lw_all := lw_g (lw_at lw_m6 107 rfl) rfl
theorem q1436 : (Jvm.Cond.code ({ cls := "LatestCoatModel", name := "readsAll", desc := "()V" } : Jvm.MethodName) prog_17_method_42_code (3 : Nat) (Option.none : Option Jvm.ClassFile.FieldType)) ∈ lw_all := lw_g (lw_at lw_m6 108 rfl) rfl
theorem q1437 : (Jvm.Cond.methodLink "LatestCoatModel" (323 : Nat) ({ cls := "LatestCoatModel", name := "starts", desc := "()V" } : Jvm.MethodName)) ∈ lw_all := lw_g (lw_at lw_m6 109 rfl) rfl
theorem q1438 : (Jvm.Cond.privateMethod ({ cls := "LatestCoatModel", name := "starts", desc := "()V" } : Jvm.MethodName)) ∈ lw_tbl := lw_at lw_m6 110 rfl
theorem q1439 : (Jvm.Cond.instanceMethod ({ cls := "LatestCoatModel", name := "starts", desc := "()V" } : Jvm.MethodName)) ∈ lw_all := lw_g (lw_at lw_m6 111 rfl) rfl
theorem q1440 : (Jvm.Cond.code ({ cls := "LatestCoatModel", name := "starts", desc := "()V" } : Jvm.MethodName) prog_17_method_41_code (1 : Nat) (Option.none : Option Jvm.ClassFile.FieldType)) ∈ lw_all := lw_g (lw_at lw_m6 112 rfl) rfl
theorem q1441 : (Jvm.Cond.methodLink "LatestCoatModel" (326 : Nat) ({ cls := "LatestCoatModel", name := "streetClause", desc := "(I)V" } : Jvm.MethodName)) ∈ lw_all := lw_g (lw_at lw_m6 113 rfl) rfl
theorem q1442 : (Jvm.Cond.privateMethod ({ cls := "LatestCoatModel", name := "streetClause", desc := "(I)V" } : Jvm.MethodName)) ∈ lw_tbl := lw_at lw_m6 114 rfl
theorem q1443 : (Jvm.Cond.instanceMethod ({ cls := "LatestCoatModel", name := "streetClause", desc := "(I)V" } : Jvm.MethodName)) ∈ lw_all := lw_g (lw_at lw_m6 115 rfl) rfl
theorem q1444 : (Jvm.Cond.code ({ cls := "LatestCoatModel", name := "streetClause", desc := "(I)V" } : Jvm.MethodName) prog_17_method_38_code (4 : Nat) (Option.none : Option Jvm.ClassFile.FieldType)) ∈ lw_all := lw_g (lw_at lw_m6 116 rfl) rfl
theorem q1445 : (Jvm.Cond.methodLink "LatestCoatModel" (222 : Nat) ({ cls := "LatestCoatModel", name := "blanks", desc := "()V" } : Jvm.MethodName)) ∈ lw_all := lw_g (lw_at lw_m6 117 rfl) rfl
theorem q1446 : (Jvm.Cond.privateMethod ({ cls := "LatestCoatModel", name := "blanks", desc := "()V" } : Jvm.MethodName)) ∈ lw_tbl := lw_at lw_m6 118 rfl
theorem q1447 : (Jvm.Cond.instanceMethod ({ cls := "LatestCoatModel", name := "blanks", desc := "()V" } : Jvm.MethodName)) ∈ lw_all := lw_g (lw_at lw_m6 119 rfl) rfl
theorem q1448 : (Jvm.Cond.code ({ cls := "LatestCoatModel", name := "blanks", desc := "()V" } : Jvm.MethodName) prog_17_method_16_code (1 : Nat) (Option.none : Option Jvm.ClassFile.FieldType)) ∈ lw_all := lw_g (lw_at lw_m6 120 rfl) rfl
theorem q1449 : (Jvm.Cond.methodLink "LatestCoatModel" (205 : Nat) ({ cls := "LatestCoatModel", name := "sign", desc := "()I" } : Jvm.MethodName)) ∈ lw_all := lw_g (lw_at lw_m6 121 rfl) rfl
theorem q1450 : (Jvm.Cond.privateMethod ({ cls := "LatestCoatModel", name := "sign", desc := "()I" } : Jvm.MethodName)) ∈ lw_tbl := lw_at lw_m6 122 rfl
theorem q1451 : (Jvm.Cond.instanceMethod ({ cls := "LatestCoatModel", name := "sign", desc := "()I" } : Jvm.MethodName)) ∈ lw_all := lw_g (lw_at lw_m6 123 rfl) rfl
theorem q1452 : (Jvm.Cond.code ({ cls := "LatestCoatModel", name := "sign", desc := "()I" } : Jvm.MethodName) prog_17_method_15_code (1 : Nat) (Option.some Jvm.ClassFile.FieldType.int)) ∈ lw_all := lw_g (lw_at lw_m6 124 rfl) rfl
theorem q1453 : (Jvm.Cond.methodLink "LatestCoatModel" (313 : Nat) ({ cls := "LatestCoatModel", name := "streetWord", desc := "(I)Ljava/lang/String;" } : Jvm.MethodName)) ∈ lw_all := lw_g (lw_at lw_m6 125 rfl) rfl
theorem q1454 : (Jvm.Cond.static ({ cls := "LatestCoatModel", name := "streetWord", desc := "(I)Ljava/lang/String;" } : Jvm.MethodName)) ∈ lw_all := lw_g (lw_at lw_m6 126 rfl) rfl
theorem q1455 : (Jvm.Cond.code ({ cls := "LatestCoatModel", name := "streetWord", desc := "(I)Ljava/lang/String;" } : Jvm.MethodName) prog_17_method_33_code (1 : Nat) (Option.some (Jvm.ClassFile.FieldType.object "java/lang/String"))) ∈ lw_all := lw_g (lw_at lw_m6 127 rfl) rfl
theorem q1456 : (Jvm.Cond.stringRef "LatestCoatModel" (295 : Nat) "street") ∈ lw_tbl := lw_at lw_m6 128 rfl
theorem q1457 : (Jvm.Cond.stringRef "LatestCoatModel" (179 : Nat) "thing") ∈ lw_tbl := lw_at lw_m6 129 rfl
theorem q1458 : (Jvm.Cond.stringRef "LatestCoatModel" (175 : Nat) "painter") ∈ lw_tbl := lw_at lw_m6 130 rfl
theorem q1459 : (Jvm.Cond.stringRef "LatestCoatModel" (297 : Nat) "coat") ∈ lw_tbl := lw_at lw_m6 131 rfl
theorem q1460 : (Jvm.Cond.stringRef "LatestCoatModel" (299 : Nat) "bare") ∈ lw_tbl := lw_at lw_m6 132 rfl
theorem q1461 : (Jvm.Cond.stringRef "LatestCoatModel" (197 : Nat) "rain") ∈ lw_tbl := lw_at lw_m6 133 rfl
theorem q1462 : (Jvm.Cond.stringRef "LatestCoatModel" (301 : Nat) "suit") ∈ lw_tbl := lw_at lw_m6 134 rfl
theorem q1463 : (Jvm.Cond.methodLink "LatestCoatModel" (225 : Nat) ({ cls := "LatestCoatModel", name := "stood", desc := "(Ljava/lang/String;)Z" } : Jvm.MethodName)) ∈ lw_all := lw_g (lw_at lw_m6 135 rfl) rfl
theorem q1464 : (Jvm.Cond.privateMethod ({ cls := "LatestCoatModel", name := "stood", desc := "(Ljava/lang/String;)Z" } : Jvm.MethodName)) ∈ lw_tbl := lw_at lw_m6 136 rfl
theorem q1465 : (Jvm.Cond.instanceMethod ({ cls := "LatestCoatModel", name := "stood", desc := "(Ljava/lang/String;)Z" } : Jvm.MethodName)) ∈ lw_all := lw_g (lw_at lw_m6 137 rfl) rfl
theorem q1466 : (Jvm.Cond.code ({ cls := "LatestCoatModel", name := "stood", desc := "(Ljava/lang/String;)Z" } : Jvm.MethodName) prog_17_method_18_code (5 : Nat) (Option.some Jvm.ClassFile.FieldType.boolean)) ∈ lw_all := lw_g (lw_at lw_m6 138 rfl) rfl
theorem q1467 : (Jvm.Cond.methodLink "LatestCoatModel" (213 : Nat) ({ cls := "java/lang/String", name := "length", desc := "()I" } : Jvm.MethodName)) ∈ lw_all := lw_g (lw_at lw_m6 139 rfl) rfl
theorem q1468 : (Jvm.Cond.methodLink "LatestCoatModel" (218 : Nat) ({ cls := "java/lang/String", name := "charAt", desc := "(I)C" } : Jvm.MethodName)) ∈ lw_all := lw_g (lw_at lw_m6 140 rfl) rfl
theorem q1469 : (Jvm.Cond.methodLink "LatestCoatModel" (238 : Nat) ({ cls := "LatestCoatModel", name := "fails", desc := "(II)V" } : Jvm.MethodName)) ∈ lw_all := lw_g (lw_at lw_m6 141 rfl) rfl
theorem q1470 : (Jvm.Cond.privateMethod ({ cls := "LatestCoatModel", name := "fails", desc := "(II)V" } : Jvm.MethodName)) ∈ lw_tbl := lw_at lw_m6 142 rfl
theorem q1471 : (Jvm.Cond.instanceMethod ({ cls := "LatestCoatModel", name := "fails", desc := "(II)V" } : Jvm.MethodName)) ∈ lw_all := lw_g (lw_at lw_m6 143 rfl) rfl
theorem q1472 : (Jvm.Cond.code ({ cls := "LatestCoatModel", name := "fails", desc := "(II)V" } : Jvm.MethodName) prog_17_method_14_code (3 : Nat) (Option.none : Option Jvm.ClassFile.FieldType)) ∈ lw_all := lw_g (lw_at lw_m6 144 rfl) rfl
theorem q1473 : (Jvm.Cond.methodLink "LatestCoatModel" (316 : Nat) ({ cls := "LatestCoatModel", name := "isFull", desc := "(II)Z" } : Jvm.MethodName)) ∈ lw_all := lw_g (lw_at lw_m6 145 rfl) rfl
theorem q1474 : (Jvm.Cond.privateMethod ({ cls := "LatestCoatModel", name := "isFull", desc := "(II)Z" } : Jvm.MethodName)) ∈ lw_tbl := lw_at lw_m6 146 rfl
theorem q1475 : (Jvm.Cond.instanceMethod ({ cls := "LatestCoatModel", name := "isFull", desc := "(II)Z" } : Jvm.MethodName)) ∈ lw_all := lw_g (lw_at lw_m6 147 rfl) rfl
theorem q1476 : (Jvm.Cond.code ({ cls := "LatestCoatModel", name := "isFull", desc := "(II)Z" } : Jvm.MethodName) prog_17_method_37_code (3 : Nat) (Option.some Jvm.ClassFile.FieldType.boolean)) ∈ lw_all := lw_g (lw_at lw_m6 148 rfl) rfl
theorem q1477 : (Jvm.Cond.methodLink "LatestCoatModel" (320 : Nat) ({ cls := "LatestCoatModel", name := "streetPart", desc := "(I)V" } : Jvm.MethodName)) ∈ lw_all := lw_g (lw_at lw_m6 149 rfl) rfl
theorem q1478 : (Jvm.Cond.privateMethod ({ cls := "LatestCoatModel", name := "streetPart", desc := "(I)V" } : Jvm.MethodName)) ∈ lw_tbl := lw_at lw_m6 150 rfl
theorem q1479 : (Jvm.Cond.instanceMethod ({ cls := "LatestCoatModel", name := "streetPart", desc := "(I)V" } : Jvm.MethodName)) ∈ lw_all := lw_g (lw_at lw_m6 151 rfl) rfl
theorem q1480 : (Jvm.Cond.code ({ cls := "LatestCoatModel", name := "streetPart", desc := "(I)V" } : Jvm.MethodName) prog_17_method_36_code (3 : Nat) (Option.none : Option Jvm.ClassFile.FieldType)) ∈ lw_all := lw_g (lw_at lw_m6 152 rfl) rfl
theorem q1481 : (Jvm.Cond.methodLink "LatestCoatModel" (303 : Nat) ({ cls := "LatestCoatModel", name := "amount", desc := "(II)I" } : Jvm.MethodName)) ∈ lw_all := lw_g (lw_at lw_m6 153 rfl) rfl
theorem q1482 : (Jvm.Cond.privateMethod ({ cls := "LatestCoatModel", name := "amount", desc := "(II)I" } : Jvm.MethodName)) ∈ lw_tbl := lw_at lw_m6 154 rfl
theorem q1483 : (Jvm.Cond.instanceMethod ({ cls := "LatestCoatModel", name := "amount", desc := "(II)I" } : Jvm.MethodName)) ∈ lw_all := lw_g (lw_at lw_m6 155 rfl) rfl
theorem q1484 : (Jvm.Cond.code ({ cls := "LatestCoatModel", name := "amount", desc := "(II)I" } : Jvm.MethodName) prog_17_method_32_code (5 : Nat) (Option.some Jvm.ClassFile.FieldType.int)) ∈ lw_all := lw_g (lw_at lw_m6 156 rfl) rfl
theorem q1485 : (Jvm.Cond.constant "LatestCoatModel" (246 : Nat) (99999 : Int32)) ∈ lw_all := lw_g (lw_at lw_m6 157 rfl) rfl
theorem q1486 : (Jvm.Cond.methodLink "LatestCoatModel" (247 : Nat) ({ cls := "LatestCoatModel", name := "digits", desc := "(I)I" } : Jvm.MethodName)) ∈ lw_all := lw_g (lw_at lw_m6 158 rfl) rfl
theorem q1487 : (Jvm.Cond.privateMethod ({ cls := "LatestCoatModel", name := "digits", desc := "(I)I" } : Jvm.MethodName)) ∈ lw_tbl := lw_at lw_m6 159 rfl
theorem q1488 : (Jvm.Cond.instanceMethod ({ cls := "LatestCoatModel", name := "digits", desc := "(I)I" } : Jvm.MethodName)) ∈ lw_all := lw_g (lw_at lw_m6 160 rfl) rfl
theorem q1489 : (Jvm.Cond.code ({ cls := "LatestCoatModel", name := "digits", desc := "(I)I" } : Jvm.MethodName) prog_17_method_22_code (4 : Nat) (Option.some Jvm.ClassFile.FieldType.int)) ∈ lw_all := lw_g (lw_at lw_m6 161 rfl) rfl
theorem q1490 : (Jvm.Cond.methodLink "LatestCoatModel" (242 : Nat) ({ cls := "LatestCoatModel", name := "isDigit", desc := "()Z" } : Jvm.MethodName)) ∈ lw_all := lw_g (lw_at lw_m6 162 rfl) rfl
theorem q1491 : (Jvm.Cond.privateMethod ({ cls := "LatestCoatModel", name := "isDigit", desc := "()Z" } : Jvm.MethodName)) ∈ lw_tbl := lw_at lw_m6 163 rfl
theorem q1492 : (Jvm.Cond.instanceMethod ({ cls := "LatestCoatModel", name := "isDigit", desc := "()Z" } : Jvm.MethodName)) ∈ lw_all := lw_g (lw_at lw_m6 164 rfl) rfl
theorem q1493 : (Jvm.Cond.code ({ cls := "LatestCoatModel", name := "isDigit", desc := "()Z" } : Jvm.MethodName) prog_17_method_17_code (1 : Nat) (Option.some Jvm.ClassFile.FieldType.boolean)) ∈ lw_all := lw_g (lw_at lw_m6 165 rfl) rfl
theorem q1494 : (Jvm.Cond.constantLong "LatestCoatModel" (209 : Nat) (48 : Int64)) ∈ lw_all := lw_g (lw_at lw_m6 166 rfl) rfl
theorem q1495 : (Jvm.Cond.constantLong "LatestCoatModel" (211 : Nat) (57 : Int64)) ∈ lw_all := lw_g (lw_at lw_m6 167 rfl) rfl
theorem q1496 : (Jvm.Cond.methodLink "LatestCoatModel" (164 : Nat) ({ cls := "LatestCoatModel", name := "in", desc := "(JJJ)Z" } : Jvm.MethodName)) ∈ lw_all := lw_g (lw_at lw_m6 168 rfl) rfl
theorem q1497 : (Jvm.Cond.static ({ cls := "LatestCoatModel", name := "in", desc := "(JJJ)Z" } : Jvm.MethodName)) ∈ lw_all := lw_g (lw_at lw_m6 169 rfl) rfl
theorem q1498 : (Jvm.Cond.code ({ cls := "LatestCoatModel", name := "in", desc := "(JJJ)Z" } : Jvm.MethodName) prog_17_method_3_code (6 : Nat) (Option.some Jvm.ClassFile.FieldType.boolean)) ∈ lw_all := lw_g (lw_at lw_m6 170 rfl) rfl
theorem q1499 : (Jvm.Cond.methodLink "LatestCoatModel" (307 : Nat) ({ cls := "LatestCoatModel", name := "readsThing", desc := "()V" } : Jvm.MethodName)) ∈ lw_all := lw_g (lw_at lw_m6 171 rfl) rfl
theorem q1500 : (Jvm.Cond.privateMethod ({ cls := "LatestCoatModel", name := "readsThing", desc := "()V" } : Jvm.MethodName)) ∈ lw_tbl := lw_at lw_m6 172 rfl
theorem q1501 : (Jvm.Cond.instanceMethod ({ cls := "LatestCoatModel", name := "readsThing", desc := "()V" } : Jvm.MethodName)) ∈ lw_all := lw_g (lw_at lw_m6 173 rfl) rfl
theorem q1502 : (Jvm.Cond.code ({ cls := "LatestCoatModel", name := "readsThing", desc := "()V" } : Jvm.MethodName) prog_17_method_34_code (4 : Nat) (Option.none : Option Jvm.ClassFile.FieldType)) ∈ lw_all := lw_g (lw_at lw_m6 174 rfl) rfl
theorem q1503 : (Jvm.Cond.methodLink "LatestCoatModel" (310 : Nat) ({ cls := "LatestCoatModel", name := "readsCoat", desc := "()V" } : Jvm.MethodName)) ∈ lw_all := lw_g (lw_at lw_m6 175 rfl) rfl
theorem q1504 : (Jvm.Cond.privateMethod ({ cls := "LatestCoatModel", name := "readsCoat", desc := "()V" } : Jvm.MethodName)) ∈ lw_tbl := lw_at lw_m6 176 rfl
theorem q1505 : (Jvm.Cond.instanceMethod ({ cls := "LatestCoatModel", name := "readsCoat", desc := "()V" } : Jvm.MethodName)) ∈ lw_all := lw_g (lw_at lw_m6 177 rfl) rfl
theorem q1506 : (Jvm.Cond.code ({ cls := "LatestCoatModel", name := "readsCoat", desc := "()V" } : Jvm.MethodName) prog_17_method_35_code (4 : Nat) (Option.none : Option Jvm.ClassFile.FieldType)) ∈ lw_all := lw_g (lw_at lw_m6 178 rfl) rfl
theorem q1507 : (Jvm.Cond.methodLink "LatestCoatModel" (329 : Nat) ({ cls := "LatestCoatModel", name := "goesOn", desc := "()Z" } : Jvm.MethodName)) ∈ lw_all := lw_g (lw_at lw_m6 179 rfl) rfl
theorem q1508 : (Jvm.Cond.privateMethod ({ cls := "LatestCoatModel", name := "goesOn", desc := "()Z" } : Jvm.MethodName)) ∈ lw_tbl := lw_at lw_m6 180 rfl
theorem q1509 : (Jvm.Cond.instanceMethod ({ cls := "LatestCoatModel", name := "goesOn", desc := "()Z" } : Jvm.MethodName)) ∈ lw_all := lw_g (lw_at lw_m6 181 rfl) rfl
theorem q1510 : (Jvm.Cond.code ({ cls := "LatestCoatModel", name := "goesOn", desc := "()Z" } : Jvm.MethodName) prog_17_method_40_code (2 : Nat) (Option.some Jvm.ClassFile.FieldType.boolean)) ∈ lw_all := lw_g (lw_at lw_m6 182 rfl) rfl
theorem q1511 : (Jvm.Cond.methodLink "LatestCoatModel" (332 : Nat) ({ cls := "LatestCoatModel", name := "copies", desc := "([I[I)V" } : Jvm.MethodName)) ∈ lw_all := lw_g (lw_at lw_m6 183 rfl) rfl
theorem q1512 : (Jvm.Cond.static ({ cls := "LatestCoatModel", name := "copies", desc := "([I[I)V" } : Jvm.MethodName)) ∈ lw_all := lw_g (lw_at lw_m6 184 rfl) rfl
theorem q1513 : (Jvm.Cond.code ({ cls := "LatestCoatModel", name := "copies", desc := "([I[I)V" } : Jvm.MethodName) prog_17_method_39_code (3 : Nat) (Option.none : Option Jvm.ClassFile.FieldType)) ∈ lw_all := lw_g (lw_at lw_m6 185 rfl) rfl
theorem q1514 : (Jvm.Cond.methodLink "LatestCoatModel" (346 : Nat) ({ cls := "LatestCoatModel", name := "begins", desc := "()V" } : Jvm.MethodName)) ∈ lw_all := lw_g (lw_at lw_m6 186 rfl) rfl
theorem q1515 : (Jvm.Cond.privateMethod ({ cls := "LatestCoatModel", name := "begins", desc := "()V" } : Jvm.MethodName)) ∈ lw_tbl := lw_at lw_m6 187 rfl
theorem q1516 : (Jvm.Cond.instanceMethod ({ cls := "LatestCoatModel", name := "begins", desc := "()V" } : Jvm.MethodName)) ∈ lw_all := lw_g (lw_at lw_m6 188 rfl) rfl
theorem q1517 : (Jvm.Cond.code ({ cls := "LatestCoatModel", name := "begins", desc := "()V" } : Jvm.MethodName) prog_17_method_43_code (2 : Nat) (Option.none : Option Jvm.ClassFile.FieldType)) ∈ lw_all := lw_g (lw_at lw_m6 189 rfl) rfl
theorem q1518 : (Jvm.Cond.methodLink "LatestCoatModel" (336 : Nat) ({ cls := "LatestCoatModel", name := "isBare", desc := "(I)Z" } : Jvm.MethodName)) ∈ lw_all := lw_g (lw_at lw_m6 190 rfl) rfl
theorem q1519 : (Jvm.Cond.privateMethod ({ cls := "LatestCoatModel", name := "isBare", desc := "(I)Z" } : Jvm.MethodName)) ∈ lw_tbl := lw_at lw_m6 191 rfl
theorem q1520 : (Jvm.Cond.instanceMethod ({ cls := "LatestCoatModel", name := "isBare", desc := "(I)Z" } : Jvm.MethodName)) ∈ lw_all := lw_g (lw_at lw_m6 192 rfl) rfl
theorem q1521 : (Jvm.Cond.code ({ cls := "LatestCoatModel", name := "isBare", desc := "(I)Z" } : Jvm.MethodName) prog_17_method_53_code (2 : Nat) (Option.some Jvm.ClassFile.FieldType.boolean)) ∈ lw_all := lw_g (lw_at lw_m6 193 rfl) rfl
theorem q1522 : (Jvm.Cond.methodLink "LatestCoatModel" (382 : Nat) ({ cls := "LatestCoatModel", name := "has", desc := "(II)Z" } : Jvm.MethodName)) ∈ lw_all := lw_g (lw_at lw_m6 194 rfl) rfl
theorem q1523 : (Jvm.Cond.static ({ cls := "LatestCoatModel", name := "has", desc := "(II)Z" } : Jvm.MethodName)) ∈ lw_all := lw_g (lw_at lw_m6 195 rfl) rfl
theorem q1524 : (Jvm.Cond.code ({ cls := "LatestCoatModel", name := "has", desc := "(II)Z" } : Jvm.MethodName) prog_17_method_5_code (2 : Nat) (Option.some Jvm.ClassFile.FieldType.boolean)) ∈ lw_all := lw_g (lw_at lw_m6 196 rfl) rfl
theorem q1525 : (Jvm.Cond.methodLink "LatestCoatModel" (340 : Nat) ({ cls := "LatestCoatModel", name := "barely", desc := "(I)I" } : Jvm.MethodName)) ∈ lw_all := lw_g (lw_at lw_m6 197 rfl) rfl
theorem q1526 : (Jvm.Cond.privateMethod ({ cls := "LatestCoatModel", name := "barely", desc := "(I)I" } : Jvm.MethodName)) ∈ lw_tbl := lw_at lw_m6 198 rfl
theorem q1527 : (Jvm.Cond.instanceMethod ({ cls := "LatestCoatModel", name := "barely", desc := "(I)I" } : Jvm.MethodName)) ∈ lw_all := lw_g (lw_at lw_m6 199 rfl) rfl
theorem q1528 : (Jvm.Cond.code ({ cls := "LatestCoatModel", name := "barely", desc := "(I)I" } : Jvm.MethodName) prog_17_method_54_code (4 : Nat) (Option.some Jvm.ClassFile.FieldType.int)) ∈ lw_all := lw_g (lw_at lw_m6 200 rfl) rfl
theorem q1530 : (Jvm.Cond.instanceMethod ({ cls := "LatestCoatModel", name := "rule", desc := "()I" } : Jvm.MethodName)) ∈ lw_all := lw_g (lw_at lw_m6 202 rfl) rfl
theorem q1531 : (Jvm.Cond.selects "LatestCoatModel" ({ cls := "LatestCoatModel", name := "rule", desc := "()I" } : Jvm.MethodName) ({ cls := "LatestCoatModel", name := "rule", desc := "()I" } : Jvm.MethodName)) ∈ lw_all := lw_g (lw_at lw_m6 203 rfl) rfl
theorem q1532 : (Jvm.Cond.code ({ cls := "LatestCoatModel", name := "rule", desc := "()I" } : Jvm.MethodName) prog_17_method_46_code (3 : Nat) (Option.some Jvm.ClassFile.FieldType.int)) ∈ lw_all := lw_g (lw_at lw_m6 204 rfl) rfl
theorem q1533 : (Jvm.Cond.methodLink "LatestCoatModel" (365 : Nat) ({ cls := "LatestCoatModel", name := "ruleClause", desc := "(I)V" } : Jvm.MethodName)) ∈ lw_all := lw_g (lw_at lw_m6 205 rfl) rfl
theorem q1534 : (Jvm.Cond.privateMethod ({ cls := "LatestCoatModel", name := "ruleClause", desc := "(I)V" } : Jvm.MethodName)) ∈ lw_tbl := lw_at lw_m6 206 rfl
theorem q1535 : (Jvm.Cond.instanceMethod ({ cls := "LatestCoatModel", name := "ruleClause", desc := "(I)V" } : Jvm.MethodName)) ∈ lw_all := lw_g (lw_at lw_m6 207 rfl) rfl
theorem q1536 : (Jvm.Cond.code ({ cls := "LatestCoatModel", name := "ruleClause", desc := "(I)V" } : Jvm.MethodName) prog_17_method_45_code (4 : Nat) (Option.none : Option Jvm.ClassFile.FieldType)) ∈ lw_all := lw_g (lw_at lw_m6 208 rfl) rfl
theorem q1537 : (Jvm.Cond.stringRef "LatestCoatModel" (352 : Nat) "paint") ∈ lw_tbl := lw_at lw_m6 209 rfl
theorem q1538 : (Jvm.Cond.methodLink "LatestCoatModel" (266 : Nat) ({ cls := "LatestCoatModel", name := "sum", desc := "()V" } : Jvm.MethodName)) ∈ lw_all := lw_g (lw_at lw_m6 210 rfl) rfl
theorem q1539 : (Jvm.Cond.privateMethod ({ cls := "LatestCoatModel", name := "sum", desc := "()V" } : Jvm.MethodName)) ∈ lw_tbl := lw_at lw_m6 211 rfl
theorem q1540 : (Jvm.Cond.instanceMethod ({ cls := "LatestCoatModel", name := "sum", desc := "()V" } : Jvm.MethodName)) ∈ lw_all := lw_g (lw_at lw_m6 212 rfl) rfl
theorem q1541 : (Jvm.Cond.code ({ cls := "LatestCoatModel", name := "sum", desc := "()V" } : Jvm.MethodName) prog_17_method_25_code (2 : Nat) (Option.none : Option Jvm.ClassFile.FieldType)) ∈ lw_all := lw_g (lw_at lw_m6 213 rfl) rfl
theorem q1542 : (Jvm.Cond.methodLink "LatestCoatModel" (263 : Nat) ({ cls := "LatestCoatModel", name := "term", desc := "()V" } : Jvm.MethodName)) ∈ lw_all := lw_g (lw_at lw_m6 214 rfl) rfl
theorem q1543 : (Jvm.Cond.privateMethod ({ cls := "LatestCoatModel", name := "term", desc := "()V" } : Jvm.MethodName)) ∈ lw_tbl := lw_at lw_m6 215 rfl
theorem q1544 : (Jvm.Cond.instanceMethod ({ cls := "LatestCoatModel", name := "term", desc := "()V" } : Jvm.MethodName)) ∈ lw_all := lw_g (lw_at lw_m6 216 rfl) rfl
theorem q1545 : (Jvm.Cond.code ({ cls := "LatestCoatModel", name := "term", desc := "()V" } : Jvm.MethodName) prog_17_method_24_code (2 : Nat) (Option.none : Option Jvm.ClassFile.FieldType)) ∈ lw_all := lw_g (lw_at lw_m6 217 rfl) rfl
theorem q1546 : (Jvm.Cond.methodLink "LatestCoatModel" (261 : Nat) ({ cls := "LatestCoatModel", name := "value", desc := "()V" } : Jvm.MethodName)) ∈ lw_all := lw_g (lw_at lw_m6 218 rfl) rfl
theorem q1547 : (Jvm.Cond.privateMethod ({ cls := "LatestCoatModel", name := "value", desc := "()V" } : Jvm.MethodName)) ∈ lw_tbl := lw_at lw_m6 219 rfl
theorem q1548 : (Jvm.Cond.instanceMethod ({ cls := "LatestCoatModel", name := "value", desc := "()V" } : Jvm.MethodName)) ∈ lw_all := lw_g (lw_at lw_m6 220 rfl) rfl
theorem q1549 : (Jvm.Cond.code ({ cls := "LatestCoatModel", name := "value", desc := "()V" } : Jvm.MethodName) prog_17_method_23_code (3 : Nat) (Option.none : Option Jvm.ClassFile.FieldType)) ∈ lw_all := lw_g (lw_at lw_m6 221 rfl) rfl
theorem q1550 : (Jvm.Cond.methodLink "LatestCoatModel" (251 : Nat) ({ cls := "LatestCoatModel", name := "isCounted", desc := "(I)V" } : Jvm.MethodName)) ∈ lw_all := lw_g (lw_at lw_m6 222 rfl) rfl
theorem q1551 : (Jvm.Cond.privateMethod ({ cls := "LatestCoatModel", name := "isCounted", desc := "(I)V" } : Jvm.MethodName)) ∈ lw_tbl := lw_at lw_m6 223 rfl
theorem q1552 : (Jvm.Cond.instanceMethod ({ cls := "LatestCoatModel", name := "isCounted", desc := "(I)V" } : Jvm.MethodName)) ∈ lw_all := lw_g (lw_at lw_m6 224 rfl) rfl
theorem q1553 : (Jvm.Cond.code ({ cls := "LatestCoatModel", name := "isCounted", desc := "(I)V" } : Jvm.MethodName) prog_17_method_21_code (2 : Nat) (Option.none : Option Jvm.ClassFile.FieldType)) ∈ lw_all := lw_g (lw_at lw_m6 225 rfl) rfl
theorem q1554 : (Jvm.Cond.methodLink "LatestCoatModel" (254 : Nat) ({ cls := "LatestCoatModel", name := "entry", desc := "(II)V" } : Jvm.MethodName)) ∈ lw_all := lw_g (lw_at lw_m6 226 rfl) rfl
theorem q1555 : (Jvm.Cond.privateMethod ({ cls := "LatestCoatModel", name := "entry", desc := "(II)V" } : Jvm.MethodName)) ∈ lw_tbl := lw_at lw_m6 227 rfl
theorem q1556 : (Jvm.Cond.instanceMethod ({ cls := "LatestCoatModel", name := "entry", desc := "(II)V" } : Jvm.MethodName)) ∈ lw_all := lw_g (lw_at lw_m6 228 rfl) rfl
theorem q1557 : (Jvm.Cond.code ({ cls := "LatestCoatModel", name := "entry", desc := "(II)V" } : Jvm.MethodName) prog_17_method_20_code (3 : Nat) (Option.none : Option Jvm.ClassFile.FieldType)) ∈ lw_all := lw_g (lw_at lw_m6 229 rfl) rfl
theorem q1558 : (Jvm.Cond.methodLink "LatestCoatModel" (257 : Nat) ({ cls := "LatestCoatModel", name := "wordOf", desc := "(I)Ljava/lang/String;" } : Jvm.MethodName)) ∈ lw_all := lw_g (lw_at lw_m6 230 rfl) rfl
theorem q1559 : (Jvm.Cond.static ({ cls := "LatestCoatModel", name := "wordOf", desc := "(I)Ljava/lang/String;" } : Jvm.MethodName)) ∈ lw_all := lw_g (lw_at lw_m6 231 rfl) rfl
theorem q1560 : (Jvm.Cond.code ({ cls := "LatestCoatModel", name := "wordOf", desc := "(I)Ljava/lang/String;" } : Jvm.MethodName) prog_17_method_13_code (1 : Nat) (Option.some (Jvm.ClassFile.FieldType.object "java/lang/String"))) ∈ lw_all := lw_g (lw_at lw_m6 232 rfl) rfl
theorem q1561 : (Jvm.Cond.stringRef "LatestCoatModel" (177 : Nat) "cell") ∈ lw_tbl := lw_at lw_m6 233 rfl
theorem q1562 : (Jvm.Cond.stringRef "LatestCoatModel" (181 : Nat) "rent") ∈ lw_tbl := lw_at lw_m6 234 rfl
theorem q1563 : (Jvm.Cond.stringRef "LatestCoatModel" (182 : Nat) "top") ∈ lw_tbl := lw_at lw_m6 235 rfl
theorem q1564 : (Jvm.Cond.stringRef "LatestCoatModel" (184 : Nat) "wet") ∈ lw_tbl := lw_at lw_m6 236 rfl
theorem q1565 : (Jvm.Cond.stringRef "LatestCoatModel" (186 : Nat) "whose") ∈ lw_tbl := lw_at lw_m6 237 rfl
theorem q1566 : (Jvm.Cond.stringRef "LatestCoatModel" (188 : Nat) "mine") ∈ lw_tbl := lw_at lw_m6 238 rfl
theorem q1567 : (Jvm.Cond.stringRef "LatestCoatModel" (190 : Nat) "owner") ∈ lw_tbl := lw_at lw_m6 239 rfl
theorem q1568 : (Jvm.Cond.stringRef "LatestCoatModel" (192 : Nat) "coats") ∈ lw_tbl := lw_at lw_m7 0 rfl
theorem q1569 : (Jvm.Cond.stringRef "LatestCoatModel" (194 : Nat) "purse") ∈ lw_tbl := lw_at lw_m7 1 rfl
theorem q1570 : (Jvm.Cond.stringRef "LatestCoatModel" (195 : Nat) "hour") ∈ lw_tbl := lw_at lw_m7 2 rfl
theorem q1571 : (Jvm.Cond.stringRef "LatestCoatModel" (354 : Nat) "if") ∈ lw_tbl := lw_at lw_m7 3 rfl
theorem q1572 : (Jvm.Cond.methodLink "LatestCoatModel" (356 : Nat) ({ cls := "LatestCoatModel", name := "takes", desc := "(Ljava/lang/String;)Z" } : Jvm.MethodName)) ∈ lw_all := lw_g (lw_at lw_m7 4 rfl) rfl
theorem q1573 : (Jvm.Cond.privateMethod ({ cls := "LatestCoatModel", name := "takes", desc := "(Ljava/lang/String;)Z" } : Jvm.MethodName)) ∈ lw_tbl := lw_at lw_m7 5 rfl
theorem q1574 : (Jvm.Cond.instanceMethod ({ cls := "LatestCoatModel", name := "takes", desc := "(Ljava/lang/String;)Z" } : Jvm.MethodName)) ∈ lw_all := lw_g (lw_at lw_m7 6 rfl) rfl
theorem q1575 : (Jvm.Cond.code ({ cls := "LatestCoatModel", name := "takes", desc := "(Ljava/lang/String;)Z" } : Jvm.MethodName) prog_17_method_19_code (3 : Nat) (Option.some Jvm.ClassFile.FieldType.boolean)) ∈ lw_all := lw_g (lw_at lw_m7 7 rfl) rfl
theorem q1576 : (Jvm.Cond.methodLink "LatestCoatModel" (359 : Nat) ({ cls := "LatestCoatModel", name := "test", desc := "()V" } : Jvm.MethodName)) ∈ lw_all := lw_g (lw_at lw_m7 8 rfl) rfl
theorem q1577 : (Jvm.Cond.privateMethod ({ cls := "LatestCoatModel", name := "test", desc := "()V" } : Jvm.MethodName)) ∈ lw_tbl := lw_at lw_m7 9 rfl
theorem q1578 : (Jvm.Cond.instanceMethod ({ cls := "LatestCoatModel", name := "test", desc := "()V" } : Jvm.MethodName)) ∈ lw_all := lw_g (lw_at lw_m7 10 rfl) rfl
theorem q1579 : (Jvm.Cond.code ({ cls := "LatestCoatModel", name := "test", desc := "()V" } : Jvm.MethodName) prog_17_method_31_code (5 : Nat) (Option.none : Option Jvm.ClassFile.FieldType)) ∈ lw_all := lw_g (lw_at lw_m7 11 rfl) rfl
theorem q1580 : (Jvm.Cond.methodLink "LatestCoatModel" (285 : Nat) ({ cls := "LatestCoatModel", name := "fact", desc := "()Z" } : Jvm.MethodName)) ∈ lw_all := lw_g (lw_at lw_m7 12 rfl) rfl
theorem q1581 : (Jvm.Cond.privateMethod ({ cls := "LatestCoatModel", name := "fact", desc := "()Z" } : Jvm.MethodName)) ∈ lw_tbl := lw_at lw_m7 13 rfl
theorem q1582 : (Jvm.Cond.instanceMethod ({ cls := "LatestCoatModel", name := "fact", desc := "()Z" } : Jvm.MethodName)) ∈ lw_all := lw_g (lw_at lw_m7 14 rfl) rfl
theorem q1583 : (Jvm.Cond.code ({ cls := "LatestCoatModel", name := "fact", desc := "()Z" } : Jvm.MethodName) prog_17_method_30_code (1 : Nat) (Option.some Jvm.ClassFile.FieldType.boolean)) ∈ lw_all := lw_g (lw_at lw_m7 15 rfl) rfl
theorem q1584 : (Jvm.Cond.stringRef "LatestCoatModel" (277 : Nat) "not") ∈ lw_tbl := lw_at lw_m7 16 rfl
theorem q1585 : (Jvm.Cond.methodLink "LatestCoatModel" (279 : Nat) ({ cls := "LatestCoatModel", name := "opens", desc := "(I)V" } : Jvm.MethodName)) ∈ lw_all := lw_g (lw_at lw_m7 17 rfl) rfl
theorem q1586 : (Jvm.Cond.privateMethod ({ cls := "LatestCoatModel", name := "opens", desc := "(I)V" } : Jvm.MethodName)) ∈ lw_tbl := lw_at lw_m7 18 rfl
theorem q1587 : (Jvm.Cond.instanceMethod ({ cls := "LatestCoatModel", name := "opens", desc := "(I)V" } : Jvm.MethodName)) ∈ lw_all := lw_g (lw_at lw_m7 19 rfl) rfl
theorem q1588 : (Jvm.Cond.code ({ cls := "LatestCoatModel", name := "opens", desc := "(I)V" } : Jvm.MethodName) prog_17_method_28_code (2 : Nat) (Option.none : Option Jvm.ClassFile.FieldType)) ∈ lw_all := lw_g (lw_at lw_m7 20 rfl) rfl
theorem q1589 : (Jvm.Cond.methodLink "LatestCoatModel" (282 : Nat) ({ cls := "LatestCoatModel", name := "compared", desc := "()V" } : Jvm.MethodName)) ∈ lw_all := lw_g (lw_at lw_m7 21 rfl) rfl
theorem q1590 : (Jvm.Cond.privateMethod ({ cls := "LatestCoatModel", name := "compared", desc := "()V" } : Jvm.MethodName)) ∈ lw_tbl := lw_at lw_m7 22 rfl
theorem q1591 : (Jvm.Cond.instanceMethod ({ cls := "LatestCoatModel", name := "compared", desc := "()V" } : Jvm.MethodName)) ∈ lw_all := lw_g (lw_at lw_m7 23 rfl) rfl
theorem q1592 : (Jvm.Cond.code ({ cls := "LatestCoatModel", name := "compared", desc := "()V" } : Jvm.MethodName) prog_17_method_26_code (3 : Nat) (Option.none : Option Jvm.ClassFile.FieldType)) ∈ lw_all := lw_g (lw_at lw_m7 24 rfl) rfl
theorem q1593 : (Jvm.Cond.methodLink "LatestCoatModel" (288 : Nat) ({ cls := "LatestCoatModel", name := "answers", desc := "(I)V" } : Jvm.MethodName)) ∈ lw_all := lw_g (lw_at lw_m7 25 rfl) rfl
theorem q1594 : (Jvm.Cond.privateMethod ({ cls := "LatestCoatModel", name := "answers", desc := "(I)V" } : Jvm.MethodName)) ∈ lw_tbl := lw_at lw_m7 26 rfl
theorem q1595 : (Jvm.Cond.instanceMethod ({ cls := "LatestCoatModel", name := "answers", desc := "(I)V" } : Jvm.MethodName)) ∈ lw_all := lw_g (lw_at lw_m7 27 rfl) rfl
theorem q1596 : (Jvm.Cond.code ({ cls := "LatestCoatModel", name := "answers", desc := "(I)V" } : Jvm.MethodName) prog_17_method_29_code (2 : Nat) (Option.none : Option Jvm.ClassFile.FieldType)) ∈ lw_all := lw_g (lw_at lw_m7 28 rfl) rfl
theorem q1597 : (Jvm.Cond.methodLink "LatestCoatModel" (275 : Nat) ({ cls := "LatestCoatModel", name := "top", desc := "()I" } : Jvm.MethodName)) ∈ lw_all := lw_g (lw_at lw_m7 29 rfl) rfl
theorem q1598 : (Jvm.Cond.privateMethod ({ cls := "LatestCoatModel", name := "top", desc := "()I" } : Jvm.MethodName)) ∈ lw_tbl := lw_at lw_m7 30 rfl
theorem q1599 : (Jvm.Cond.instanceMethod ({ cls := "LatestCoatModel", name := "top", desc := "()I" } : Jvm.MethodName)) ∈ lw_all := lw_g (lw_at lw_m7 31 rfl) rfl
theorem q1600 : (Jvm.Cond.code ({ cls := "LatestCoatModel", name := "top", desc := "()I" } : Jvm.MethodName) prog_17_method_27_code (1 : Nat) (Option.some Jvm.ClassFile.FieldType.int)) ∈ lw_all := lw_g (lw_at lw_m7 32 rfl) rfl
theorem q1601 : (Jvm.Cond.stringRef "LatestCoatModel" (291 : Nat) "and") ∈ lw_tbl := lw_at lw_m7 33 rfl
theorem q1602 : (Jvm.Cond.stringRef "LatestCoatModel" (293 : Nat) "or") ∈ lw_tbl := lw_at lw_m7 34 rfl
theorem q1604 : (Jvm.Cond.instanceMethod ({ cls := "LatestCoatModel", name := "force", desc := "(I)I" } : Jvm.MethodName)) ∈ lw_all := lw_g (lw_at lw_m7 36 rfl) rfl
theorem q1605 : (Jvm.Cond.selects "LatestCoatModel" ({ cls := "LatestCoatModel", name := "force", desc := "(I)I" } : Jvm.MethodName) ({ cls := "LatestCoatModel", name := "force", desc := "(I)I" } : Jvm.MethodName)) ∈ lw_all := lw_g (lw_at lw_m7 37 rfl) rfl
theorem q1606 : (Jvm.Cond.code ({ cls := "LatestCoatModel", name := "force", desc := "(I)I" } : Jvm.MethodName) prog_17_method_47_code (3 : Nat) (Option.some Jvm.ClassFile.FieldType.int)) ∈ lw_all := lw_g (lw_at lw_m7 38 rfl) rfl
theorem q1607 : (Jvm.Cond.constantLong "LatestCoatModel" (368 : Nat) (-1 : Int64)) ∈ lw_all := lw_g (lw_at lw_m7 39 rfl) rfl
theorem q1609 : (Jvm.Cond.instanceMethod ({ cls := "LatestCoatModel", name := "cell", desc := "(II)I" } : Jvm.MethodName)) ∈ lw_all := lw_g (lw_at lw_m7 41 rfl) rfl
theorem q1610 : (Jvm.Cond.selects "LatestCoatModel" ({ cls := "LatestCoatModel", name := "cell", desc := "(II)I" } : Jvm.MethodName) ({ cls := "LatestCoatModel", name := "cell", desc := "(II)I" } : Jvm.MethodName)) ∈ lw_all := lw_g (lw_at lw_m7 42 rfl) rfl
theorem q1611 : (Jvm.Cond.code ({ cls := "LatestCoatModel", name := "cell", desc := "(II)I" } : Jvm.MethodName) prog_17_method_65_code (3 : Nat) (Option.some Jvm.ClassFile.FieldType.int)) ∈ lw_all := lw_g (lw_at lw_m7 43 rfl) rfl
theorem q1612 : (Jvm.Cond.methodLink "LatestCoatModel" (405 : Nat) ({ cls := "LatestCoatModel", name := "isCell", desc := "(I)Z" } : Jvm.MethodName)) ∈ lw_all := lw_g (lw_at lw_m7 44 rfl) rfl
theorem q1613 : (Jvm.Cond.privateMethod ({ cls := "LatestCoatModel", name := "isCell", desc := "(I)Z" } : Jvm.MethodName)) ∈ lw_tbl := lw_at lw_m7 45 rfl
theorem q1614 : (Jvm.Cond.instanceMethod ({ cls := "LatestCoatModel", name := "isCell", desc := "(I)Z" } : Jvm.MethodName)) ∈ lw_all := lw_g (lw_at lw_m7 46 rfl) rfl
theorem q1615 : (Jvm.Cond.code ({ cls := "LatestCoatModel", name := "isCell", desc := "(I)Z" } : Jvm.MethodName) prog_17_method_8_code (2 : Nat) (Option.some Jvm.ClassFile.FieldType.boolean)) ∈ lw_all := lw_g (lw_at lw_m7 47 rfl) rfl
theorem q1616 : (Jvm.Cond.methodLink "LatestCoatModel" (408 : Nat) ({ cls := "LatestCoatModel", name := "thingOf", desc := "(I)I" } : Jvm.MethodName)) ∈ lw_all := lw_g (lw_at lw_m7 48 rfl) rfl
theorem q1617 : (Jvm.Cond.privateMethod ({ cls := "LatestCoatModel", name := "thingOf", desc := "(I)I" } : Jvm.MethodName)) ∈ lw_tbl := lw_at lw_m7 49 rfl
theorem q1618 : (Jvm.Cond.instanceMethod ({ cls := "LatestCoatModel", name := "thingOf", desc := "(I)I" } : Jvm.MethodName)) ∈ lw_all := lw_g (lw_at lw_m7 50 rfl) rfl
theorem q1619 : (Jvm.Cond.code ({ cls := "LatestCoatModel", name := "thingOf", desc := "(I)I" } : Jvm.MethodName) prog_17_method_52_code (3 : Nat) (Option.some Jvm.ClassFile.FieldType.int)) ∈ lw_all := lw_g (lw_at lw_m7 51 rfl) rfl
theorem q1620 : (Jvm.Cond.methodLink "LatestCoatModel" (402 : Nat) ({ cls := "LatestCoatModel", name := "ownerOf", desc := "(I)I" } : Jvm.MethodName)) ∈ lw_all := lw_g (lw_at lw_m7 52 rfl) rfl
theorem q1621 : (Jvm.Cond.privateMethod ({ cls := "LatestCoatModel", name := "ownerOf", desc := "(I)I" } : Jvm.MethodName)) ∈ lw_tbl := lw_at lw_m7 53 rfl
theorem q1622 : (Jvm.Cond.instanceMethod ({ cls := "LatestCoatModel", name := "ownerOf", desc := "(I)I" } : Jvm.MethodName)) ∈ lw_all := lw_g (lw_at lw_m7 54 rfl) rfl
theorem q1623 : (Jvm.Cond.code ({ cls := "LatestCoatModel", name := "ownerOf", desc := "(I)I" } : Jvm.MethodName) prog_17_method_59_code (2 : Nat) (Option.some Jvm.ClassFile.FieldType.int)) ∈ lw_all := lw_g (lw_at lw_m7 55 rfl) rfl
theorem q1624 : (Jvm.Cond.methodLink "LatestCoatModel" (388 : Nat) ({ cls := "LatestCoatModel", name := "ownerBy", desc := "(III)I" } : Jvm.MethodName)) ∈ lw_all := lw_g (lw_at lw_m7 56 rfl) rfl
theorem q1625 : (Jvm.Cond.privateMethod ({ cls := "LatestCoatModel", name := "ownerBy", desc := "(III)I" } : Jvm.MethodName)) ∈ lw_tbl := lw_at lw_m7 57 rfl
theorem q1626 : (Jvm.Cond.instanceMethod ({ cls := "LatestCoatModel", name := "ownerBy", desc := "(III)I" } : Jvm.MethodName)) ∈ lw_all := lw_g (lw_at lw_m7 58 rfl) rfl
theorem q1627 : (Jvm.Cond.code ({ cls := "LatestCoatModel", name := "ownerBy", desc := "(III)I" } : Jvm.MethodName) prog_17_method_58_code (5 : Nat) (Option.some Jvm.ClassFile.FieldType.int)) ∈ lw_all := lw_g (lw_at lw_m7 59 rfl) rfl
theorem q1628 : (Jvm.Cond.methodLink "LatestCoatModel" (385 : Nat) ({ cls := "LatestCoatModel", name := "isWetAt", desc := "(II)Z" } : Jvm.MethodName)) ∈ lw_all := lw_g (lw_at lw_m7 60 rfl) rfl
theorem q1629 : (Jvm.Cond.privateMethod ({ cls := "LatestCoatModel", name := "isWetAt", desc := "(II)Z" } : Jvm.MethodName)) ∈ lw_tbl := lw_at lw_m7 61 rfl
theorem q1630 : (Jvm.Cond.instanceMethod ({ cls := "LatestCoatModel", name := "isWetAt", desc := "(II)Z" } : Jvm.MethodName)) ∈ lw_all := lw_g (lw_at lw_m7 62 rfl) rfl
theorem q1631 : (Jvm.Cond.code ({ cls := "LatestCoatModel", name := "isWetAt", desc := "(II)Z" } : Jvm.MethodName) prog_17_method_55_code (3 : Nat) (Option.some Jvm.ClassFile.FieldType.boolean)) ∈ lw_all := lw_g (lw_at lw_m7 63 rfl) rfl
theorem q1632 : (Jvm.Cond.methodLink "LatestCoatModel" (411 : Nat) ({ cls := "LatestCoatModel", name := "topOf", desc := "(I)I" } : Jvm.MethodName)) ∈ lw_all := lw_g (lw_at lw_m7 64 rfl) rfl
theorem q1633 : (Jvm.Cond.privateMethod ({ cls := "LatestCoatModel", name := "topOf", desc := "(I)I" } : Jvm.MethodName)) ∈ lw_tbl := lw_at lw_m7 65 rfl
theorem q1634 : (Jvm.Cond.instanceMethod ({ cls := "LatestCoatModel", name := "topOf", desc := "(I)I" } : Jvm.MethodName)) ∈ lw_all := lw_g (lw_at lw_m7 66 rfl) rfl
theorem q1635 : (Jvm.Cond.code ({ cls := "LatestCoatModel", name := "topOf", desc := "(I)I" } : Jvm.MethodName) prog_17_method_57_code (2 : Nat) (Option.some Jvm.ClassFile.FieldType.int)) ∈ lw_all := lw_g (lw_at lw_m7 67 rfl) rfl
theorem q1636 : (Jvm.Cond.methodLink "LatestCoatModel" (414 : Nat) ({ cls := "LatestCoatModel", name := "isTopWet", desc := "(I)Z" } : Jvm.MethodName)) ∈ lw_all := lw_g (lw_at lw_m7 68 rfl) rfl
theorem q1637 : (Jvm.Cond.privateMethod ({ cls := "LatestCoatModel", name := "isTopWet", desc := "(I)Z" } : Jvm.MethodName)) ∈ lw_tbl := lw_at lw_m7 69 rfl
theorem q1638 : (Jvm.Cond.instanceMethod ({ cls := "LatestCoatModel", name := "isTopWet", desc := "(I)Z" } : Jvm.MethodName)) ∈ lw_all := lw_g (lw_at lw_m7 70 rfl) rfl
theorem q1639 : (Jvm.Cond.code ({ cls := "LatestCoatModel", name := "isTopWet", desc := "(I)Z" } : Jvm.MethodName) prog_17_method_56_code (2 : Nat) (Option.some Jvm.ClassFile.FieldType.boolean)) ∈ lw_all := lw_g (lw_at lw_m7 71 rfl) rfl
theorem q1641 : (Jvm.Cond.instanceMethod ({ cls := "LatestCoatModel", name := "coat", desc := "(III)I" } : Jvm.MethodName)) ∈ lw_all := lw_g (lw_at lw_m7 73 rfl) rfl
theorem q1642 : (Jvm.Cond.selects "LatestCoatModel" ({ cls := "LatestCoatModel", name := "coat", desc := "(III)I" } : Jvm.MethodName) ({ cls := "LatestCoatModel", name := "coat", desc := "(III)I" } : Jvm.MethodName)) ∈ lw_all := lw_g (lw_at lw_m7 74 rfl) rfl
theorem q1643 : (Jvm.Cond.code ({ cls := "LatestCoatModel", name := "coat", desc := "(III)I" } : Jvm.MethodName) prog_17_method_66_code (5 : Nat) (Option.some Jvm.ClassFile.FieldType.int)) ∈ lw_all := lw_g (lw_at lw_m7 75 rfl) rfl
theorem q1645 : (Jvm.Cond.instanceMethod ({ cls := "LatestCoatModel", name := "thing", desc := "(II)I" } : Jvm.MethodName)) ∈ lw_all := lw_g (lw_at lw_m7 77 rfl) rfl
theorem q1646 : (Jvm.Cond.selects "LatestCoatModel" ({ cls := "LatestCoatModel", name := "thing", desc := "(II)I" } : Jvm.MethodName) ({ cls := "LatestCoatModel", name := "thing", desc := "(II)I" } : Jvm.MethodName)) ∈ lw_all := lw_g (lw_at lw_m7 78 rfl) rfl
theorem q1647 : (Jvm.Cond.code ({ cls := "LatestCoatModel", name := "thing", desc := "(II)I" } : Jvm.MethodName) prog_17_method_67_code (3 : Nat) (Option.some Jvm.ClassFile.FieldType.int)) ∈ lw_all := lw_g (lw_at lw_m7 79 rfl) rfl
theorem q1648 : (Jvm.Cond.methodLink "LatestCoatModel" (417 : Nat) ({ cls := "LatestCoatModel", name := "isThing", desc := "(I)Z" } : Jvm.MethodName)) ∈ lw_all := lw_g (lw_at lw_m7 80 rfl) rfl
theorem q1649 : (Jvm.Cond.privateMethod ({ cls := "LatestCoatModel", name := "isThing", desc := "(I)Z" } : Jvm.MethodName)) ∈ lw_tbl := lw_at lw_m7 81 rfl
theorem q1650 : (Jvm.Cond.instanceMethod ({ cls := "LatestCoatModel", name := "isThing", desc := "(I)Z" } : Jvm.MethodName)) ∈ lw_all := lw_g (lw_at lw_m7 82 rfl) rfl
theorem q1651 : (Jvm.Cond.code ({ cls := "LatestCoatModel", name := "isThing", desc := "(I)Z" } : Jvm.MethodName) prog_17_method_7_code (2 : Nat) (Option.some Jvm.ClassFile.FieldType.boolean)) ∈ lw_all := lw_g (lw_at lw_m7 83 rfl) rfl
theorem q1652 : (Jvm.Cond.methodLink "LatestCoatModel" (396 : Nat) ({ cls := "LatestCoatModel", name := "cellsIn", desc := "(I)I" } : Jvm.MethodName)) ∈ lw_all := lw_g (lw_at lw_m7 84 rfl) rfl
theorem q1653 : (Jvm.Cond.privateMethod ({ cls := "LatestCoatModel", name := "cellsIn", desc := "(I)I" } : Jvm.MethodName)) ∈ lw_tbl := lw_at lw_m7 85 rfl
theorem q1654 : (Jvm.Cond.instanceMethod ({ cls := "LatestCoatModel", name := "cellsIn", desc := "(I)I" } : Jvm.MethodName)) ∈ lw_all := lw_g (lw_at lw_m7 86 rfl) rfl
theorem q1655 : (Jvm.Cond.code ({ cls := "LatestCoatModel", name := "cellsIn", desc := "(I)I" } : Jvm.MethodName) prog_17_method_62_code (2 : Nat) (Option.some Jvm.ClassFile.FieldType.int)) ∈ lw_all := lw_g (lw_at lw_m7 87 rfl) rfl
theorem q1656 : (Jvm.Cond.methodLink "LatestCoatModel" (420 : Nat) ({ cls := "LatestCoatModel", name := "thingOwner", desc := "(I)I" } : Jvm.MethodName)) ∈ lw_all := lw_g (lw_at lw_m7 88 rfl) rfl
theorem q1657 : (Jvm.Cond.privateMethod ({ cls := "LatestCoatModel", name := "thingOwner", desc := "(I)I" } : Jvm.MethodName)) ∈ lw_tbl := lw_at lw_m7 89 rfl
theorem q1658 : (Jvm.Cond.instanceMethod ({ cls := "LatestCoatModel", name := "thingOwner", desc := "(I)I" } : Jvm.MethodName)) ∈ lw_all := lw_g (lw_at lw_m7 90 rfl) rfl
theorem q1659 : (Jvm.Cond.code ({ cls := "LatestCoatModel", name := "thingOwner", desc := "(I)I" } : Jvm.MethodName) prog_17_method_63_code (2 : Nat) (Option.some Jvm.ClassFile.FieldType.int)) ∈ lw_all := lw_g (lw_at lw_m7 91 rfl) rfl
theorem q1660 : (Jvm.Cond.methodLink "LatestCoatModel" (392 : Nat) ({ cls := "LatestCoatModel", name := "countsCells", desc := "(IIZ)V" } : Jvm.MethodName)) ∈ lw_all := lw_g (lw_at lw_m7 92 rfl) rfl
theorem q1661 : (Jvm.Cond.privateMethod ({ cls := "LatestCoatModel", name := "countsCells", desc := "(IIZ)V" } : Jvm.MethodName)) ∈ lw_tbl := lw_at lw_m7 93 rfl
theorem q1662 : (Jvm.Cond.instanceMethod ({ cls := "LatestCoatModel", name := "countsCells", desc := "(IIZ)V" } : Jvm.MethodName)) ∈ lw_all := lw_g (lw_at lw_m7 94 rfl) rfl
theorem q1663 : (Jvm.Cond.code ({ cls := "LatestCoatModel", name := "countsCells", desc := "(IIZ)V" } : Jvm.MethodName) prog_17_method_61_code (7 : Nat) (Option.none : Option Jvm.ClassFile.FieldType)) ∈ lw_all := lw_g (lw_at lw_m7 95 rfl) rfl
theorem q1664 : (Jvm.Cond.methodLink "LatestCoatModel" (399 : Nat) ({ cls := "LatestCoatModel", name := "ownerByCells", desc := "(II)I" } : Jvm.MethodName)) ∈ lw_all := lw_g (lw_at lw_m7 96 rfl) rfl
theorem q1665 : (Jvm.Cond.privateMethod ({ cls := "LatestCoatModel", name := "ownerByCells", desc := "(II)I" } : Jvm.MethodName)) ∈ lw_tbl := lw_at lw_m7 97 rfl
theorem q1666 : (Jvm.Cond.instanceMethod ({ cls := "LatestCoatModel", name := "ownerByCells", desc := "(II)I" } : Jvm.MethodName)) ∈ lw_all := lw_g (lw_at lw_m7 98 rfl) rfl
theorem q1667 : (Jvm.Cond.code ({ cls := "LatestCoatModel", name := "ownerByCells", desc := "(II)I" } : Jvm.MethodName) prog_17_method_60_code (6 : Nat) (Option.some Jvm.ClassFile.FieldType.int)) ∈ lw_all := lw_g (lw_at lw_m7 99 rfl) rfl
theorem q1669 : (Jvm.Cond.instanceMethod ({ cls := "LatestCoatModel", name := "painter", desc := "(II)I" } : Jvm.MethodName)) ∈ lw_all := lw_g (lw_at lw_m7 101 rfl) rfl
theorem q1670 : (Jvm.Cond.selects "LatestCoatModel" ({ cls := "LatestCoatModel", name := "painter", desc := "(II)I" } : Jvm.MethodName) ({ cls := "LatestCoatModel", name := "painter", desc := "(II)I" } : Jvm.MethodName)) ∈ lw_all := lw_g (lw_at lw_m7 102 rfl) rfl
theorem q1671 : (Jvm.Cond.code ({ cls := "LatestCoatModel", name := "painter", desc := "(II)I" } : Jvm.MethodName) prog_17_method_68_code (5 : Nat) (Option.some Jvm.ClassFile.FieldType.int)) ∈ lw_all := lw_g (lw_at lw_m7 103 rfl) rfl
theorem q1672 : (Jvm.Cond.methodLink "LatestCoatModel" (423 : Nat) ({ cls := "LatestCoatModel", name := "isPainter", desc := "(I)Z" } : Jvm.MethodName)) ∈ lw_all := lw_g (lw_at lw_m7 104 rfl) rfl
theorem q1673 : (Jvm.Cond.privateMethod ({ cls := "LatestCoatModel", name := "isPainter", desc := "(I)Z" } : Jvm.MethodName)) ∈ lw_tbl := lw_at lw_m7 105 rfl
theorem q1674 : (Jvm.Cond.instanceMethod ({ cls := "LatestCoatModel", name := "isPainter", desc := "(I)Z" } : Jvm.MethodName)) ∈ lw_all := lw_g (lw_at lw_m7 106 rfl) rfl
theorem q1675 : (Jvm.Cond.code ({ cls := "LatestCoatModel", name := "isPainter", desc := "(I)Z" } : Jvm.MethodName) prog_17_method_9_code (2 : Nat) (Option.some Jvm.ClassFile.FieldType.boolean)) ∈ lw_all := lw_g (lw_at lw_m7 107 rfl) rfl
theorem q1676 : (Jvm.Cond.methodLink "LatestCoatModel" (426 : Nat) ({ cls := "LatestCoatModel", name := "cellsOwned", desc := "(I)I" } : Jvm.MethodName)) ∈ lw_all := lw_g (lw_at lw_m7 108 rfl) rfl
theorem q1677 : (Jvm.Cond.privateMethod ({ cls := "LatestCoatModel", name := "cellsOwned", desc := "(I)I" } : Jvm.MethodName)) ∈ lw_tbl := lw_at lw_m7 109 rfl
theorem q1678 : (Jvm.Cond.instanceMethod ({ cls := "LatestCoatModel", name := "cellsOwned", desc := "(I)I" } : Jvm.MethodName)) ∈ lw_all := lw_g (lw_at lw_m7 110 rfl) rfl
theorem q1679 : (Jvm.Cond.code ({ cls := "LatestCoatModel", name := "cellsOwned", desc := "(I)I" } : Jvm.MethodName) prog_17_method_64_code (4 : Nat) (Option.some Jvm.ClassFile.FieldType.int)) ∈ lw_all := lw_g (lw_at lw_m7 111 rfl) rfl
theorem q1681 : (Jvm.Cond.instanceMethod ({ cls := "LatestCoatModel", name := "rain", desc := "(I)I" } : Jvm.MethodName)) ∈ lw_all := lw_g (lw_at lw_m7 113 rfl) rfl
theorem q1682 : (Jvm.Cond.selects "LatestCoatModel" ({ cls := "LatestCoatModel", name := "rain", desc := "(I)I" } : Jvm.MethodName) ({ cls := "LatestCoatModel", name := "rain", desc := "(I)I" } : Jvm.MethodName)) ∈ lw_all := lw_g (lw_at lw_m7 114 rfl) rfl
theorem q1683 : (Jvm.Cond.code ({ cls := "LatestCoatModel", name := "rain", desc := "(I)I" } : Jvm.MethodName) prog_17_method_70_code (2 : Nat) (Option.some Jvm.ClassFile.FieldType.int)) ∈ lw_all := lw_g (lw_at lw_m7 115 rfl) rfl
theorem q1684 : (Jvm.Cond.methodLink "LatestCoatModel" (429 : Nat) ({ cls := "LatestCoatModel", name := "isStreet", desc := "()Z" } : Jvm.MethodName)) ∈ lw_all := lw_g (lw_at lw_m7 116 rfl) rfl
theorem q1685 : (Jvm.Cond.privateMethod ({ cls := "LatestCoatModel", name := "isStreet", desc := "()Z" } : Jvm.MethodName)) ∈ lw_tbl := lw_at lw_m7 117 rfl
theorem q1686 : (Jvm.Cond.instanceMethod ({ cls := "LatestCoatModel", name := "isStreet", desc := "()Z" } : Jvm.MethodName)) ∈ lw_all := lw_g (lw_at lw_m7 118 rfl) rfl
theorem q1687 : (Jvm.Cond.code ({ cls := "LatestCoatModel", name := "isStreet", desc := "()Z" } : Jvm.MethodName) prog_17_method_6_code (1 : Nat) (Option.some Jvm.ClassFile.FieldType.boolean)) ∈ lw_all := lw_g (lw_at lw_m7 119 rfl) rfl
theorem q1688 : (Jvm.Cond.methodLink "LatestCoatModel" (432 : Nat) ({ cls := "LatestCoatModel", name := "rains", desc := "(I)Z" } : Jvm.MethodName)) ∈ lw_all := lw_g (lw_at lw_m7 120 rfl) rfl
theorem q1689 : (Jvm.Cond.privateMethod ({ cls := "LatestCoatModel", name := "rains", desc := "(I)Z" } : Jvm.MethodName)) ∈ lw_tbl := lw_at lw_m7 121 rfl
theorem q1690 : (Jvm.Cond.instanceMethod ({ cls := "LatestCoatModel", name := "rains", desc := "(I)Z" } : Jvm.MethodName)) ∈ lw_all := lw_g (lw_at lw_m7 122 rfl) rfl
theorem q1691 : (Jvm.Cond.code ({ cls := "LatestCoatModel", name := "rains", desc := "(I)Z" } : Jvm.MethodName) prog_17_method_69_code (3 : Nat) (Option.some Jvm.ClassFile.FieldType.boolean)) ∈ lw_all := lw_g (lw_at lw_m7 123 rfl) rfl
theorem q1693 : (Jvm.Cond.instanceMethod ({ cls := "LatestCoatModel", name := "undo", desc := "()I" } : Jvm.MethodName)) ∈ lw_all := lw_g (lw_at lw_m7 125 rfl) rfl
theorem q1694 : (Jvm.Cond.selects "LatestCoatModel" ({ cls := "LatestCoatModel", name := "undo", desc := "()I" } : Jvm.MethodName) ({ cls := "LatestCoatModel", name := "undo", desc := "()I" } : Jvm.MethodName)) ∈ lw_all := lw_g (lw_at lw_m7 126 rfl) rfl
theorem q1695 : (Jvm.Cond.code ({ cls := "LatestCoatModel", name := "undo", desc := "()I" } : Jvm.MethodName) prog_17_method_83_code (1 : Nat) (Option.some Jvm.ClassFile.FieldType.int)) ∈ lw_all := lw_g (lw_at lw_m7 127 rfl) rfl
theorem q1696 : (Jvm.Cond.methodLink "LatestCoatModel" (474 : Nat) ({ cls := "LatestCoatModel", name := "movesAll", desc := "(IZ)V" } : Jvm.MethodName)) ∈ lw_all := lw_g (lw_at lw_m7 128 rfl) rfl
theorem q1697 : (Jvm.Cond.privateMethod ({ cls := "LatestCoatModel", name := "movesAll", desc := "(IZ)V" } : Jvm.MethodName)) ∈ lw_tbl := lw_at lw_m7 129 rfl
theorem q1698 : (Jvm.Cond.instanceMethod ({ cls := "LatestCoatModel", name := "movesAll", desc := "(IZ)V" } : Jvm.MethodName)) ∈ lw_all := lw_g (lw_at lw_m7 130 rfl) rfl
theorem q1699 : (Jvm.Cond.code ({ cls := "LatestCoatModel", name := "movesAll", desc := "(IZ)V" } : Jvm.MethodName) prog_17_method_81_code (3 : Nat) (Option.none : Option Jvm.ClassFile.FieldType)) ∈ lw_all := lw_g (lw_at lw_m7 131 rfl) rfl
theorem q1700 : (Jvm.Cond.methodLink "LatestCoatModel" (467 : Nat) ({ cls := "LatestCoatModel", name := "moves", desc := "(I)I" } : Jvm.MethodName)) ∈ lw_all := lw_g (lw_at lw_m7 132 rfl) rfl
theorem q1701 : (Jvm.Cond.privateMethod ({ cls := "LatestCoatModel", name := "moves", desc := "(I)I" } : Jvm.MethodName)) ∈ lw_tbl := lw_at lw_m7 133 rfl
theorem q1702 : (Jvm.Cond.instanceMethod ({ cls := "LatestCoatModel", name := "moves", desc := "(I)I" } : Jvm.MethodName)) ∈ lw_all := lw_g (lw_at lw_m7 134 rfl) rfl
theorem q1703 : (Jvm.Cond.code ({ cls := "LatestCoatModel", name := "moves", desc := "(I)I" } : Jvm.MethodName) prog_17_method_79_code (3 : Nat) (Option.some Jvm.ClassFile.FieldType.int)) ∈ lw_all := lw_g (lw_at lw_m7 135 rfl) rfl
theorem q1704 : (Jvm.Cond.methodLink "LatestCoatModel" (470 : Nat) ({ cls := "LatestCoatModel", name := "movesRow", desc := "([I)V" } : Jvm.MethodName)) ∈ lw_all := lw_g (lw_at lw_m7 136 rfl) rfl
theorem q1705 : (Jvm.Cond.privateMethod ({ cls := "LatestCoatModel", name := "movesRow", desc := "([I)V" } : Jvm.MethodName)) ∈ lw_tbl := lw_at lw_m7 137 rfl
theorem q1706 : (Jvm.Cond.instanceMethod ({ cls := "LatestCoatModel", name := "movesRow", desc := "([I)V" } : Jvm.MethodName)) ∈ lw_all := lw_g (lw_at lw_m7 138 rfl) rfl
theorem q1707 : (Jvm.Cond.code ({ cls := "LatestCoatModel", name := "movesRow", desc := "([I)V" } : Jvm.MethodName) prog_17_method_80_code (3 : Nat) (Option.none : Option Jvm.ClassFile.FieldType)) ∈ lw_all := lw_g (lw_at lw_m7 139 rfl) rfl
theorem q1709 : (Jvm.Cond.instanceMethod ({ cls := "LatestCoatModel", name := "hour", desc := "()I" } : Jvm.MethodName)) ∈ lw_all := lw_g (lw_at lw_m7 141 rfl) rfl
theorem q1710 : (Jvm.Cond.selects "LatestCoatModel" ({ cls := "LatestCoatModel", name := "hour", desc := "()I" } : Jvm.MethodName) ({ cls := "LatestCoatModel", name := "hour", desc := "()I" } : Jvm.MethodName)) ∈ lw_all := lw_g (lw_at lw_m7 142 rfl) rfl
theorem q1711 : (Jvm.Cond.code ({ cls := "LatestCoatModel", name := "hour", desc := "()I" } : Jvm.MethodName) prog_17_method_84_code (2 : Nat) (Option.some Jvm.ClassFile.FieldType.int)) ∈ lw_all := lw_g (lw_at lw_m7 143 rfl) rfl
theorem q1712 : (Jvm.Cond.methodLink "LatestCoatModel" (478 : Nat) ({ cls := "LatestCoatModel", name := "keepsAct", desc := "()V" } : Jvm.MethodName)) ∈ lw_all := lw_g (lw_at lw_m7 144 rfl) rfl
theorem q1713 : (Jvm.Cond.privateMethod ({ cls := "LatestCoatModel", name := "keepsAct", desc := "()V" } : Jvm.MethodName)) ∈ lw_tbl := lw_at lw_m7 145 rfl
theorem q1714 : (Jvm.Cond.instanceMethod ({ cls := "LatestCoatModel", name := "keepsAct", desc := "()V" } : Jvm.MethodName)) ∈ lw_all := lw_g (lw_at lw_m7 146 rfl) rfl
theorem q1715 : (Jvm.Cond.code ({ cls := "LatestCoatModel", name := "keepsAct", desc := "()V" } : Jvm.MethodName) prog_17_method_82_code (2 : Nat) (Option.none : Option Jvm.ClassFile.FieldType)) ∈ lw_all := lw_g (lw_at lw_m7 147 rfl) rfl
theorem q1716 : (Jvm.Cond.methodLink "LatestCoatModel" (454 : Nat) ({ cls := "LatestCoatModel", name := "paintsAll", desc := "()I" } : Jvm.MethodName)) ∈ lw_all := lw_g (lw_at lw_m7 148 rfl) rfl
theorem q1717 : (Jvm.Cond.privateMethod ({ cls := "LatestCoatModel", name := "paintsAll", desc := "()I" } : Jvm.MethodName)) ∈ lw_tbl := lw_at lw_m7 149 rfl
theorem q1718 : (Jvm.Cond.instanceMethod ({ cls := "LatestCoatModel", name := "paintsAll", desc := "()I" } : Jvm.MethodName)) ∈ lw_all := lw_g (lw_at lw_m7 150 rfl) rfl
theorem q1719 : (Jvm.Cond.code ({ cls := "LatestCoatModel", name := "paintsAll", desc := "()I" } : Jvm.MethodName) prog_17_method_75_code (4 : Nat) (Option.some Jvm.ClassFile.FieldType.int)) ∈ lw_all := lw_g (lw_at lw_m7 151 rfl) rfl
theorem q1720 : (Jvm.Cond.methodLink "LatestCoatModel" (445 : Nat) ({ cls := "LatestCoatModel", name := "cellBy", desc := "(I)I" } : Jvm.MethodName)) ∈ lw_all := lw_g (lw_at lw_m7 152 rfl) rfl
theorem q1721 : (Jvm.Cond.privateMethod ({ cls := "LatestCoatModel", name := "cellBy", desc := "(I)I" } : Jvm.MethodName)) ∈ lw_tbl := lw_at lw_m7 153 rfl
theorem q1722 : (Jvm.Cond.instanceMethod ({ cls := "LatestCoatModel", name := "cellBy", desc := "(I)I" } : Jvm.MethodName)) ∈ lw_all := lw_g (lw_at lw_m7 154 rfl) rfl
theorem q1723 : (Jvm.Cond.code ({ cls := "LatestCoatModel", name := "cellBy", desc := "(I)I" } : Jvm.MethodName) prog_17_method_74_code (8 : Nat) (Option.some Jvm.ClassFile.FieldType.int)) ∈ lw_all := lw_g (lw_at lw_m7 155 rfl) rfl
theorem q1724 : (Jvm.Cond.methodLink "LatestCoatModel" (435 : Nat) ({ cls := "LatestCoatModel", name := "canPaint", desc := "(II)Z" } : Jvm.MethodName)) ∈ lw_all := lw_g (lw_at lw_m7 156 rfl) rfl
theorem q1725 : (Jvm.Cond.privateMethod ({ cls := "LatestCoatModel", name := "canPaint", desc := "(II)Z" } : Jvm.MethodName)) ∈ lw_tbl := lw_at lw_m7 157 rfl
theorem q1726 : (Jvm.Cond.instanceMethod ({ cls := "LatestCoatModel", name := "canPaint", desc := "(II)Z" } : Jvm.MethodName)) ∈ lw_all := lw_g (lw_at lw_m7 158 rfl) rfl
theorem q1727 : (Jvm.Cond.code ({ cls := "LatestCoatModel", name := "canPaint", desc := "(II)Z" } : Jvm.MethodName) prog_17_method_72_code (3 : Nat) (Option.some Jvm.ClassFile.FieldType.boolean)) ∈ lw_all := lw_g (lw_at lw_m7 159 rfl) rfl
theorem q1728 : (Jvm.Cond.methodLink "LatestCoatModel" (438 : Nat) ({ cls := "LatestCoatModel", name := "asks", desc := "(II)V" } : Jvm.MethodName)) ∈ lw_all := lw_g (lw_at lw_m7 160 rfl) rfl
theorem q1729 : (Jvm.Cond.privateMethod ({ cls := "LatestCoatModel", name := "asks", desc := "(II)V" } : Jvm.MethodName)) ∈ lw_tbl := lw_at lw_m7 161 rfl
theorem q1730 : (Jvm.Cond.instanceMethod ({ cls := "LatestCoatModel", name := "asks", desc := "(II)V" } : Jvm.MethodName)) ∈ lw_all := lw_g (lw_at lw_m7 162 rfl) rfl
theorem q1731 : (Jvm.Cond.code ({ cls := "LatestCoatModel", name := "asks", desc := "(II)V" } : Jvm.MethodName) prog_17_method_73_code (4 : Nat) (Option.none : Option Jvm.ClassFile.FieldType)) ∈ lw_all := lw_g (lw_at lw_m7 163 rfl) rfl
theorem q1732 : (Jvm.Cond.methodLink "LatestCoatModel" (441 : Nat) ({ cls := "LatestCoatModel", name := "wanted", desc := "()J" } : Jvm.MethodName)) ∈ lw_all := lw_g (lw_at lw_m7 164 rfl) rfl
theorem q1733 : (Jvm.Cond.privateMethod ({ cls := "LatestCoatModel", name := "wanted", desc := "()J" } : Jvm.MethodName)) ∈ lw_tbl := lw_at lw_m7 165 rfl
theorem q1734 : (Jvm.Cond.instanceMethod ({ cls := "LatestCoatModel", name := "wanted", desc := "()J" } : Jvm.MethodName)) ∈ lw_all := lw_g (lw_at lw_m7 166 rfl) rfl
theorem q1735 : (Jvm.Cond.code ({ cls := "LatestCoatModel", name := "wanted", desc := "()J" } : Jvm.MethodName) prog_17_method_48_code (3 : Nat) (Option.some Jvm.ClassFile.FieldType.long)) ∈ lw_all := lw_g (lw_at lw_m7 167 rfl) rfl
theorem q1736 : (Jvm.Cond.methodLink "LatestCoatModel" (370 : Nat) ({ cls := "LatestCoatModel", name := "answer", desc := "(III)J" } : Jvm.MethodName)) ∈ lw_all := lw_g (lw_at lw_m7 168 rfl) rfl
theorem q1737 : (Jvm.Cond.privateMethod ({ cls := "LatestCoatModel", name := "answer", desc := "(III)J" } : Jvm.MethodName)) ∈ lw_tbl := lw_at lw_m7 169 rfl
theorem q1738 : (Jvm.Cond.instanceMethod ({ cls := "LatestCoatModel", name := "answer", desc := "(III)J" } : Jvm.MethodName)) ∈ lw_all := lw_g (lw_at lw_m7 170 rfl) rfl
theorem q1739 : (Jvm.Cond.code ({ cls := "LatestCoatModel", name := "answer", desc := "(III)J" } : Jvm.MethodName) prog_17_method_51_code (8 : Nat) (Option.some Jvm.ClassFile.FieldType.long)) ∈ lw_all := lw_g (lw_at lw_m7 171 rfl) rfl
theorem q1740 : (Jvm.Cond.methodLink "LatestCoatModel" (378 : Nat) ({ cls := "LatestCoatModel", name := "both", desc := "(IJJ)J" } : Jvm.MethodName)) ∈ lw_all := lw_g (lw_at lw_m7 172 rfl) rfl
theorem q1741 : (Jvm.Cond.static ({ cls := "LatestCoatModel", name := "both", desc := "(IJJ)J" } : Jvm.MethodName)) ∈ lw_all := lw_g (lw_at lw_m7 173 rfl) rfl
theorem q1742 : (Jvm.Cond.code ({ cls := "LatestCoatModel", name := "both", desc := "(IJJ)J" } : Jvm.MethodName) prog_17_method_50_code (5 : Nat) (Option.some Jvm.ClassFile.FieldType.long)) ∈ lw_all := lw_g (lw_at lw_m7 174 rfl) rfl
theorem q1743 : (Jvm.Cond.methodLink "LatestCoatModel" (374 : Nat) ({ cls := "LatestCoatModel", name := "truth", desc := "(Z)J" } : Jvm.MethodName)) ∈ lw_all := lw_g (lw_at lw_m7 175 rfl) rfl
theorem q1744 : (Jvm.Cond.static ({ cls := "LatestCoatModel", name := "truth", desc := "(Z)J" } : Jvm.MethodName)) ∈ lw_all := lw_g (lw_at lw_m7 176 rfl) rfl
theorem q1745 : (Jvm.Cond.code ({ cls := "LatestCoatModel", name := "truth", desc := "(Z)J" } : Jvm.MethodName) prog_17_method_49_code (1 : Nat) (Option.some Jvm.ClassFile.FieldType.long)) ∈ lw_all := lw_g (lw_at lw_m7 177 rfl) rfl
theorem q1746 : (Jvm.Cond.methodLink "LatestCoatModel" (448 : Nat) ({ cls := "LatestCoatModel", name := "paints", desc := "(II)V" } : Jvm.MethodName)) ∈ lw_all := lw_g (lw_at lw_m7 178 rfl) rfl
theorem q1747 : (Jvm.Cond.privateMethod ({ cls := "LatestCoatModel", name := "paints", desc := "(II)V" } : Jvm.MethodName)) ∈ lw_tbl := lw_at lw_m7 179 rfl
theorem q1748 : (Jvm.Cond.instanceMethod ({ cls := "LatestCoatModel", name := "paints", desc := "(II)V" } : Jvm.MethodName)) ∈ lw_all := lw_g (lw_at lw_m7 180 rfl) rfl
theorem q1749 : (Jvm.Cond.code ({ cls := "LatestCoatModel", name := "paints", desc := "(II)V" } : Jvm.MethodName) prog_17_method_71_code (4 : Nat) (Option.none : Option Jvm.ClassFile.FieldType)) ∈ lw_all := lw_g (lw_at lw_m7 181 rfl) rfl
theorem q1750 : (Jvm.Cond.methodLink "LatestCoatModel" (457 : Nat) ({ cls := "LatestCoatModel", name := "ends", desc := "()V" } : Jvm.MethodName)) ∈ lw_all := lw_g (lw_at lw_m7 182 rfl) rfl
theorem q1751 : (Jvm.Cond.privateMethod ({ cls := "LatestCoatModel", name := "ends", desc := "()V" } : Jvm.MethodName)) ∈ lw_tbl := lw_at lw_m7 183 rfl
theorem q1752 : (Jvm.Cond.instanceMethod ({ cls := "LatestCoatModel", name := "ends", desc := "()V" } : Jvm.MethodName)) ∈ lw_all := lw_g (lw_at lw_m7 184 rfl) rfl
theorem q1753 : (Jvm.Cond.code ({ cls := "LatestCoatModel", name := "ends", desc := "()V" } : Jvm.MethodName) prog_17_method_77_code (3 : Nat) (Option.none : Option Jvm.ClassFile.FieldType)) ∈ lw_all := lw_g (lw_at lw_m7 185 rfl) rfl
theorem q1754 : (Jvm.Cond.methodLink "LatestCoatModel" (451 : Nat) ({ cls := "LatestCoatModel", name := "washes", desc := "()V" } : Jvm.MethodName)) ∈ lw_all := lw_g (lw_at lw_m7 186 rfl) rfl
theorem q1755 : (Jvm.Cond.privateMethod ({ cls := "LatestCoatModel", name := "washes", desc := "()V" } : Jvm.MethodName)) ∈ lw_tbl := lw_at lw_m7 187 rfl
theorem q1756 : (Jvm.Cond.instanceMethod ({ cls := "LatestCoatModel", name := "washes", desc := "()V" } : Jvm.MethodName)) ∈ lw_all := lw_g (lw_at lw_m7 188 rfl) rfl
theorem q1757 : (Jvm.Cond.code ({ cls := "LatestCoatModel", name := "washes", desc := "()V" } : Jvm.MethodName) prog_17_method_76_code (2 : Nat) (Option.none : Option Jvm.ClassFile.FieldType)) ∈ lw_all := lw_g (lw_at lw_m7 189 rfl) rfl
theorem q1759 : (Jvm.Cond.instanceMethod ({ cls := "LatestCoatModel", name := "paint", desc := "(II)I" } : Jvm.MethodName)) ∈ lw_all := lw_g (lw_at lw_m7 191 rfl) rfl
theorem q1760 : (Jvm.Cond.selects "LatestCoatModel" ({ cls := "LatestCoatModel", name := "paint", desc := "(II)I" } : Jvm.MethodName) ({ cls := "LatestCoatModel", name := "paint", desc := "(II)I" } : Jvm.MethodName)) ∈ lw_all := lw_g (lw_at lw_m7 192 rfl) rfl
theorem q1761 : (Jvm.Cond.code ({ cls := "LatestCoatModel", name := "paint", desc := "(II)I" } : Jvm.MethodName) prog_17_method_85_code (3 : Nat) (Option.some Jvm.ClassFile.FieldType.int)) ∈ lw_all := lw_g (lw_at lw_m7 193 rfl) rfl
theorem q1763 : (Jvm.Cond.instanceMethod ({ cls := "LatestCoatModel", name := "scrape", desc := "(I)I" } : Jvm.MethodName)) ∈ lw_all := lw_g (lw_at lw_m7 195 rfl) rfl
theorem q1764 : (Jvm.Cond.selects "LatestCoatModel" ({ cls := "LatestCoatModel", name := "scrape", desc := "(I)I" } : Jvm.MethodName) ({ cls := "LatestCoatModel", name := "scrape", desc := "(I)I" } : Jvm.MethodName)) ∈ lw_all := lw_g (lw_at lw_m7 196 rfl) rfl
theorem q1765 : (Jvm.Cond.code ({ cls := "LatestCoatModel", name := "scrape", desc := "(I)I" } : Jvm.MethodName) prog_17_method_86_code (3 : Nat) (Option.some Jvm.ClassFile.FieldType.int)) ∈ lw_all := lw_g (lw_at lw_m7 197 rfl) rfl
theorem q1767 : (Jvm.Cond.instanceMethod ({ cls := "LatestCoatModel", name := "vote", desc := "(I)I" } : Jvm.MethodName)) ∈ lw_all := lw_g (lw_at lw_m7 199 rfl) rfl
theorem q1768 : (Jvm.Cond.selects "LatestCoatModel" ({ cls := "LatestCoatModel", name := "vote", desc := "(I)I" } : Jvm.MethodName) ({ cls := "LatestCoatModel", name := "vote", desc := "(I)I" } : Jvm.MethodName)) ∈ lw_all := lw_g (lw_at lw_m7 200 rfl) rfl
theorem q1769 : (Jvm.Cond.code ({ cls := "LatestCoatModel", name := "vote", desc := "(I)I" } : Jvm.MethodName) prog_17_method_87_code (2 : Nat) (Option.some Jvm.ClassFile.FieldType.int)) ∈ lw_all := lw_g (lw_at lw_m7 201 rfl) rfl
theorem q1771 : (Jvm.Cond.instanceMethod ({ cls := "LatestCoatModel", name := "ahead", desc := "(III)I" } : Jvm.MethodName)) ∈ lw_all := lw_g (lw_at lw_m7 203 rfl) rfl
theorem q1772 : (Jvm.Cond.selects "LatestCoatModel" ({ cls := "LatestCoatModel", name := "ahead", desc := "(III)I" } : Jvm.MethodName) ({ cls := "LatestCoatModel", name := "ahead", desc := "(III)I" } : Jvm.MethodName)) ∈ lw_all := lw_g (lw_at lw_m7 204 rfl) rfl
theorem q1773 : (Jvm.Cond.code ({ cls := "LatestCoatModel", name := "ahead", desc := "(III)I" } : Jvm.MethodName) prog_17_method_91_code (5 : Nat) (Option.some Jvm.ClassFile.FieldType.int)) ∈ lw_all := lw_g (lw_at lw_m7 205 rfl) rfl
theorem q1774 : (Jvm.Cond.constantLong "LatestCoatModel" (484 : Nat) (2 : Int64)) ∈ lw_all := lw_g (lw_at lw_m7 206 rfl) rfl
theorem q1775 : (Jvm.Cond.methodLink "LatestCoatModel" (486 : Nat) ({ cls := "LatestCoatModel", name := "isNumber", desc := "(II)Z" } : Jvm.MethodName)) ∈ lw_all := lw_g (lw_at lw_m7 207 rfl) rfl
theorem q1776 : (Jvm.Cond.privateMethod ({ cls := "LatestCoatModel", name := "isNumber", desc := "(II)Z" } : Jvm.MethodName)) ∈ lw_tbl := lw_at lw_m7 208 rfl
theorem q1777 : (Jvm.Cond.instanceMethod ({ cls := "LatestCoatModel", name := "isNumber", desc := "(II)Z" } : Jvm.MethodName)) ∈ lw_all := lw_g (lw_at lw_m7 209 rfl) rfl
theorem q1778 : (Jvm.Cond.code ({ cls := "LatestCoatModel", name := "isNumber", desc := "(II)Z" } : Jvm.MethodName) prog_17_method_90_code (3 : Nat) (Option.some Jvm.ClassFile.FieldType.boolean)) ∈ lw_all := lw_g (lw_at lw_m7 210 rfl) rfl
theorem q1779 : (Jvm.Cond.constantLong "LatestCoatModel" (489 : Nat) (100 : Int64)) ∈ lw_all := lw_g (lw_at lw_m7 211 rfl) rfl
theorem q1780 : (Jvm.Cond.methodLink "LatestCoatModel" (491 : Nat) ({ cls := "LatestCoatModel", name := "keepsAll", desc := "()V" } : Jvm.MethodName)) ∈ lw_all := lw_g (lw_at lw_m7 212 rfl) rfl
theorem q1781 : (Jvm.Cond.privateMethod ({ cls := "LatestCoatModel", name := "keepsAll", desc := "()V" } : Jvm.MethodName)) ∈ lw_tbl := lw_at lw_m7 213 rfl
theorem q1782 : (Jvm.Cond.instanceMethod ({ cls := "LatestCoatModel", name := "keepsAll", desc := "()V" } : Jvm.MethodName)) ∈ lw_all := lw_g (lw_at lw_m7 214 rfl) rfl
theorem q1783 : (Jvm.Cond.code ({ cls := "LatestCoatModel", name := "keepsAll", desc := "()V" } : Jvm.MethodName) prog_17_method_88_code (2 : Nat) (Option.none : Option Jvm.ClassFile.FieldType)) ∈ lw_all := lw_g (lw_at lw_m7 215 rfl) rfl
theorem q1784 : (Jvm.Cond.methodLink "LatestCoatModel" (481 : Nat) ({ cls := "LatestCoatModel", name := "carriesAll", desc := "(IZ)V" } : Jvm.MethodName)) ∈ lw_all := lw_g (lw_at lw_m7 216 rfl) rfl
theorem q1785 : (Jvm.Cond.privateMethod ({ cls := "LatestCoatModel", name := "carriesAll", desc := "(IZ)V" } : Jvm.MethodName)) ∈ lw_tbl := lw_at lw_m7 217 rfl
theorem q1786 : (Jvm.Cond.instanceMethod ({ cls := "LatestCoatModel", name := "carriesAll", desc := "(IZ)V" } : Jvm.MethodName)) ∈ lw_all := lw_g (lw_at lw_m7 218 rfl) rfl
theorem q1787 : (Jvm.Cond.code ({ cls := "LatestCoatModel", name := "carriesAll", desc := "(IZ)V" } : Jvm.MethodName) prog_17_method_123_code (3 : Nat) (Option.none : Option Jvm.ClassFile.FieldType)) ∈ lw_all := lw_g (lw_at lw_m7 219 rfl) rfl
theorem q1788 : (Jvm.Cond.methodLink "LatestCoatModel" (575 : Nat) ({ cls := "LatestCoatModel", name := "carryRow", desc := "([I)V" } : Jvm.MethodName)) ∈ lw_all := lw_g (lw_at lw_m7 220 rfl) rfl
theorem q1789 : (Jvm.Cond.privateMethod ({ cls := "LatestCoatModel", name := "carryRow", desc := "([I)V" } : Jvm.MethodName)) ∈ lw_tbl := lw_at lw_m7 221 rfl
theorem q1790 : (Jvm.Cond.instanceMethod ({ cls := "LatestCoatModel", name := "carryRow", desc := "([I)V" } : Jvm.MethodName)) ∈ lw_all := lw_g (lw_at lw_m7 222 rfl) rfl
theorem q1791 : (Jvm.Cond.code ({ cls := "LatestCoatModel", name := "carryRow", desc := "([I)V" } : Jvm.MethodName) prog_17_method_122_code (3 : Nat) (Option.none : Option Jvm.ClassFile.FieldType)) ∈ lw_all := lw_g (lw_at lw_m7 223 rfl) rfl
theorem q1792 : (Jvm.Cond.methodLink "LatestCoatModel" (494 : Nat) ({ cls := "LatestCoatModel", name := "goes", desc := "(I)V" } : Jvm.MethodName)) ∈ lw_all := lw_g (lw_at lw_m7 224 rfl) rfl
theorem q1793 : (Jvm.Cond.privateMethod ({ cls := "LatestCoatModel", name := "goes", desc := "(I)V" } : Jvm.MethodName)) ∈ lw_tbl := lw_at lw_m7 225 rfl
theorem q1794 : (Jvm.Cond.instanceMethod ({ cls := "LatestCoatModel", name := "goes", desc := "(I)V" } : Jvm.MethodName)) ∈ lw_all := lw_g (lw_at lw_m7 226 rfl) rfl
theorem q1795 : (Jvm.Cond.code ({ cls := "LatestCoatModel", name := "goes", desc := "(I)V" } : Jvm.MethodName) prog_17_method_78_code (3 : Nat) (Option.none : Option Jvm.ClassFile.FieldType)) ∈ lw_all := lw_g (lw_at lw_m7 227 rfl) rfl
theorem q1796 : (Jvm.Cond.methodLink "LatestCoatModel" (497 : Nat) ({ cls := "LatestCoatModel", name := "laysBack", desc := "()V" } : Jvm.MethodName)) ∈ lw_all := lw_g (lw_at lw_m7 228 rfl) rfl
theorem q1797 : (Jvm.Cond.privateMethod ({ cls := "LatestCoatModel", name := "laysBack", desc := "()V" } : Jvm.MethodName)) ∈ lw_tbl := lw_at lw_m7 229 rfl
theorem q1798 : (Jvm.Cond.instanceMethod ({ cls := "LatestCoatModel", name := "laysBack", desc := "()V" } : Jvm.MethodName)) ∈ lw_all := lw_g (lw_at lw_m7 230 rfl) rfl
theorem q1799 : (Jvm.Cond.code ({ cls := "LatestCoatModel", name := "laysBack", desc := "()V" } : Jvm.MethodName) prog_17_method_89_code (1 : Nat) (Option.none : Option Jvm.ClassFile.FieldType)) ∈ lw_all := lw_g (lw_at lw_m7 231 rfl) rfl
theorem q1801 : (Jvm.Cond.instanceMethod ({ cls := "LatestCoatModel", name := "rents", desc := "(II)I" } : Jvm.MethodName)) ∈ lw_all := lw_g (lw_at lw_m7 233 rfl) rfl
theorem q1802 : (Jvm.Cond.selects "LatestCoatModel" ({ cls := "LatestCoatModel", name := "rents", desc := "(II)I" } : Jvm.MethodName) ({ cls := "LatestCoatModel", name := "rents", desc := "(II)I" } : Jvm.MethodName)) ∈ lw_all := lw_g (lw_at lw_m7 234 rfl) rfl
theorem q1803 : (Jvm.Cond.code ({ cls := "LatestCoatModel", name := "rents", desc := "(II)I" } : Jvm.MethodName) prog_17_method_92_code (3 : Nat) (Option.some Jvm.ClassFile.FieldType.int)) ∈ lw_all := lw_g (lw_at lw_m7 235 rfl) rfl
theorem q1805 : (Jvm.Cond.instanceMethod ({ cls := "LatestCoatModel", name := "worth", desc := "(III)I" } : Jvm.MethodName)) ∈ lw_all := lw_g (lw_at lw_m7 237 rfl) rfl
theorem q1806 : (Jvm.Cond.selects "LatestCoatModel" ({ cls := "LatestCoatModel", name := "worth", desc := "(III)I" } : Jvm.MethodName) ({ cls := "LatestCoatModel", name := "worth", desc := "(III)I" } : Jvm.MethodName)) ∈ lw_all := lw_g (lw_at lw_m7 238 rfl) rfl
theorem q1807 : (Jvm.Cond.code ({ cls := "LatestCoatModel", name := "worth", desc := "(III)I" } : Jvm.MethodName) prog_17_method_93_code (5 : Nat) (Option.some Jvm.ClassFile.FieldType.int)) ∈ lw_all := lw_g (lw_at lw_m7 239 rfl) rfl
theorem q1808 : (Jvm.Cond.constant "LatestCoatModel" (500 : Nat) (-100000 : Int32)) ∈ lw_all := lw_g (lw_at lw_m8 0 rfl) rfl
theorem q1810 : (Jvm.Cond.instanceMethod ({ cls := "LatestCoatModel", name := "least", desc := "(IIII)I" } : Jvm.MethodName)) ∈ lw_all := lw_g (lw_at lw_m8 2 rfl) rfl
theorem q1811 : (Jvm.Cond.selects "LatestCoatModel" ({ cls := "LatestCoatModel", name := "least", desc := "(IIII)I" } : Jvm.MethodName) ({ cls := "LatestCoatModel", name := "least", desc := "(IIII)I" } : Jvm.MethodName)) ∈ lw_all := lw_g (lw_at lw_m8 3 rfl) rfl
theorem q1812 : (Jvm.Cond.code ({ cls := "LatestCoatModel", name := "least", desc := "(IIII)I" } : Jvm.MethodName) prog_17_method_96_code (7 : Nat) (Option.some Jvm.ClassFile.FieldType.int)) ∈ lw_all := lw_g (lw_at lw_m8 4 rfl) rfl
theorem q1813 : (Jvm.Cond.constantLong "LatestCoatModel" (504 : Nat) (60 : Int64)) ∈ lw_all := lw_g (lw_at lw_m8 5 rfl) rfl
theorem q1814 : (Jvm.Cond.methodLink "LatestCoatModel" (506 : Nat) ({ cls := "LatestCoatModel", name := "bits", desc := "(I)I" } : Jvm.MethodName)) ∈ lw_all := lw_g (lw_at lw_m8 6 rfl) rfl
theorem q1815 : (Jvm.Cond.static ({ cls := "LatestCoatModel", name := "bits", desc := "(I)I" } : Jvm.MethodName)) ∈ lw_all := lw_g (lw_at lw_m8 7 rfl) rfl
theorem q1816 : (Jvm.Cond.code ({ cls := "LatestCoatModel", name := "bits", desc := "(I)I" } : Jvm.MethodName) prog_17_method_4_code (3 : Nat) (Option.some Jvm.ClassFile.FieldType.int)) ∈ lw_all := lw_g (lw_at lw_m8 8 rfl) rfl
theorem q1817 : (Jvm.Cond.methodLink "LatestCoatModel" (509 : Nat) ({ cls := "LatestCoatModel", name := "isTheirsBehind", desc := "(IIII)Z" } : Jvm.MethodName)) ∈ lw_all := lw_g (lw_at lw_m8 9 rfl) rfl
theorem q1818 : (Jvm.Cond.privateMethod ({ cls := "LatestCoatModel", name := "isTheirsBehind", desc := "(IIII)Z" } : Jvm.MethodName)) ∈ lw_tbl := lw_at lw_m8 10 rfl
theorem q1819 : (Jvm.Cond.instanceMethod ({ cls := "LatestCoatModel", name := "isTheirsBehind", desc := "(IIII)Z" } : Jvm.MethodName)) ∈ lw_all := lw_g (lw_at lw_m8 11 rfl) rfl
theorem q1820 : (Jvm.Cond.code ({ cls := "LatestCoatModel", name := "isTheirsBehind", desc := "(IIII)Z" } : Jvm.MethodName) prog_17_method_95_code (6 : Nat) (Option.some Jvm.ClassFile.FieldType.boolean)) ∈ lw_all := lw_g (lw_at lw_m8 12 rfl) rfl
theorem q1821 : (Jvm.Cond.methodLink "LatestCoatModel" (501 : Nat) ({ cls := "LatestCoatModel", name := "idles", desc := "(I)V" } : Jvm.MethodName)) ∈ lw_all := lw_g (lw_at lw_m8 13 rfl) rfl
theorem q1822 : (Jvm.Cond.privateMethod ({ cls := "LatestCoatModel", name := "idles", desc := "(I)V" } : Jvm.MethodName)) ∈ lw_tbl := lw_at lw_m8 14 rfl
theorem q1823 : (Jvm.Cond.instanceMethod ({ cls := "LatestCoatModel", name := "idles", desc := "(I)V" } : Jvm.MethodName)) ∈ lw_all := lw_g (lw_at lw_m8 15 rfl) rfl
theorem q1824 : (Jvm.Cond.code ({ cls := "LatestCoatModel", name := "idles", desc := "(I)V" } : Jvm.MethodName) prog_17_method_94_code (3 : Nat) (Option.none : Option Jvm.ClassFile.FieldType)) ∈ lw_all := lw_g (lw_at lw_m8 16 rfl) rfl
theorem q1826 : (Jvm.Cond.instanceMethod ({ cls := "LatestCoatModel", name := "fewest", desc := "(III)I" } : Jvm.MethodName)) ∈ lw_all := lw_g (lw_at lw_m8 18 rfl) rfl
theorem q1827 : (Jvm.Cond.selects "LatestCoatModel" ({ cls := "LatestCoatModel", name := "fewest", desc := "(III)I" } : Jvm.MethodName) ({ cls := "LatestCoatModel", name := "fewest", desc := "(III)I" } : Jvm.MethodName)) ∈ lw_all := lw_g (lw_at lw_m8 19 rfl) rfl
theorem q1828 : (Jvm.Cond.code ({ cls := "LatestCoatModel", name := "fewest", desc := "(III)I" } : Jvm.MethodName) prog_17_method_100_code (7 : Nat) (Option.some Jvm.ClassFile.FieldType.int)) ∈ lw_all := lw_g (lw_at lw_m8 20 rfl) rfl
theorem q1829 : (Jvm.Cond.constantLong "LatestCoatModel" (513 : Nat) (6 : Int64)) ∈ lw_all := lw_g (lw_at lw_m8 21 rfl) rfl
theorem q1830 : (Jvm.Cond.methodLink "LatestCoatModel" (515 : Nat) ({ cls := "LatestCoatModel", name := "allScraped", desc := "()I" } : Jvm.MethodName)) ∈ lw_all := lw_g (lw_at lw_m8 22 rfl) rfl
theorem q1831 : (Jvm.Cond.privateMethod ({ cls := "LatestCoatModel", name := "allScraped", desc := "()I" } : Jvm.MethodName)) ∈ lw_tbl := lw_at lw_m8 23 rfl
theorem q1832 : (Jvm.Cond.instanceMethod ({ cls := "LatestCoatModel", name := "allScraped", desc := "()I" } : Jvm.MethodName)) ∈ lw_all := lw_g (lw_at lw_m8 24 rfl) rfl
theorem q1833 : (Jvm.Cond.code ({ cls := "LatestCoatModel", name := "allScraped", desc := "()I" } : Jvm.MethodName) prog_17_method_99_code (3 : Nat) (Option.some Jvm.ClassFile.FieldType.int)) ∈ lw_all := lw_g (lw_at lw_m8 25 rfl) rfl
theorem q1834 : (Jvm.Cond.methodLink "LatestCoatModel" (518 : Nat) ({ cls := "LatestCoatModel", name := "isTheirsScraped", desc := "(II)Z" } : Jvm.MethodName)) ∈ lw_all := lw_g (lw_at lw_m8 26 rfl) rfl
theorem q1835 : (Jvm.Cond.privateMethod ({ cls := "LatestCoatModel", name := "isTheirsScraped", desc := "(II)Z" } : Jvm.MethodName)) ∈ lw_tbl := lw_at lw_m8 27 rfl
theorem q1836 : (Jvm.Cond.instanceMethod ({ cls := "LatestCoatModel", name := "isTheirsScraped", desc := "(II)Z" } : Jvm.MethodName)) ∈ lw_all := lw_g (lw_at lw_m8 28 rfl) rfl
theorem q1837 : (Jvm.Cond.code ({ cls := "LatestCoatModel", name := "isTheirsScraped", desc := "(II)Z" } : Jvm.MethodName) prog_17_method_98_code (5 : Nat) (Option.some Jvm.ClassFile.FieldType.boolean)) ∈ lw_all := lw_g (lw_at lw_m8 29 rfl) rfl
theorem q1838 : (Jvm.Cond.methodLink "LatestCoatModel" (521 : Nat) ({ cls := "LatestCoatModel", name := "isNextRow", desc := "(I)Z" } : Jvm.MethodName)) ∈ lw_all := lw_g (lw_at lw_m8 30 rfl) rfl
theorem q1839 : (Jvm.Cond.privateMethod ({ cls := "LatestCoatModel", name := "isNextRow", desc := "(I)Z" } : Jvm.MethodName)) ∈ lw_tbl := lw_at lw_m8 31 rfl
theorem q1840 : (Jvm.Cond.instanceMethod ({ cls := "LatestCoatModel", name := "isNextRow", desc := "(I)Z" } : Jvm.MethodName)) ∈ lw_all := lw_g (lw_at lw_m8 32 rfl) rfl
theorem q1841 : (Jvm.Cond.code ({ cls := "LatestCoatModel", name := "isNextRow", desc := "(I)Z" } : Jvm.MethodName) prog_17_method_97_code (3 : Nat) (Option.some Jvm.ClassFile.FieldType.boolean)) ∈ lw_all := lw_g (lw_at lw_m8 33 rfl) rfl
theorem q1843 : (Jvm.Cond.instanceMethod ({ cls := "LatestCoatModel", name := "when", desc := "()I" } : Jvm.MethodName)) ∈ lw_all := lw_g (lw_at lw_m8 35 rfl) rfl
theorem q1844 : (Jvm.Cond.selects "LatestCoatModel" ({ cls := "LatestCoatModel", name := "when", desc := "()I" } : Jvm.MethodName) ({ cls := "LatestCoatModel", name := "when", desc := "()I" } : Jvm.MethodName)) ∈ lw_all := lw_g (lw_at lw_m8 36 rfl) rfl
theorem q1845 : (Jvm.Cond.code ({ cls := "LatestCoatModel", name := "when", desc := "()I" } : Jvm.MethodName) prog_17_method_101_code (4 : Nat) (Option.some Jvm.ClassFile.FieldType.int)) ∈ lw_all := lw_g (lw_at lw_m8 37 rfl) rfl
theorem q1847 : (Jvm.Cond.instanceMethod ({ cls := "LatestCoatModel", name := "game", desc := "(IIIII)I" } : Jvm.MethodName)) ∈ lw_all := lw_g (lw_at lw_m8 39 rfl) rfl
theorem q1848 : (Jvm.Cond.selects "LatestCoatModel" ({ cls := "LatestCoatModel", name := "game", desc := "(IIIII)I" } : Jvm.MethodName) ({ cls := "LatestCoatModel", name := "game", desc := "(IIIII)I" } : Jvm.MethodName)) ∈ lw_all := lw_g (lw_at lw_m8 40 rfl) rfl
theorem q1849 : (Jvm.Cond.code ({ cls := "LatestCoatModel", name := "game", desc := "(IIIII)I" } : Jvm.MethodName) prog_17_method_105_code (7 : Nat) (Option.some Jvm.ClassFile.FieldType.int)) ∈ lw_all := lw_g (lw_at lw_m8 41 rfl) rfl
theorem q1850 : (Jvm.Cond.constantLong "LatestCoatModel" (535 : Nat) (4 : Int64)) ∈ lw_all := lw_g (lw_at lw_m8 42 rfl) rfl
theorem q1851 : (Jvm.Cond.methodLink "LatestCoatModel" (537 : Nat) ({ cls := "LatestCoatModel", name := "playsGame", desc := "(IIII)I" } : Jvm.MethodName)) ∈ lw_all := lw_g (lw_at lw_m8 43 rfl) rfl
theorem q1852 : (Jvm.Cond.privateMethod ({ cls := "LatestCoatModel", name := "playsGame", desc := "(IIII)I" } : Jvm.MethodName)) ∈ lw_tbl := lw_at lw_m8 44 rfl
theorem q1853 : (Jvm.Cond.instanceMethod ({ cls := "LatestCoatModel", name := "playsGame", desc := "(IIII)I" } : Jvm.MethodName)) ∈ lw_all := lw_g (lw_at lw_m8 45 rfl) rfl
theorem q1854 : (Jvm.Cond.code ({ cls := "LatestCoatModel", name := "playsGame", desc := "(IIII)I" } : Jvm.MethodName) prog_17_method_104_code (6 : Nat) (Option.some Jvm.ClassFile.FieldType.int)) ∈ lw_all := lw_g (lw_at lw_m8 46 rfl) rfl
theorem q1855 : (Jvm.Cond.methodLink "LatestCoatModel" (527 : Nat) ({ cls := "LatestCoatModel", name := "gameEnd", desc := "(IIII)I" } : Jvm.MethodName)) ∈ lw_all := lw_g (lw_at lw_m8 47 rfl) rfl
theorem q1856 : (Jvm.Cond.privateMethod ({ cls := "LatestCoatModel", name := "gameEnd", desc := "(IIII)I" } : Jvm.MethodName)) ∈ lw_tbl := lw_at lw_m8 48 rfl
theorem q1857 : (Jvm.Cond.instanceMethod ({ cls := "LatestCoatModel", name := "gameEnd", desc := "(IIII)I" } : Jvm.MethodName)) ∈ lw_all := lw_g (lw_at lw_m8 49 rfl) rfl
theorem q1858 : (Jvm.Cond.code ({ cls := "LatestCoatModel", name := "gameEnd", desc := "(IIII)I" } : Jvm.MethodName) prog_17_method_102_code (6 : Nat) (Option.some Jvm.ClassFile.FieldType.int)) ∈ lw_all := lw_g (lw_at lw_m8 50 rfl) rfl
theorem q1859 : (Jvm.Cond.methodLink "LatestCoatModel" (531 : Nat) ({ cls := "LatestCoatModel", name := "takesValue", desc := "(III)V" } : Jvm.MethodName)) ∈ lw_all := lw_g (lw_at lw_m8 51 rfl) rfl
theorem q1860 : (Jvm.Cond.privateMethod ({ cls := "LatestCoatModel", name := "takesValue", desc := "(III)V" } : Jvm.MethodName)) ∈ lw_tbl := lw_at lw_m8 52 rfl
theorem q1861 : (Jvm.Cond.instanceMethod ({ cls := "LatestCoatModel", name := "takesValue", desc := "(III)V" } : Jvm.MethodName)) ∈ lw_all := lw_g (lw_at lw_m8 53 rfl) rfl
theorem q1862 : (Jvm.Cond.code ({ cls := "LatestCoatModel", name := "takesValue", desc := "(III)V" } : Jvm.MethodName) prog_17_method_103_code (5 : Nat) (Option.none : Option Jvm.ClassFile.FieldType)) ∈ lw_all := lw_g (lw_at lw_m8 54 rfl) rfl
theorem q1864 : (Jvm.Cond.instanceMethod ({ cls := "LatestCoatModel", name := "share", desc := "(III)I" } : Jvm.MethodName)) ∈ lw_all := lw_g (lw_at lw_m8 56 rfl) rfl
theorem q1865 : (Jvm.Cond.selects "LatestCoatModel" ({ cls := "LatestCoatModel", name := "share", desc := "(III)I" } : Jvm.MethodName) ({ cls := "LatestCoatModel", name := "share", desc := "(III)I" } : Jvm.MethodName)) ∈ lw_all := lw_g (lw_at lw_m8 57 rfl) rfl
theorem q1866 : (Jvm.Cond.code ({ cls := "LatestCoatModel", name := "share", desc := "(III)I" } : Jvm.MethodName) prog_17_method_106_code (8 : Nat) (Option.some Jvm.ClassFile.FieldType.int)) ∈ lw_all := lw_g (lw_at lw_m8 58 rfl) rfl
theorem q1868 : (Jvm.Cond.instanceMethod ({ cls := "LatestCoatModel", name := "then", desc := "(II)I" } : Jvm.MethodName)) ∈ lw_all := lw_g (lw_at lw_m8 60 rfl) rfl
theorem q1869 : (Jvm.Cond.selects "LatestCoatModel" ({ cls := "LatestCoatModel", name := "then", desc := "(II)I" } : Jvm.MethodName) ({ cls := "LatestCoatModel", name := "then", desc := "(II)I" } : Jvm.MethodName)) ∈ lw_all := lw_g (lw_at lw_m8 61 rfl) rfl
theorem q1870 : (Jvm.Cond.code ({ cls := "LatestCoatModel", name := "then", desc := "(II)I" } : Jvm.MethodName) prog_17_method_107_code (3 : Nat) (Option.some Jvm.ClassFile.FieldType.int)) ∈ lw_all := lw_g (lw_at lw_m8 62 rfl) rfl
theorem q1872 : (Jvm.Cond.instanceMethod ({ cls := "LatestCoatModel", name := "byPart", desc := "(II)I" } : Jvm.MethodName)) ∈ lw_all := lw_g (lw_at lw_m8 64 rfl) rfl
theorem q1873 : (Jvm.Cond.selects "LatestCoatModel" ({ cls := "LatestCoatModel", name := "byPart", desc := "(II)I" } : Jvm.MethodName) ({ cls := "LatestCoatModel", name := "byPart", desc := "(II)I" } : Jvm.MethodName)) ∈ lw_all := lw_g (lw_at lw_m8 65 rfl) rfl
theorem q1874 : (Jvm.Cond.code ({ cls := "LatestCoatModel", name := "byPart", desc := "(II)I" } : Jvm.MethodName) prog_17_method_108_code (3 : Nat) (Option.some Jvm.ClassFile.FieldType.int)) ∈ lw_all := lw_g (lw_at lw_m8 66 rfl) rfl
theorem q1876 : (Jvm.Cond.instanceMethod ({ cls := "LatestCoatModel", name := "one", desc := "()I" } : Jvm.MethodName)) ∈ lw_all := lw_g (lw_at lw_m8 68 rfl) rfl
theorem q1877 : (Jvm.Cond.selects "LatestCoatModel" ({ cls := "LatestCoatModel", name := "one", desc := "()I" } : Jvm.MethodName) ({ cls := "LatestCoatModel", name := "one", desc := "()I" } : Jvm.MethodName)) ∈ lw_all := lw_g (lw_at lw_m8 69 rfl) rfl
theorem q1878 : (Jvm.Cond.code ({ cls := "LatestCoatModel", name := "one", desc := "()I" } : Jvm.MethodName) prog_17_method_110_code (3 : Nat) (Option.some Jvm.ClassFile.FieldType.int)) ∈ lw_all := lw_g (lw_at lw_m8 70 rfl) rfl
theorem q1879 : (Jvm.Cond.methodLink "LatestCoatModel" (540 : Nat) ({ cls := "LatestCoatModel", name := "isOneColour", desc := "()Z" } : Jvm.MethodName)) ∈ lw_all := lw_g (lw_at lw_m8 71 rfl) rfl
theorem q1880 : (Jvm.Cond.privateMethod ({ cls := "LatestCoatModel", name := "isOneColour", desc := "()Z" } : Jvm.MethodName)) ∈ lw_tbl := lw_at lw_m8 72 rfl
theorem q1881 : (Jvm.Cond.instanceMethod ({ cls := "LatestCoatModel", name := "isOneColour", desc := "()Z" } : Jvm.MethodName)) ∈ lw_all := lw_g (lw_at lw_m8 73 rfl) rfl
theorem q1882 : (Jvm.Cond.code ({ cls := "LatestCoatModel", name := "isOneColour", desc := "()Z" } : Jvm.MethodName) prog_17_method_109_code (4 : Nat) (Option.some Jvm.ClassFile.FieldType.boolean)) ∈ lw_all := lw_g (lw_at lw_m8 74 rfl) rfl
theorem q1884 : (Jvm.Cond.instanceMethod ({ cls := "LatestCoatModel", name := "log", desc := "(III)I" } : Jvm.MethodName)) ∈ lw_all := lw_g (lw_at lw_m8 76 rfl) rfl
theorem q1885 : (Jvm.Cond.selects "LatestCoatModel" ({ cls := "LatestCoatModel", name := "log", desc := "(III)I" } : Jvm.MethodName) ({ cls := "LatestCoatModel", name := "log", desc := "(III)I" } : Jvm.MethodName)) ∈ lw_all := lw_g (lw_at lw_m8 77 rfl) rfl
theorem q1886 : (Jvm.Cond.code ({ cls := "LatestCoatModel", name := "log", desc := "(III)I" } : Jvm.MethodName) prog_17_method_111_code (5 : Nat) (Option.some Jvm.ClassFile.FieldType.int)) ∈ lw_all := lw_g (lw_at lw_m8 78 rfl) rfl
theorem q1887 : (Jvm.Cond.constantLong "LatestCoatModel" (543 : Nat) (99 : Int64)) ∈ lw_all := lw_g (lw_at lw_m8 79 rfl) rfl
theorem q1889 : (Jvm.Cond.instanceMethod ({ cls := "LatestCoatModel", name := "ruled", desc := "(I)I" } : Jvm.MethodName)) ∈ lw_all := lw_g (lw_at lw_m8 81 rfl) rfl
theorem q1890 : (Jvm.Cond.selects "LatestCoatModel" ({ cls := "LatestCoatModel", name := "ruled", desc := "(I)I" } : Jvm.MethodName) ({ cls := "LatestCoatModel", name := "ruled", desc := "(I)I" } : Jvm.MethodName)) ∈ lw_all := lw_g (lw_at lw_m8 82 rfl) rfl
theorem q1891 : (Jvm.Cond.code ({ cls := "LatestCoatModel", name := "ruled", desc := "(I)I" } : Jvm.MethodName) prog_17_method_114_code (5 : Nat) (Option.some Jvm.ClassFile.FieldType.int)) ∈ lw_all := lw_g (lw_at lw_m8 83 rfl) rfl
theorem q1892 : (Jvm.Cond.methodLink "LatestCoatModel" (548 : Nat) ({ cls := "LatestCoatModel", name := "couldRule", desc := "(II)Z" } : Jvm.MethodName)) ∈ lw_all := lw_g (lw_at lw_m8 84 rfl) rfl
theorem q1893 : (Jvm.Cond.privateMethod ({ cls := "LatestCoatModel", name := "couldRule", desc := "(II)Z" } : Jvm.MethodName)) ∈ lw_tbl := lw_at lw_m8 85 rfl
theorem q1894 : (Jvm.Cond.instanceMethod ({ cls := "LatestCoatModel", name := "couldRule", desc := "(II)Z" } : Jvm.MethodName)) ∈ lw_all := lw_g (lw_at lw_m8 86 rfl) rfl
theorem q1895 : (Jvm.Cond.code ({ cls := "LatestCoatModel", name := "couldRule", desc := "(II)Z" } : Jvm.MethodName) prog_17_method_113_code (6 : Nat) (Option.some Jvm.ClassFile.FieldType.boolean)) ∈ lw_all := lw_g (lw_at lw_m8 87 rfl) rfl
theorem q1896 : (Jvm.Cond.methodLink "LatestCoatModel" (545 : Nat) ({ cls := "LatestCoatModel", name := "areLogsSo", desc := "(I)Z" } : Jvm.MethodName)) ∈ lw_all := lw_g (lw_at lw_m8 88 rfl) rfl
theorem q1897 : (Jvm.Cond.privateMethod ({ cls := "LatestCoatModel", name := "areLogsSo", desc := "(I)Z" } : Jvm.MethodName)) ∈ lw_tbl := lw_at lw_m8 89 rfl
theorem q1898 : (Jvm.Cond.instanceMethod ({ cls := "LatestCoatModel", name := "areLogsSo", desc := "(I)Z" } : Jvm.MethodName)) ∈ lw_all := lw_g (lw_at lw_m8 90 rfl) rfl
theorem q1899 : (Jvm.Cond.code ({ cls := "LatestCoatModel", name := "areLogsSo", desc := "(I)Z" } : Jvm.MethodName) prog_17_method_112_code (4 : Nat) (Option.some Jvm.ClassFile.FieldType.boolean)) ∈ lw_all := lw_g (lw_at lw_m8 91 rfl) rfl
theorem q1901 : (Jvm.Cond.instanceMethod ({ cls := "LatestCoatModel", name := "look", desc := "(II)I" } : Jvm.MethodName)) ∈ lw_all := lw_g (lw_at lw_m8 93 rfl) rfl
theorem q1902 : (Jvm.Cond.selects "LatestCoatModel" ({ cls := "LatestCoatModel", name := "look", desc := "(II)I" } : Jvm.MethodName) ({ cls := "LatestCoatModel", name := "look", desc := "(II)I" } : Jvm.MethodName)) ∈ lw_all := lw_g (lw_at lw_m8 94 rfl) rfl
theorem q1903 : (Jvm.Cond.code ({ cls := "LatestCoatModel", name := "look", desc := "(II)I" } : Jvm.MethodName) prog_17_method_115_code (9 : Nat) (Option.some Jvm.ClassFile.FieldType.int)) ∈ lw_all := lw_g (lw_at lw_m8 95 rfl) rfl
theorem q1905 : (Jvm.Cond.instanceMethod ({ cls := "LatestCoatModel", name := "seed", desc := "(I)I" } : Jvm.MethodName)) ∈ lw_all := lw_g (lw_at lw_m8 97 rfl) rfl
theorem q1906 : (Jvm.Cond.selects "LatestCoatModel" ({ cls := "LatestCoatModel", name := "seed", desc := "(I)I" } : Jvm.MethodName) ({ cls := "LatestCoatModel", name := "seed", desc := "(I)I" } : Jvm.MethodName)) ∈ lw_all := lw_g (lw_at lw_m8 98 rfl) rfl
theorem q1907 : (Jvm.Cond.code ({ cls := "LatestCoatModel", name := "seed", desc := "(I)I" } : Jvm.MethodName) prog_17_method_116_code (3 : Nat) (Option.some Jvm.ClassFile.FieldType.int)) ∈ lw_all := lw_g (lw_at lw_m8 99 rfl) rfl
theorem q1909 : (Jvm.Cond.instanceMethod ({ cls := "LatestCoatModel", name := "years", desc := "(III)I" } : Jvm.MethodName)) ∈ lw_all := lw_g (lw_at lw_m8 101 rfl) rfl
theorem q1910 : (Jvm.Cond.selects "LatestCoatModel" ({ cls := "LatestCoatModel", name := "years", desc := "(III)I" } : Jvm.MethodName) ({ cls := "LatestCoatModel", name := "years", desc := "(III)I" } : Jvm.MethodName)) ∈ lw_all := lw_g (lw_at lw_m8 102 rfl) rfl
theorem q1911 : (Jvm.Cond.code ({ cls := "LatestCoatModel", name := "years", desc := "(III)I" } : Jvm.MethodName) prog_17_method_119_code (9 : Nat) (Option.some Jvm.ClassFile.FieldType.int)) ∈ lw_all := lw_g (lw_at lw_m8 103 rfl) rfl
theorem q1912 : (Jvm.Cond.constantLong "LatestCoatModel" (561 : Nat) (10 : Int64)) ∈ lw_all := lw_g (lw_at lw_m8 104 rfl) rfl
theorem q1913 : (Jvm.Cond.methodLink "LatestCoatModel" (563 : Nat) ({ cls := "LatestCoatModel", name := "drawsCoat", desc := "()I" } : Jvm.MethodName)) ∈ lw_all := lw_g (lw_at lw_m8 105 rfl) rfl
theorem q1914 : (Jvm.Cond.privateMethod ({ cls := "LatestCoatModel", name := "drawsCoat", desc := "()I" } : Jvm.MethodName)) ∈ lw_tbl := lw_at lw_m8 106 rfl
theorem q1915 : (Jvm.Cond.instanceMethod ({ cls := "LatestCoatModel", name := "drawsCoat", desc := "()I" } : Jvm.MethodName)) ∈ lw_all := lw_g (lw_at lw_m8 107 rfl) rfl
theorem q1916 : (Jvm.Cond.code ({ cls := "LatestCoatModel", name := "drawsCoat", desc := "()I" } : Jvm.MethodName) prog_17_method_118_code (3 : Nat) (Option.some Jvm.ClassFile.FieldType.int)) ∈ lw_all := lw_g (lw_at lw_m8 108 rfl) rfl
theorem q1917 : (Jvm.Cond.methodLink "LatestCoatModel" (558 : Nat) ({ cls := "LatestCoatModel", name := "draws", desc := "(I)I" } : Jvm.MethodName)) ∈ lw_all := lw_g (lw_at lw_m8 109 rfl) rfl
theorem q1918 : (Jvm.Cond.privateMethod ({ cls := "LatestCoatModel", name := "draws", desc := "(I)I" } : Jvm.MethodName)) ∈ lw_tbl := lw_at lw_m8 110 rfl
theorem q1919 : (Jvm.Cond.instanceMethod ({ cls := "LatestCoatModel", name := "draws", desc := "(I)I" } : Jvm.MethodName)) ∈ lw_all := lw_g (lw_at lw_m8 111 rfl) rfl
theorem q1920 : (Jvm.Cond.code ({ cls := "LatestCoatModel", name := "draws", desc := "(I)I" } : Jvm.MethodName) prog_17_method_117_code (2 : Nat) (Option.some Jvm.ClassFile.FieldType.int)) ∈ lw_all := lw_g (lw_at lw_m8 112 rfl) rfl
theorem q1921 : (Jvm.Cond.constantLong "LatestCoatModel" (551 : Nat) (1103515245 : Int64)) ∈ lw_all := lw_g (lw_at lw_m8 113 rfl) rfl
theorem q1922 : (Jvm.Cond.constantLong "LatestCoatModel" (553 : Nat) (12345 : Int64)) ∈ lw_all := lw_g (lw_at lw_m8 114 rfl) rfl
theorem q1923 : (Jvm.Cond.constantLong "LatestCoatModel" (555 : Nat) (2147483648 : Int64)) ∈ lw_all := lw_g (lw_at lw_m8 115 rfl) rfl
theorem q1924 : (Jvm.Cond.constant "LatestCoatModel" (557 : Nat) (65536 : Int32)) ∈ lw_all := lw_g (lw_at lw_m8 116 rfl) rfl
theorem q1926 : (Jvm.Cond.instanceMethod ({ cls := "LatestCoatModel", name := "count", desc := "(I)I" } : Jvm.MethodName)) ∈ lw_all := lw_g (lw_at lw_m8 118 rfl) rfl
theorem q1927 : (Jvm.Cond.selects "LatestCoatModel" ({ cls := "LatestCoatModel", name := "count", desc := "(I)I" } : Jvm.MethodName) ({ cls := "LatestCoatModel", name := "count", desc := "(I)I" } : Jvm.MethodName)) ∈ lw_all := lw_g (lw_at lw_m8 119 rfl) rfl
theorem q1928 : (Jvm.Cond.code ({ cls := "LatestCoatModel", name := "count", desc := "(I)I" } : Jvm.MethodName) prog_17_method_121_code (2 : Nat) (Option.some Jvm.ClassFile.FieldType.int)) ∈ lw_all := lw_g (lw_at lw_m8 120 rfl) rfl
theorem q1929 : (Jvm.Cond.methodLink "LatestCoatModel" (566 : Nat) ({ cls := "LatestCoatModel", name := "wetCells", desc := "()I" } : Jvm.MethodName)) ∈ lw_all := lw_g (lw_at lw_m8 121 rfl) rfl
theorem q1930 : (Jvm.Cond.privateMethod ({ cls := "LatestCoatModel", name := "wetCells", desc := "()I" } : Jvm.MethodName)) ∈ lw_tbl := lw_at lw_m8 122 rfl
theorem q1931 : (Jvm.Cond.instanceMethod ({ cls := "LatestCoatModel", name := "wetCells", desc := "()I" } : Jvm.MethodName)) ∈ lw_all := lw_g (lw_at lw_m8 123 rfl) rfl
theorem q1932 : (Jvm.Cond.code ({ cls := "LatestCoatModel", name := "wetCells", desc := "()I" } : Jvm.MethodName) prog_17_method_120_code (3 : Nat) (Option.some Jvm.ClassFile.FieldType.int)) ∈ lw_all := lw_g (lw_at lw_m8 124 rfl) rfl
theorem q1934 : (Jvm.Cond.instanceMethod ({ cls := "LatestCoatModel", name := "image", desc := "(I)I" } : Jvm.MethodName)) ∈ lw_all := lw_g (lw_at lw_m8 126 rfl) rfl
theorem q1935 : (Jvm.Cond.selects "LatestCoatModel" ({ cls := "LatestCoatModel", name := "image", desc := "(I)I" } : Jvm.MethodName) ({ cls := "LatestCoatModel", name := "image", desc := "(I)I" } : Jvm.MethodName)) ∈ lw_all := lw_g (lw_at lw_m8 127 rfl) rfl
theorem q1936 : (Jvm.Cond.code ({ cls := "LatestCoatModel", name := "image", desc := "(I)I" } : Jvm.MethodName) prog_17_method_124_code (2 : Nat) (Option.some Jvm.ClassFile.FieldType.int)) ∈ lw_all := lw_g (lw_at lw_m8 128 rfl) rfl
theorem q1937 : (Jvm.Cond.constantLong "LatestCoatModel" (578 : Nat) (3 : Int64)) ∈ lw_all := lw_g (lw_at lw_m8 129 rfl) rfl
theorem q1939 : (Jvm.Cond.instanceMethod ({ cls := "LatestCoatModel", name := "back", desc := "(I)I" } : Jvm.MethodName)) ∈ lw_all := lw_g (lw_at lw_m8 131 rfl) rfl
theorem q1940 : (Jvm.Cond.selects "LatestCoatModel" ({ cls := "LatestCoatModel", name := "back", desc := "(I)I" } : Jvm.MethodName) ({ cls := "LatestCoatModel", name := "back", desc := "(I)I" } : Jvm.MethodName)) ∈ lw_all := lw_g (lw_at lw_m8 132 rfl) rfl
theorem q1941 : (Jvm.Cond.code ({ cls := "LatestCoatModel", name := "back", desc := "(I)I" } : Jvm.MethodName) prog_17_method_125_code (2 : Nat) (Option.some Jvm.ClassFile.FieldType.int)) ∈ lw_all := lw_g (lw_at lw_m8 133 rfl) rfl
theorem in_X3 : ∀ w ∈ wsX30, w ∈ lw_all := lw_in wsX30 [1286, 1288, 1290, 1292, 1294, 1296, 1298, 1300, 1302, 1304, 1306, 1308, 1310, 1312, 1314, 1316, 1318, 1320, 1322, 1324, 1326, 1328, 1330, 1332, 1334, 1336, 1338, 1340, 1342, 1344, 1346, 1348, 1350, 1352, 1354, 1356, 1358, 1360, 1362, 1364, 1366, 1368, 1370, 1372, 1374, 1376, 1378, 1380, 1382, 1384, 1386, 1388, 1390, 1392, 1394, 1396, 1398, 1400, 1402, 1404, 1406, 1408, 1410, 1412, 1414] (by decide +kernel) (by decide +kernel)
