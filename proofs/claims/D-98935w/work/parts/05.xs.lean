/-! LatestCoat$Fault -/
set_option maxRecDepth 100000
def RX2 : String := "LatestCoat$Fault"
def TX2 : u_T := fun k => match k with
  | 0 => ("java/lang/Throwable", "cause", "Ljava/lang/Throwable;", false)
  | 1 => ("java/lang/Throwable", "stackTrace", "[Ljava/lang/StackTraceElement;", false)
  | 2 => ("java/lang/Throwable", "suppressedExceptions", "Ljava/util/List;", false)
  | 3 => ("java/lang/Throwable", "detailMessage", "Ljava/lang/String;", false)
  | 4 => ("java/lang/Throwable", "backtrace", "Ljava/lang/Object;", false)
  | 5 => ("java/lang/Throwable", "depth", "I", false)
  | 6 => ("LatestCoat$Fault", "kind", "I", false)
  | _ => ("LatestCoat$Fault", "place", "I", false)
def tyX2 : Nat → FieldType := fun k => match k with
  | 0 => .object "java/lang/Throwable"
  | 1 => .array (.object "java/lang/StackTraceElement")
  | 2 => .object "java/util/List"
  | 3 => .object "java/lang/String"
  | 4 => .object "java/lang/Object"
  | 5 => .int
  | 6 => .int
  | _ => .int
abbrev wsX20 : List Cond := u_ws RX2 TX2 8
theorem nmX2 : ∀ a, a < 8 → ∀ b, b < 8 → a ≠ b → (TX2 a).2.1 ≠ (TX2 b).2.1 := by decide +kernel
theorem tyX2_ok : ∀ k, k < 8 → parseFieldDescriptor (TX2 k).2.2.1 = some (tyX2 k) := by decide +kernel
abbrev cX2_init : ByteArray := prog_5_method_1_code
def yX2_init : MethodName := ⟨RX2, "<init>", "()V"⟩
def dkwX2_init_0 : List UInt8 := [42, 18, 1, 1, 3, 3, 183, 0, 3, 177]
abbrev dktX2_init_0 : List UInt8 := dkwX2_init_0 ++ []
theorem dksX2_init_0 : cX2_init.data.toList.drop 0 = dktX2_init_0 := by decide +kernel
theorem dX2_init_0 : decode cX2_init 0 = .ok (.aload_n 0, 1) := dk_42 (dk_at dksX2_init_0 0 rfl rfl)
theorem dX2_init_1 : decode cX2_init 1 = .ok (.ldc 1, 2) := dk_18 1 (dk_at dksX2_init_0 1 rfl rfl)
theorem dX2_init_3 : decode cX2_init 3 = .ok (.aconst_null, 1) := dk_1 (dk_at dksX2_init_0 3 rfl rfl)
theorem dX2_init_4 : decode cX2_init 4 = .ok (.iconst 0, 1) := dk_3 (dk_at dksX2_init_0 4 rfl rfl)
theorem dX2_init_5 : decode cX2_init 5 = .ok (.iconst 0, 1) := dk_3 (dk_at dksX2_init_0 5 rfl rfl)
theorem dX2_init_6 : decode cX2_init 6 = .ok (.invokespecial 3, 3) := dk_183 0 3 (dk_at dksX2_init_0 6 rfl rfl)
theorem dX2_init_9 : decode cX2_init 9 = .ok (.return_, 1) := dk_177 (dk_at dksX2_init_0 9 rfl rfl)
theorem q134 : (Jvm.Cond.initialized "LatestCoat$Fault") ∈ lw_all := lw_g (lw_at lw_m1 6 rfl) rfl
theorem q304 : (Jvm.Cond.instantiable "LatestCoat$Fault" (8 : Nat)) ∈ lw_all := lw_g (lw_at lw_m1 176 rfl) rfl
theorem q305 : (Jvm.Cond.castable "LatestCoat$Fault" "LatestCoat$Fault") ∈ lw_tbl := lw_at lw_m1 177 rfl
theorem q312 : (Jvm.Cond.selects "LatestCoat$Fault" ({ cls := "java/lang/Throwable", name := "fillInStackTrace", desc := "(I)Ljava/lang/Throwable;" } : Jvm.MethodName) ({ cls := "java/lang/Throwable", name := "fillInStackTrace", desc := "(I)Ljava/lang/Throwable;" } : Jvm.MethodName)) ∈ lw_all := lw_g (lw_at lw_m1 184 rfl) rfl
theorem q313 : (Jvm.Cond.selects "LatestCoat$Fault" ({ cls := "java/lang/Throwable", name := "fillInStackTrace", desc := "()Ljava/lang/Throwable;" } : Jvm.MethodName) ({ cls := "java/lang/Throwable", name := "fillInStackTrace", desc := "()Ljava/lang/Throwable;" } : Jvm.MethodName)) ∈ lw_all := lw_g (lw_at lw_m1 185 rfl) rfl
theorem q314 : (Jvm.Cond.lays "LatestCoat$Fault" "java/lang/Throwable" "cause" "Ljava/lang/Throwable;") ∈ lw_all := lw_g (lw_at lw_m1 186 rfl) rfl
theorem q316 : (Jvm.Cond.lays "LatestCoat$Fault" "java/lang/Throwable" "stackTrace" "[Ljava/lang/StackTraceElement;") ∈ lw_all := lw_g (lw_at lw_m1 188 rfl) rfl
theorem q318 : (Jvm.Cond.lays "LatestCoat$Fault" "java/lang/Throwable" "suppressedExceptions" "Ljava/util/List;") ∈ lw_all := lw_g (lw_at lw_m1 190 rfl) rfl
theorem q320 : (Jvm.Cond.lays "LatestCoat$Fault" "java/lang/Throwable" "detailMessage" "Ljava/lang/String;") ∈ lw_all := lw_g (lw_at lw_m1 192 rfl) rfl
theorem q322 : (Jvm.Cond.lays "LatestCoat$Fault" "java/lang/Throwable" "backtrace" "Ljava/lang/Object;") ∈ lw_all := lw_g (lw_at lw_m1 194 rfl) rfl
theorem q343 : (Jvm.Cond.instanceMethod ({ cls := "LatestCoat$Fault", name := "<init>", desc := "()V" } : Jvm.MethodName)) ∈ lw_all := lw_g (lw_at lw_m1 215 rfl) rfl
theorem q344 : (Jvm.Cond.code ({ cls := "LatestCoat$Fault", name := "<init>", desc := "()V" } : Jvm.MethodName) prog_5_method_1_code (1 : Nat) (Option.none : Option Jvm.ClassFile.FieldType)) ∈ lw_all := lw_g (lw_at lw_m1 216 rfl) rfl
theorem q345 : (Jvm.Cond.stringRef "LatestCoat$Fault" (1 : Nat) "fault") ∈ lw_tbl := lw_at lw_m1 217 rfl
theorem q346 : (Jvm.Cond.methodLink "LatestCoat$Fault" (3 : Nat) ({ cls := "java/lang/RuntimeException", name := "<init>", desc := "(Ljava/lang/String;Ljava/lang/Throwable;ZZ)V" } : Jvm.MethodName)) ∈ lw_all := lw_g (lw_at lw_m1 218 rfl) rfl
theorem q364 : (Jvm.Cond.lays "LatestCoat$Fault" "LatestCoat$Fault" "kind" "I") ∈ lw_all := lw_g (lw_at lw_m1 236 rfl) rfl
theorem q365 : (Jvm.Cond.soleField "LatestCoat$Fault" "kind") ∈ lw_all := lw_g (lw_at lw_m1 237 rfl) rfl
theorem q366 : (Jvm.Cond.lays "LatestCoat$Fault" "LatestCoat$Fault" "place" "I") ∈ lw_all := lw_g (lw_at lw_m1 238 rfl) rfl
theorem q367 : (Jvm.Cond.soleField "LatestCoat$Fault" "place") ∈ lw_all := lw_g (lw_at lw_m1 239 rfl) rfl
theorem q372 : (Jvm.Cond.lays "LatestCoat$Fault" "java/lang/Throwable" "depth" "I") ∈ lw_all := lw_g (lw_at lw_m2 4 rfl) rfl
theorem q375 : (Jvm.Cond.superclass "LatestCoat$Fault" "java/lang/RuntimeException") ∈ lw_all := lw_g (lw_at lw_m2 7 rfl) rfl
theorem in_X2 : ∀ w ∈ wsX20, w ∈ lw_all := lw_in wsX20 [314, 316, 318, 320, 322, 372, 364, 366] (by decide +kernel) (by decide +kernel)
/-! LatestCoat$Text -/
set_option maxRecDepth 100000
def RX4 : String := "LatestCoat$Text"
def TX4 : u_T := fun k => match k with
  | 0 => ("LatestCoat$Text", "words", "[Ljava/lang/String;", true)
  | 1 => ("LatestCoat$Text", "read", "LLatestCoat$Town;", true)
  | 2 => ("LatestCoat$Text", "next", "I", false)
  | 3 => ("LatestCoat$Text", "deep", "I", false)
  | 4 => ("LatestCoat$Text", "made", "I", false)
  | 5 => ("LatestCoat$Text", "many", "I", false)
  | _ => ("LatestCoat$Text", "this$0", "LLatestCoat;", true)
def tyX4 : Nat → FieldType := fun k => match k with
  | 0 => .array (.object "java/lang/String")
  | 1 => .object "LatestCoat$Town"
  | 2 => .int
  | 3 => .int
  | 4 => .int
  | 5 => .int
  | _ => .object "LatestCoat"
abbrev wsX40 : List Cond := u_ws RX4 TX4 7
theorem nmX4 : ∀ a, a < 7 → ∀ b, b < 7 → a ≠ b → (TX4 a).2.1 ≠ (TX4 b).2.1 := by decide +kernel
theorem tyX4_ok : ∀ k, k < 7 → parseFieldDescriptor (TX4 k).2.2.1 = some (tyX4 k) := by decide +kernel
abbrev cX4_init : ByteArray := prog_12_method_1_code
def yX4_init : MethodName := ⟨RX4, "<init>", "(LLatestCoat;)V"⟩
def dkwX4_init_1 : List UInt8 := [180, 0, 3, 180, 0, 22, 181, 0, 26, 177]
abbrev dktX4_init_1 : List UInt8 := dkwX4_init_1 ++ []
def dkwX4_init_0 : List UInt8 := [42, 43, 181, 0, 3, 42, 183, 0, 9, 42, 42, 180, 0, 3, 180, 0, 15, 181, 0, 19, 42, 42]
abbrev dktX4_init_0 : List UInt8 := dkwX4_init_0 ++ dktX4_init_1
theorem dksX4_init_0 : cX4_init.data.toList.drop 0 = dktX4_init_0 := by decide +kernel
theorem dksX4_init_1 : cX4_init.data.toList.drop 22 = dktX4_init_1 := dk_seg dksX4_init_0 22 rfl rfl
theorem dX4_init_0 : decode cX4_init 0 = .ok (.aload_n 0, 1) := dk_42 (dk_at dksX4_init_0 0 rfl rfl)
theorem dX4_init_1 : decode cX4_init 1 = .ok (.aload_n 1, 1) := dk_43 (dk_at dksX4_init_0 1 rfl rfl)
theorem dX4_init_2 : decode cX4_init 2 = .ok (.putfield 3, 3) := dk_181 0 3 (dk_at dksX4_init_0 2 rfl rfl)
theorem dX4_init_5 : decode cX4_init 5 = .ok (.aload_n 0, 1) := dk_42 (dk_at dksX4_init_0 5 rfl rfl)
theorem dX4_init_6 : decode cX4_init 6 = .ok (.invokespecial 9, 3) := dk_183 0 9 (dk_at dksX4_init_0 6 rfl rfl)
theorem dX4_init_9 : decode cX4_init 9 = .ok (.aload_n 0, 1) := dk_42 (dk_at dksX4_init_0 9 rfl rfl)
theorem dX4_init_10 : decode cX4_init 10 = .ok (.aload_n 0, 1) := dk_42 (dk_at dksX4_init_0 10 rfl rfl)
theorem dX4_init_11 : decode cX4_init 11 = .ok (.getfield 3, 3) := dk_180 0 3 (dk_at dksX4_init_0 11 rfl rfl)
theorem dX4_init_14 : decode cX4_init 14 = .ok (.getfield 15, 3) := dk_180 0 15 (dk_at dksX4_init_0 14 rfl rfl)
theorem dX4_init_17 : decode cX4_init 17 = .ok (.putfield 19, 3) := dk_181 0 19 (dk_at dksX4_init_0 17 rfl rfl)
theorem dX4_init_20 : decode cX4_init 20 = .ok (.aload_n 0, 1) := dk_42 (dk_at dksX4_init_0 20 rfl rfl)
theorem dX4_init_21 : decode cX4_init 21 = .ok (.aload_n 0, 1) := dk_42 (dk_at dksX4_init_0 21 rfl rfl)
theorem dX4_init_22 : decode cX4_init 22 = .ok (.getfield 3, 3) := dk_180 0 3 (dk_at dksX4_init_1 0 rfl rfl)
theorem dX4_init_25 : decode cX4_init 25 = .ok (.getfield 22, 3) := dk_180 0 22 (dk_at dksX4_init_1 3 rfl rfl)
theorem dX4_init_28 : decode cX4_init 28 = .ok (.putfield 26, 3) := dk_181 0 26 (dk_at dksX4_init_1 6 rfl rfl)
theorem dX4_init_31 : decode cX4_init 31 = .ok (.return_, 1) := dk_177 (dk_at dksX4_init_1 9 rfl rfl)
abbrev cX4_streetTold : ByteArray := prog_12_method_19_code
def yX4_streetTold : MethodName := ⟨RX4, "streetTold", "()LLatestCoat$Town;"⟩
def dkwX4_streetTold_5 : List UInt8 := [182, 0, 201, 42, 180, 0, 26, 176]
abbrev dktX4_streetTold_5 : List UInt8 := dkwX4_streetTold_5 ++ []
def dkwX4_streetTold_4 : List UInt8 := [42, 28, 182, 0, 191, 42, 16, 59, 182, 0, 195, 154, 255, 165, 42, 182, 0, 198, 42, 180, 0, 26]
abbrev dktX4_streetTold_4 : List UInt8 := dkwX4_streetTold_4 ++ dktX4_streetTold_5
def dkwX4_streetTold_3 : List UInt8 := [181, 0, 90, 42, 89, 180, 0, 42, 42, 180, 0, 3, 180, 0, 181, 28, 50, 182, 0, 59, 96, 181, 0, 42]
abbrev dktX4_streetTold_3 : List UInt8 := dkwX4_streetTold_3 ++ dktX4_streetTold_4
def dkwX4_streetTold_2 : List UInt8 := [3, 27, 182, 0, 76, 42, 42, 28, 182, 0, 188, 7, 27, 182, 0, 76, 42, 89, 180, 0, 90, 4, 96]
abbrev dktX4_streetTold_2 : List UInt8 := dkwX4_streetTold_2 ++ dktX4_streetTold_3
def dkwX4_streetTold_1 : List UInt8 := [60, 42, 42, 180, 0, 3, 180, 0, 181, 182, 0, 184, 61, 42, 28, 2, 159, 0, 7, 4, 167, 0, 4, 3]
abbrev dktX4_streetTold_1 : List UInt8 := dkwX4_streetTold_1 ++ dktX4_streetTold_2
def dkwX4_streetTold_0 : List UInt8 := [42, 180, 0, 26, 42, 180, 0, 3, 180, 0, 174, 182, 0, 177, 87, 42, 182, 0, 52, 87, 42, 180, 0, 42]
abbrev dktX4_streetTold_0 : List UInt8 := dkwX4_streetTold_0 ++ dktX4_streetTold_1
theorem dksX4_streetTold_0 : cX4_streetTold.data.toList.drop 0 = dktX4_streetTold_0 := by decide +kernel
theorem dksX4_streetTold_1 : cX4_streetTold.data.toList.drop 24 = dktX4_streetTold_1 := dk_seg dksX4_streetTold_0 24 rfl rfl
theorem dksX4_streetTold_2 : cX4_streetTold.data.toList.drop 48 = dktX4_streetTold_2 := dk_seg dksX4_streetTold_1 24 rfl rfl
theorem dksX4_streetTold_3 : cX4_streetTold.data.toList.drop 71 = dktX4_streetTold_3 := dk_seg dksX4_streetTold_2 23 rfl rfl
theorem dksX4_streetTold_4 : cX4_streetTold.data.toList.drop 95 = dktX4_streetTold_4 := dk_seg dksX4_streetTold_3 24 rfl rfl
theorem dksX4_streetTold_5 : cX4_streetTold.data.toList.drop 117 = dktX4_streetTold_5 := dk_seg dksX4_streetTold_4 22 rfl rfl
theorem dX4_streetTold_0 : decode cX4_streetTold 0 = .ok (.aload_n 0, 1) := dk_42 (dk_at dksX4_streetTold_0 0 rfl rfl)
theorem dX4_streetTold_1 : decode cX4_streetTold 1 = .ok (.getfield 26, 3) := dk_180 0 26 (dk_at dksX4_streetTold_0 1 rfl rfl)
theorem dX4_streetTold_4 : decode cX4_streetTold 4 = .ok (.aload_n 0, 1) := dk_42 (dk_at dksX4_streetTold_0 4 rfl rfl)
theorem dX4_streetTold_5 : decode cX4_streetTold 5 = .ok (.getfield 3, 3) := dk_180 0 3 (dk_at dksX4_streetTold_0 5 rfl rfl)
theorem dX4_streetTold_8 : decode cX4_streetTold 8 = .ok (.getfield 174, 3) := dk_180 0 174 (dk_at dksX4_streetTold_0 8 rfl rfl)
theorem dX4_streetTold_11 : decode cX4_streetTold 11 = .ok (.invokevirtual 177, 3) := dk_182 0 177 (dk_at dksX4_streetTold_0 11 rfl rfl)
theorem dX4_streetTold_14 : decode cX4_streetTold 14 = .ok (.pop, 1) := dk_87 (dk_at dksX4_streetTold_0 14 rfl rfl)
theorem dX4_streetTold_15 : decode cX4_streetTold 15 = .ok (.aload_n 0, 1) := dk_42 (dk_at dksX4_streetTold_0 15 rfl rfl)
theorem dX4_streetTold_16 : decode cX4_streetTold 16 = .ok (.invokevirtual 52, 3) := dk_182 0 52 (dk_at dksX4_streetTold_0 16 rfl rfl)
theorem dX4_streetTold_19 : decode cX4_streetTold 19 = .ok (.pop, 1) := dk_87 (dk_at dksX4_streetTold_0 19 rfl rfl)
theorem dX4_streetTold_20 : decode cX4_streetTold 20 = .ok (.aload_n 0, 1) := dk_42 (dk_at dksX4_streetTold_0 20 rfl rfl)
theorem dX4_streetTold_21 : decode cX4_streetTold 21 = .ok (.getfield 42, 3) := dk_180 0 42 (dk_at dksX4_streetTold_0 21 rfl rfl)
theorem dX4_streetTold_24 : decode cX4_streetTold 24 = .ok (.istore_n 1, 1) := dk_60 (dk_at dksX4_streetTold_1 0 rfl rfl)
theorem dX4_streetTold_25 : decode cX4_streetTold 25 = .ok (.aload_n 0, 1) := dk_42 (dk_at dksX4_streetTold_1 1 rfl rfl)
theorem dX4_streetTold_26 : decode cX4_streetTold 26 = .ok (.aload_n 0, 1) := dk_42 (dk_at dksX4_streetTold_1 2 rfl rfl)
theorem dX4_streetTold_27 : decode cX4_streetTold 27 = .ok (.getfield 3, 3) := dk_180 0 3 (dk_at dksX4_streetTold_1 3 rfl rfl)
theorem dX4_streetTold_30 : decode cX4_streetTold 30 = .ok (.getfield 181, 3) := dk_180 0 181 (dk_at dksX4_streetTold_1 6 rfl rfl)
theorem dX4_streetTold_33 : decode cX4_streetTold 33 = .ok (.invokevirtual 184, 3) := dk_182 0 184 (dk_at dksX4_streetTold_1 9 rfl rfl)
theorem dX4_streetTold_36 : decode cX4_streetTold 36 = .ok (.istore_n 2, 1) := dk_61 (dk_at dksX4_streetTold_1 12 rfl rfl)
theorem dX4_streetTold_37 : decode cX4_streetTold 37 = .ok (.aload_n 0, 1) := dk_42 (dk_at dksX4_streetTold_1 13 rfl rfl)
theorem dX4_streetTold_38 : decode cX4_streetTold 38 = .ok (.iload_n 2, 1) := dk_28 (dk_at dksX4_streetTold_1 14 rfl rfl)
theorem dX4_streetTold_39 : decode cX4_streetTold 39 = .ok (.iconst (-1), 1) := dk_2 (dk_at dksX4_streetTold_1 15 rfl rfl)
theorem dX4_streetTold_40 : decode cX4_streetTold 40 = .ok (.if_icmp .eq 7, 3) := dk_159 0 7 (dk_at dksX4_streetTold_1 16 rfl rfl)
theorem dX4_streetTold_43 : decode cX4_streetTold 43 = .ok (.iconst 1, 1) := dk_4 (dk_at dksX4_streetTold_1 19 rfl rfl)
theorem dX4_streetTold_44 : decode cX4_streetTold 44 = .ok (.goto 4, 3) := dk_167 0 4 (dk_at dksX4_streetTold_1 20 rfl rfl)
theorem dX4_streetTold_47 : decode cX4_streetTold 47 = .ok (.iconst 0, 1) := dk_3 (dk_at dksX4_streetTold_1 23 rfl rfl)
theorem dX4_streetTold_48 : decode cX4_streetTold 48 = .ok (.iconst 0, 1) := dk_3 (dk_at dksX4_streetTold_2 0 rfl rfl)
theorem dX4_streetTold_49 : decode cX4_streetTold 49 = .ok (.iload_n 1, 1) := dk_27 (dk_at dksX4_streetTold_2 1 rfl rfl)
theorem dX4_streetTold_50 : decode cX4_streetTold 50 = .ok (.invokevirtual 76, 3) := dk_182 0 76 (dk_at dksX4_streetTold_2 2 rfl rfl)
theorem dX4_streetTold_53 : decode cX4_streetTold 53 = .ok (.aload_n 0, 1) := dk_42 (dk_at dksX4_streetTold_2 5 rfl rfl)
theorem dX4_streetTold_54 : decode cX4_streetTold 54 = .ok (.aload_n 0, 1) := dk_42 (dk_at dksX4_streetTold_2 6 rfl rfl)
theorem dX4_streetTold_55 : decode cX4_streetTold 55 = .ok (.iload_n 2, 1) := dk_28 (dk_at dksX4_streetTold_2 7 rfl rfl)
theorem dX4_streetTold_56 : decode cX4_streetTold 56 = .ok (.invokevirtual 188, 3) := dk_182 0 188 (dk_at dksX4_streetTold_2 8 rfl rfl)
theorem dX4_streetTold_59 : decode cX4_streetTold 59 = .ok (.iconst 4, 1) := dk_7 (dk_at dksX4_streetTold_2 11 rfl rfl)
theorem dX4_streetTold_60 : decode cX4_streetTold 60 = .ok (.iload_n 1, 1) := dk_27 (dk_at dksX4_streetTold_2 12 rfl rfl)
theorem dX4_streetTold_61 : decode cX4_streetTold 61 = .ok (.invokevirtual 76, 3) := dk_182 0 76 (dk_at dksX4_streetTold_2 13 rfl rfl)
theorem dX4_streetTold_64 : decode cX4_streetTold 64 = .ok (.aload_n 0, 1) := dk_42 (dk_at dksX4_streetTold_2 16 rfl rfl)
theorem dX4_streetTold_65 : decode cX4_streetTold 65 = .ok (.dup, 1) := dk_89 (dk_at dksX4_streetTold_2 17 rfl rfl)
theorem dX4_streetTold_66 : decode cX4_streetTold 66 = .ok (.getfield 90, 3) := dk_180 0 90 (dk_at dksX4_streetTold_2 18 rfl rfl)
theorem dX4_streetTold_69 : decode cX4_streetTold 69 = .ok (.iconst 1, 1) := dk_4 (dk_at dksX4_streetTold_2 21 rfl rfl)
theorem dX4_streetTold_70 : decode cX4_streetTold 70 = .ok (.iadd, 1) := dk_96 (dk_at dksX4_streetTold_2 22 rfl rfl)
theorem dX4_streetTold_71 : decode cX4_streetTold 71 = .ok (.putfield 90, 3) := dk_181 0 90 (dk_at dksX4_streetTold_3 0 rfl rfl)
theorem dX4_streetTold_74 : decode cX4_streetTold 74 = .ok (.aload_n 0, 1) := dk_42 (dk_at dksX4_streetTold_3 3 rfl rfl)
theorem dX4_streetTold_75 : decode cX4_streetTold 75 = .ok (.dup, 1) := dk_89 (dk_at dksX4_streetTold_3 4 rfl rfl)
theorem dX4_streetTold_76 : decode cX4_streetTold 76 = .ok (.getfield 42, 3) := dk_180 0 42 (dk_at dksX4_streetTold_3 5 rfl rfl)
theorem dX4_streetTold_79 : decode cX4_streetTold 79 = .ok (.aload_n 0, 1) := dk_42 (dk_at dksX4_streetTold_3 8 rfl rfl)
theorem dX4_streetTold_80 : decode cX4_streetTold 80 = .ok (.getfield 3, 3) := dk_180 0 3 (dk_at dksX4_streetTold_3 9 rfl rfl)
theorem dX4_streetTold_83 : decode cX4_streetTold 83 = .ok (.getfield 181, 3) := dk_180 0 181 (dk_at dksX4_streetTold_3 12 rfl rfl)
theorem dX4_streetTold_86 : decode cX4_streetTold 86 = .ok (.iload_n 2, 1) := dk_28 (dk_at dksX4_streetTold_3 15 rfl rfl)
theorem dX4_streetTold_87 : decode cX4_streetTold 87 = .ok (.aaload, 1) := dk_50 (dk_at dksX4_streetTold_3 16 rfl rfl)
theorem dX4_streetTold_88 : decode cX4_streetTold 88 = .ok (.invokevirtual 59, 3) := dk_182 0 59 (dk_at dksX4_streetTold_3 17 rfl rfl)
theorem dX4_streetTold_91 : decode cX4_streetTold 91 = .ok (.iadd, 1) := dk_96 (dk_at dksX4_streetTold_3 20 rfl rfl)
theorem dX4_streetTold_92 : decode cX4_streetTold 92 = .ok (.putfield 42, 3) := dk_181 0 42 (dk_at dksX4_streetTold_3 21 rfl rfl)
theorem dX4_streetTold_95 : decode cX4_streetTold 95 = .ok (.aload_n 0, 1) := dk_42 (dk_at dksX4_streetTold_4 0 rfl rfl)
theorem dX4_streetTold_96 : decode cX4_streetTold 96 = .ok (.iload_n 2, 1) := dk_28 (dk_at dksX4_streetTold_4 1 rfl rfl)
theorem dX4_streetTold_97 : decode cX4_streetTold 97 = .ok (.invokevirtual 191, 3) := dk_182 0 191 (dk_at dksX4_streetTold_4 2 rfl rfl)
theorem dX4_streetTold_100 : decode cX4_streetTold 100 = .ok (.aload_n 0, 1) := dk_42 (dk_at dksX4_streetTold_4 5 rfl rfl)
theorem dX4_streetTold_101 : decode cX4_streetTold 101 = .ok (.bipush 59, 2) := dk_16 59 (dk_at dksX4_streetTold_4 6 rfl rfl)
theorem dX4_streetTold_103 : decode cX4_streetTold 103 = .ok (.invokevirtual 195, 3) := dk_182 0 195 (dk_at dksX4_streetTold_4 8 rfl rfl)
theorem dX4_streetTold_106 : decode cX4_streetTold 106 = .ok (.ifCond .ne (-91), 3) := dk_154 255 165 (dk_at dksX4_streetTold_4 11 rfl rfl)
theorem dX4_streetTold_109 : decode cX4_streetTold 109 = .ok (.aload_n 0, 1) := dk_42 (dk_at dksX4_streetTold_4 14 rfl rfl)
theorem dX4_streetTold_110 : decode cX4_streetTold 110 = .ok (.invokevirtual 198, 3) := dk_182 0 198 (dk_at dksX4_streetTold_4 15 rfl rfl)
theorem dX4_streetTold_113 : decode cX4_streetTold 113 = .ok (.aload_n 0, 1) := dk_42 (dk_at dksX4_streetTold_4 18 rfl rfl)
theorem dX4_streetTold_114 : decode cX4_streetTold 114 = .ok (.getfield 26, 3) := dk_180 0 26 (dk_at dksX4_streetTold_4 19 rfl rfl)
theorem dX4_streetTold_117 : decode cX4_streetTold 117 = .ok (.invokevirtual 201, 3) := dk_182 0 201 (dk_at dksX4_streetTold_5 0 rfl rfl)
theorem dX4_streetTold_120 : decode cX4_streetTold 120 = .ok (.aload_n 0, 1) := dk_42 (dk_at dksX4_streetTold_5 3 rfl rfl)
theorem dX4_streetTold_121 : decode cX4_streetTold 121 = .ok (.getfield 26, 3) := dk_180 0 26 (dk_at dksX4_streetTold_5 4 rfl rfl)
theorem dX4_streetTold_124 : decode cX4_streetTold 124 = .ok (.areturn, 1) := dk_176 (dk_at dksX4_streetTold_5 7 rfl rfl)
abbrev cX4_see : ByteArray := prog_12_method_3_code
def yX4_see : MethodName := ⟨RX4, "see", "()I"⟩
def dkwX4_see_3 : List UInt8 := [51, 17, 0, 255, 126, 167, 0, 4, 2, 172]
abbrev dktX4_see_3 : List UInt8 := dkwX4_see_3 ++ []
def dkwX4_see_2 : List UInt8 := [180, 0, 42, 42, 180, 0, 3, 180, 0, 45, 162, 0, 22, 42, 180, 0, 3, 180, 0, 48, 42, 180, 0, 42]
abbrev dktX4_see_2 : List UInt8 := dkwX4_see_2 ++ dktX4_see_3
def dkwX4_see_1 : List UInt8 := [180, 0, 42, 51, 16, 32, 160, 0, 16, 42, 89, 180, 0, 42, 4, 96, 181, 0, 42, 167, 255, 215, 42]
abbrev dktX4_see_1 : List UInt8 := dkwX4_see_1 ++ dktX4_see_2
def dkwX4_see_0 : List UInt8 := [42, 180, 0, 42, 42, 180, 0, 3, 180, 0, 45, 162, 0, 33, 42, 180, 0, 3, 180, 0, 48, 42]
abbrev dktX4_see_0 : List UInt8 := dkwX4_see_0 ++ dktX4_see_1
theorem dksX4_see_0 : cX4_see.data.toList.drop 0 = dktX4_see_0 := by decide +kernel
theorem dksX4_see_1 : cX4_see.data.toList.drop 22 = dktX4_see_1 := dk_seg dksX4_see_0 22 rfl rfl
theorem dksX4_see_2 : cX4_see.data.toList.drop 45 = dktX4_see_2 := dk_seg dksX4_see_1 23 rfl rfl
theorem dksX4_see_3 : cX4_see.data.toList.drop 69 = dktX4_see_3 := dk_seg dksX4_see_2 24 rfl rfl
theorem dX4_see_0 : decode cX4_see 0 = .ok (.aload_n 0, 1) := dk_42 (dk_at dksX4_see_0 0 rfl rfl)
theorem dX4_see_1 : decode cX4_see 1 = .ok (.getfield 42, 3) := dk_180 0 42 (dk_at dksX4_see_0 1 rfl rfl)
theorem dX4_see_4 : decode cX4_see 4 = .ok (.aload_n 0, 1) := dk_42 (dk_at dksX4_see_0 4 rfl rfl)
theorem dX4_see_5 : decode cX4_see 5 = .ok (.getfield 3, 3) := dk_180 0 3 (dk_at dksX4_see_0 5 rfl rfl)
theorem dX4_see_8 : decode cX4_see 8 = .ok (.getfield 45, 3) := dk_180 0 45 (dk_at dksX4_see_0 8 rfl rfl)
theorem dX4_see_11 : decode cX4_see 11 = .ok (.if_icmp .ge 33, 3) := dk_162 0 33 (dk_at dksX4_see_0 11 rfl rfl)
theorem dX4_see_14 : decode cX4_see 14 = .ok (.aload_n 0, 1) := dk_42 (dk_at dksX4_see_0 14 rfl rfl)
theorem dX4_see_15 : decode cX4_see 15 = .ok (.getfield 3, 3) := dk_180 0 3 (dk_at dksX4_see_0 15 rfl rfl)
theorem dX4_see_18 : decode cX4_see 18 = .ok (.getfield 48, 3) := dk_180 0 48 (dk_at dksX4_see_0 18 rfl rfl)
theorem dX4_see_21 : decode cX4_see 21 = .ok (.aload_n 0, 1) := dk_42 (dk_at dksX4_see_0 21 rfl rfl)
theorem dX4_see_22 : decode cX4_see 22 = .ok (.getfield 42, 3) := dk_180 0 42 (dk_at dksX4_see_1 0 rfl rfl)
theorem dX4_see_25 : decode cX4_see 25 = .ok (.baload, 1) := dk_51 (dk_at dksX4_see_1 3 rfl rfl)
theorem dX4_see_26 : decode cX4_see 26 = .ok (.bipush 32, 2) := dk_16 32 (dk_at dksX4_see_1 4 rfl rfl)
theorem dX4_see_28 : decode cX4_see 28 = .ok (.if_icmp .ne 16, 3) := dk_160 0 16 (dk_at dksX4_see_1 6 rfl rfl)
theorem dX4_see_31 : decode cX4_see 31 = .ok (.aload_n 0, 1) := dk_42 (dk_at dksX4_see_1 9 rfl rfl)
theorem dX4_see_32 : decode cX4_see 32 = .ok (.dup, 1) := dk_89 (dk_at dksX4_see_1 10 rfl rfl)
theorem dX4_see_33 : decode cX4_see 33 = .ok (.getfield 42, 3) := dk_180 0 42 (dk_at dksX4_see_1 11 rfl rfl)
theorem dX4_see_36 : decode cX4_see 36 = .ok (.iconst 1, 1) := dk_4 (dk_at dksX4_see_1 14 rfl rfl)
theorem dX4_see_37 : decode cX4_see 37 = .ok (.iadd, 1) := dk_96 (dk_at dksX4_see_1 15 rfl rfl)
theorem dX4_see_38 : decode cX4_see 38 = .ok (.putfield 42, 3) := dk_181 0 42 (dk_at dksX4_see_1 16 rfl rfl)
theorem dX4_see_41 : decode cX4_see 41 = .ok (.goto (-41), 3) := dk_167 255 215 (dk_at dksX4_see_1 19 rfl rfl)
theorem dX4_see_44 : decode cX4_see 44 = .ok (.aload_n 0, 1) := dk_42 (dk_at dksX4_see_1 22 rfl rfl)
theorem dX4_see_45 : decode cX4_see 45 = .ok (.getfield 42, 3) := dk_180 0 42 (dk_at dksX4_see_2 0 rfl rfl)
theorem dX4_see_48 : decode cX4_see 48 = .ok (.aload_n 0, 1) := dk_42 (dk_at dksX4_see_2 3 rfl rfl)
theorem dX4_see_49 : decode cX4_see 49 = .ok (.getfield 3, 3) := dk_180 0 3 (dk_at dksX4_see_2 4 rfl rfl)
theorem dX4_see_52 : decode cX4_see 52 = .ok (.getfield 45, 3) := dk_180 0 45 (dk_at dksX4_see_2 7 rfl rfl)
theorem dX4_see_55 : decode cX4_see 55 = .ok (.if_icmp .ge 22, 3) := dk_162 0 22 (dk_at dksX4_see_2 10 rfl rfl)
theorem dX4_see_58 : decode cX4_see 58 = .ok (.aload_n 0, 1) := dk_42 (dk_at dksX4_see_2 13 rfl rfl)
theorem dX4_see_59 : decode cX4_see 59 = .ok (.getfield 3, 3) := dk_180 0 3 (dk_at dksX4_see_2 14 rfl rfl)
theorem dX4_see_62 : decode cX4_see 62 = .ok (.getfield 48, 3) := dk_180 0 48 (dk_at dksX4_see_2 17 rfl rfl)
theorem dX4_see_65 : decode cX4_see 65 = .ok (.aload_n 0, 1) := dk_42 (dk_at dksX4_see_2 20 rfl rfl)
theorem dX4_see_66 : decode cX4_see 66 = .ok (.getfield 42, 3) := dk_180 0 42 (dk_at dksX4_see_2 21 rfl rfl)
theorem dX4_see_69 : decode cX4_see 69 = .ok (.baload, 1) := dk_51 (dk_at dksX4_see_3 0 rfl rfl)
theorem dX4_see_70 : decode cX4_see 70 = .ok (.sipush 255, 3) := dk_17 0 255 (dk_at dksX4_see_3 1 rfl rfl)
theorem dX4_see_73 : decode cX4_see 73 = .ok (.iand, 1) := dk_126 (dk_at dksX4_see_3 4 rfl rfl)
theorem dX4_see_74 : decode cX4_see 74 = .ok (.goto 4, 3) := dk_167 0 4 (dk_at dksX4_see_3 5 rfl rfl)
theorem dX4_see_77 : decode cX4_see 77 = .ok (.iconst (-1), 1) := dk_2 (dk_at dksX4_see_3 8 rfl rfl)
theorem dX4_see_78 : decode cX4_see 78 = .ok (.ireturn, 1) := dk_172 (dk_at dksX4_see_3 9 rfl rfl)
abbrev cX4_oneOf : ByteArray := prog_12_method_8_code
def yX4_oneOf : MethodName := ⟨RX4, "oneOf", "([Ljava/lang/String;)I"⟩
def dkwX4_oneOf_1 : List UInt8 := [167, 255, 235, 2, 172]
abbrev dktX4_oneOf_1 : List UInt8 := dkwX4_oneOf_1 ++ []
def dkwX4_oneOf_0 : List UInt8 := [3, 61, 28, 43, 190, 162, 0, 21, 42, 43, 28, 50, 182, 0, 68, 153, 0, 5, 28, 172, 132, 2, 1]
abbrev dktX4_oneOf_0 : List UInt8 := dkwX4_oneOf_0 ++ dktX4_oneOf_1
theorem dksX4_oneOf_0 : cX4_oneOf.data.toList.drop 0 = dktX4_oneOf_0 := by decide +kernel
theorem dksX4_oneOf_1 : cX4_oneOf.data.toList.drop 23 = dktX4_oneOf_1 := dk_seg dksX4_oneOf_0 23 rfl rfl
theorem dX4_oneOf_0 : decode cX4_oneOf 0 = .ok (.iconst 0, 1) := dk_3 (dk_at dksX4_oneOf_0 0 rfl rfl)
theorem dX4_oneOf_1 : decode cX4_oneOf 1 = .ok (.istore_n 2, 1) := dk_61 (dk_at dksX4_oneOf_0 1 rfl rfl)
theorem dX4_oneOf_2 : decode cX4_oneOf 2 = .ok (.iload_n 2, 1) := dk_28 (dk_at dksX4_oneOf_0 2 rfl rfl)
theorem dX4_oneOf_3 : decode cX4_oneOf 3 = .ok (.aload_n 1, 1) := dk_43 (dk_at dksX4_oneOf_0 3 rfl rfl)
theorem dX4_oneOf_4 : decode cX4_oneOf 4 = .ok (.arraylength, 1) := dk_190 (dk_at dksX4_oneOf_0 4 rfl rfl)
theorem dX4_oneOf_5 : decode cX4_oneOf 5 = .ok (.if_icmp .ge 21, 3) := dk_162 0 21 (dk_at dksX4_oneOf_0 5 rfl rfl)
theorem dX4_oneOf_8 : decode cX4_oneOf 8 = .ok (.aload_n 0, 1) := dk_42 (dk_at dksX4_oneOf_0 8 rfl rfl)
theorem dX4_oneOf_9 : decode cX4_oneOf 9 = .ok (.aload_n 1, 1) := dk_43 (dk_at dksX4_oneOf_0 9 rfl rfl)
theorem dX4_oneOf_10 : decode cX4_oneOf 10 = .ok (.iload_n 2, 1) := dk_28 (dk_at dksX4_oneOf_0 10 rfl rfl)
theorem dX4_oneOf_11 : decode cX4_oneOf 11 = .ok (.aaload, 1) := dk_50 (dk_at dksX4_oneOf_0 11 rfl rfl)
theorem dX4_oneOf_12 : decode cX4_oneOf 12 = .ok (.invokevirtual 68, 3) := dk_182 0 68 (dk_at dksX4_oneOf_0 12 rfl rfl)
theorem dX4_oneOf_15 : decode cX4_oneOf 15 = .ok (.ifCond .eq 5, 3) := dk_153 0 5 (dk_at dksX4_oneOf_0 15 rfl rfl)
theorem dX4_oneOf_18 : decode cX4_oneOf 18 = .ok (.iload_n 2, 1) := dk_28 (dk_at dksX4_oneOf_0 18 rfl rfl)
theorem dX4_oneOf_19 : decode cX4_oneOf 19 = .ok (.ireturn, 1) := dk_172 (dk_at dksX4_oneOf_0 19 rfl rfl)
theorem dX4_oneOf_20 : decode cX4_oneOf 20 = .ok (.iinc 2 1, 3) := dk_132 2 1 (dk_at dksX4_oneOf_0 20 rfl rfl)
theorem dX4_oneOf_23 : decode cX4_oneOf 23 = .ok (.goto (-21), 3) := dk_167 255 235 (dk_at dksX4_oneOf_1 0 rfl rfl)
theorem dX4_oneOf_26 : decode cX4_oneOf 26 = .ok (.iconst (-1), 1) := dk_2 (dk_at dksX4_oneOf_1 3 rfl rfl)
theorem dX4_oneOf_27 : decode cX4_oneOf 27 = .ok (.ireturn, 1) := dk_172 (dk_at dksX4_oneOf_1 4 rfl rfl)
abbrev cX4_isWord : ByteArray := prog_12_method_6_code
def yX4_isWord : MethodName := ⟨RX4, "isWord", "(Ljava/lang/String;)Z"⟩
def dkwX4_isWord_2 : List UInt8 := [180, 0, 42, 21, 4, 96, 51, 160, 0, 7, 4, 167, 0, 4, 3, 62, 132, 4, 1, 167, 255, 213, 29, 172]
abbrev dktX4_isWord_2 : List UInt8 := dkwX4_isWord_2 ++ []
def dkwX4_isWord_1 : List UInt8 := [153, 0, 45, 21, 4, 28, 162, 0, 39, 43, 21, 4, 182, 0, 64, 42, 180, 0, 3, 180, 0, 48, 42]
abbrev dktX4_isWord_1 : List UInt8 := dkwX4_isWord_1 ++ dktX4_isWord_2
def dkwX4_isWord_0 : List UInt8 := [42, 182, 0, 56, 61, 28, 43, 182, 0, 59, 160, 0, 7, 4, 167, 0, 4, 3, 62, 3, 54, 4, 29]
abbrev dktX4_isWord_0 : List UInt8 := dkwX4_isWord_0 ++ dktX4_isWord_1
theorem dksX4_isWord_0 : cX4_isWord.data.toList.drop 0 = dktX4_isWord_0 := by decide +kernel
theorem dksX4_isWord_1 : cX4_isWord.data.toList.drop 23 = dktX4_isWord_1 := dk_seg dksX4_isWord_0 23 rfl rfl
theorem dksX4_isWord_2 : cX4_isWord.data.toList.drop 46 = dktX4_isWord_2 := dk_seg dksX4_isWord_1 23 rfl rfl
theorem dX4_isWord_0 : decode cX4_isWord 0 = .ok (.aload_n 0, 1) := dk_42 (dk_at dksX4_isWord_0 0 rfl rfl)
theorem dX4_isWord_1 : decode cX4_isWord 1 = .ok (.invokevirtual 56, 3) := dk_182 0 56 (dk_at dksX4_isWord_0 1 rfl rfl)
theorem dX4_isWord_4 : decode cX4_isWord 4 = .ok (.istore_n 2, 1) := dk_61 (dk_at dksX4_isWord_0 4 rfl rfl)
theorem dX4_isWord_5 : decode cX4_isWord 5 = .ok (.iload_n 2, 1) := dk_28 (dk_at dksX4_isWord_0 5 rfl rfl)
theorem dX4_isWord_6 : decode cX4_isWord 6 = .ok (.aload_n 1, 1) := dk_43 (dk_at dksX4_isWord_0 6 rfl rfl)
theorem dX4_isWord_7 : decode cX4_isWord 7 = .ok (.invokevirtual 59, 3) := dk_182 0 59 (dk_at dksX4_isWord_0 7 rfl rfl)
theorem dX4_isWord_10 : decode cX4_isWord 10 = .ok (.if_icmp .ne 7, 3) := dk_160 0 7 (dk_at dksX4_isWord_0 10 rfl rfl)
theorem dX4_isWord_13 : decode cX4_isWord 13 = .ok (.iconst 1, 1) := dk_4 (dk_at dksX4_isWord_0 13 rfl rfl)
theorem dX4_isWord_14 : decode cX4_isWord 14 = .ok (.goto 4, 3) := dk_167 0 4 (dk_at dksX4_isWord_0 14 rfl rfl)
theorem dX4_isWord_17 : decode cX4_isWord 17 = .ok (.iconst 0, 1) := dk_3 (dk_at dksX4_isWord_0 17 rfl rfl)
theorem dX4_isWord_18 : decode cX4_isWord 18 = .ok (.istore_n 3, 1) := dk_62 (dk_at dksX4_isWord_0 18 rfl rfl)
theorem dX4_isWord_19 : decode cX4_isWord 19 = .ok (.iconst 0, 1) := dk_3 (dk_at dksX4_isWord_0 19 rfl rfl)
theorem dX4_isWord_20 : decode cX4_isWord 20 = .ok (.istore 4, 2) := dk_54 4 (dk_at dksX4_isWord_0 20 rfl rfl)
theorem dX4_isWord_22 : decode cX4_isWord 22 = .ok (.iload_n 3, 1) := dk_29 (dk_at dksX4_isWord_0 22 rfl rfl)
theorem dX4_isWord_23 : decode cX4_isWord 23 = .ok (.ifCond .eq 45, 3) := dk_153 0 45 (dk_at dksX4_isWord_1 0 rfl rfl)
theorem dX4_isWord_26 : decode cX4_isWord 26 = .ok (.iload 4, 2) := dk_21 4 (dk_at dksX4_isWord_1 3 rfl rfl)
theorem dX4_isWord_28 : decode cX4_isWord 28 = .ok (.iload_n 2, 1) := dk_28 (dk_at dksX4_isWord_1 5 rfl rfl)
theorem dX4_isWord_29 : decode cX4_isWord 29 = .ok (.if_icmp .ge 39, 3) := dk_162 0 39 (dk_at dksX4_isWord_1 6 rfl rfl)
theorem dX4_isWord_32 : decode cX4_isWord 32 = .ok (.aload_n 1, 1) := dk_43 (dk_at dksX4_isWord_1 9 rfl rfl)
theorem dX4_isWord_33 : decode cX4_isWord 33 = .ok (.iload 4, 2) := dk_21 4 (dk_at dksX4_isWord_1 10 rfl rfl)
theorem dX4_isWord_35 : decode cX4_isWord 35 = .ok (.invokevirtual 64, 3) := dk_182 0 64 (dk_at dksX4_isWord_1 12 rfl rfl)
theorem dX4_isWord_38 : decode cX4_isWord 38 = .ok (.aload_n 0, 1) := dk_42 (dk_at dksX4_isWord_1 15 rfl rfl)
theorem dX4_isWord_39 : decode cX4_isWord 39 = .ok (.getfield 3, 3) := dk_180 0 3 (dk_at dksX4_isWord_1 16 rfl rfl)
theorem dX4_isWord_42 : decode cX4_isWord 42 = .ok (.getfield 48, 3) := dk_180 0 48 (dk_at dksX4_isWord_1 19 rfl rfl)
theorem dX4_isWord_45 : decode cX4_isWord 45 = .ok (.aload_n 0, 1) := dk_42 (dk_at dksX4_isWord_1 22 rfl rfl)
theorem dX4_isWord_46 : decode cX4_isWord 46 = .ok (.getfield 42, 3) := dk_180 0 42 (dk_at dksX4_isWord_2 0 rfl rfl)
theorem dX4_isWord_49 : decode cX4_isWord 49 = .ok (.iload 4, 2) := dk_21 4 (dk_at dksX4_isWord_2 3 rfl rfl)
theorem dX4_isWord_51 : decode cX4_isWord 51 = .ok (.iadd, 1) := dk_96 (dk_at dksX4_isWord_2 5 rfl rfl)
theorem dX4_isWord_52 : decode cX4_isWord 52 = .ok (.baload, 1) := dk_51 (dk_at dksX4_isWord_2 6 rfl rfl)
theorem dX4_isWord_53 : decode cX4_isWord 53 = .ok (.if_icmp .ne 7, 3) := dk_160 0 7 (dk_at dksX4_isWord_2 7 rfl rfl)
theorem dX4_isWord_56 : decode cX4_isWord 56 = .ok (.iconst 1, 1) := dk_4 (dk_at dksX4_isWord_2 10 rfl rfl)
theorem dX4_isWord_57 : decode cX4_isWord 57 = .ok (.goto 4, 3) := dk_167 0 4 (dk_at dksX4_isWord_2 11 rfl rfl)
theorem dX4_isWord_60 : decode cX4_isWord 60 = .ok (.iconst 0, 1) := dk_3 (dk_at dksX4_isWord_2 14 rfl rfl)
theorem dX4_isWord_61 : decode cX4_isWord 61 = .ok (.istore_n 3, 1) := dk_62 (dk_at dksX4_isWord_2 15 rfl rfl)
theorem dX4_isWord_62 : decode cX4_isWord 62 = .ok (.iinc 4 1, 3) := dk_132 4 1 (dk_at dksX4_isWord_2 16 rfl rfl)
theorem dX4_isWord_65 : decode cX4_isWord 65 = .ok (.goto (-43), 3) := dk_167 255 213 (dk_at dksX4_isWord_2 19 rfl rfl)
theorem dX4_isWord_68 : decode cX4_isWord 68 = .ok (.iload_n 3, 1) := dk_29 (dk_at dksX4_isWord_2 22 rfl rfl)
theorem dX4_isWord_69 : decode cX4_isWord 69 = .ok (.ireturn, 1) := dk_172 (dk_at dksX4_isWord_2 23 rfl rfl)
abbrev cX4_letters : ByteArray := prog_12_method_5_code
def yX4_letters : MethodName := ⟨RX4, "letters", "()I"⟩
def dkwX4_letters_2 : List UInt8 := [180, 0, 48, 42, 180, 0, 42, 27, 96, 51, 16, 122, 163, 0, 9, 132, 1, 1, 167, 255, 199, 27, 172]
abbrev dktX4_letters_2 : List UInt8 := dkwX4_letters_2 ++ []
def dkwX4_letters_1 : List UInt8 := [180, 0, 3, 180, 0, 48, 42, 180, 0, 42, 27, 96, 51, 16, 97, 161, 0, 28, 42, 180, 0, 3]
abbrev dktX4_letters_1 : List UInt8 := dkwX4_letters_1 ++ dktX4_letters_2
def dkwX4_letters_0 : List UInt8 := [42, 182, 0, 52, 87, 3, 60, 42, 180, 0, 42, 27, 96, 42, 180, 0, 3, 180, 0, 45, 162, 0, 47, 42]
abbrev dktX4_letters_0 : List UInt8 := dkwX4_letters_0 ++ dktX4_letters_1
theorem dksX4_letters_0 : cX4_letters.data.toList.drop 0 = dktX4_letters_0 := by decide +kernel
theorem dksX4_letters_1 : cX4_letters.data.toList.drop 24 = dktX4_letters_1 := dk_seg dksX4_letters_0 24 rfl rfl
theorem dksX4_letters_2 : cX4_letters.data.toList.drop 46 = dktX4_letters_2 := dk_seg dksX4_letters_1 22 rfl rfl
theorem dX4_letters_0 : decode cX4_letters 0 = .ok (.aload_n 0, 1) := dk_42 (dk_at dksX4_letters_0 0 rfl rfl)
theorem dX4_letters_1 : decode cX4_letters 1 = .ok (.invokevirtual 52, 3) := dk_182 0 52 (dk_at dksX4_letters_0 1 rfl rfl)
theorem dX4_letters_4 : decode cX4_letters 4 = .ok (.pop, 1) := dk_87 (dk_at dksX4_letters_0 4 rfl rfl)
theorem dX4_letters_5 : decode cX4_letters 5 = .ok (.iconst 0, 1) := dk_3 (dk_at dksX4_letters_0 5 rfl rfl)
theorem dX4_letters_6 : decode cX4_letters 6 = .ok (.istore_n 1, 1) := dk_60 (dk_at dksX4_letters_0 6 rfl rfl)
theorem dX4_letters_7 : decode cX4_letters 7 = .ok (.aload_n 0, 1) := dk_42 (dk_at dksX4_letters_0 7 rfl rfl)
theorem dX4_letters_8 : decode cX4_letters 8 = .ok (.getfield 42, 3) := dk_180 0 42 (dk_at dksX4_letters_0 8 rfl rfl)
theorem dX4_letters_11 : decode cX4_letters 11 = .ok (.iload_n 1, 1) := dk_27 (dk_at dksX4_letters_0 11 rfl rfl)
theorem dX4_letters_12 : decode cX4_letters 12 = .ok (.iadd, 1) := dk_96 (dk_at dksX4_letters_0 12 rfl rfl)
theorem dX4_letters_13 : decode cX4_letters 13 = .ok (.aload_n 0, 1) := dk_42 (dk_at dksX4_letters_0 13 rfl rfl)
theorem dX4_letters_14 : decode cX4_letters 14 = .ok (.getfield 3, 3) := dk_180 0 3 (dk_at dksX4_letters_0 14 rfl rfl)
theorem dX4_letters_17 : decode cX4_letters 17 = .ok (.getfield 45, 3) := dk_180 0 45 (dk_at dksX4_letters_0 17 rfl rfl)
theorem dX4_letters_20 : decode cX4_letters 20 = .ok (.if_icmp .ge 47, 3) := dk_162 0 47 (dk_at dksX4_letters_0 20 rfl rfl)
theorem dX4_letters_23 : decode cX4_letters 23 = .ok (.aload_n 0, 1) := dk_42 (dk_at dksX4_letters_0 23 rfl rfl)
theorem dX4_letters_24 : decode cX4_letters 24 = .ok (.getfield 3, 3) := dk_180 0 3 (dk_at dksX4_letters_1 0 rfl rfl)
theorem dX4_letters_27 : decode cX4_letters 27 = .ok (.getfield 48, 3) := dk_180 0 48 (dk_at dksX4_letters_1 3 rfl rfl)
theorem dX4_letters_30 : decode cX4_letters 30 = .ok (.aload_n 0, 1) := dk_42 (dk_at dksX4_letters_1 6 rfl rfl)
theorem dX4_letters_31 : decode cX4_letters 31 = .ok (.getfield 42, 3) := dk_180 0 42 (dk_at dksX4_letters_1 7 rfl rfl)
theorem dX4_letters_34 : decode cX4_letters 34 = .ok (.iload_n 1, 1) := dk_27 (dk_at dksX4_letters_1 10 rfl rfl)
theorem dX4_letters_35 : decode cX4_letters 35 = .ok (.iadd, 1) := dk_96 (dk_at dksX4_letters_1 11 rfl rfl)
theorem dX4_letters_36 : decode cX4_letters 36 = .ok (.baload, 1) := dk_51 (dk_at dksX4_letters_1 12 rfl rfl)
theorem dX4_letters_37 : decode cX4_letters 37 = .ok (.bipush 97, 2) := dk_16 97 (dk_at dksX4_letters_1 13 rfl rfl)
theorem dX4_letters_39 : decode cX4_letters 39 = .ok (.if_icmp .lt 28, 3) := dk_161 0 28 (dk_at dksX4_letters_1 15 rfl rfl)
theorem dX4_letters_42 : decode cX4_letters 42 = .ok (.aload_n 0, 1) := dk_42 (dk_at dksX4_letters_1 18 rfl rfl)
theorem dX4_letters_43 : decode cX4_letters 43 = .ok (.getfield 3, 3) := dk_180 0 3 (dk_at dksX4_letters_1 19 rfl rfl)
theorem dX4_letters_46 : decode cX4_letters 46 = .ok (.getfield 48, 3) := dk_180 0 48 (dk_at dksX4_letters_2 0 rfl rfl)
theorem dX4_letters_49 : decode cX4_letters 49 = .ok (.aload_n 0, 1) := dk_42 (dk_at dksX4_letters_2 3 rfl rfl)
theorem dX4_letters_50 : decode cX4_letters 50 = .ok (.getfield 42, 3) := dk_180 0 42 (dk_at dksX4_letters_2 4 rfl rfl)
theorem dX4_letters_53 : decode cX4_letters 53 = .ok (.iload_n 1, 1) := dk_27 (dk_at dksX4_letters_2 7 rfl rfl)
theorem dX4_letters_54 : decode cX4_letters 54 = .ok (.iadd, 1) := dk_96 (dk_at dksX4_letters_2 8 rfl rfl)
theorem dX4_letters_55 : decode cX4_letters 55 = .ok (.baload, 1) := dk_51 (dk_at dksX4_letters_2 9 rfl rfl)
theorem dX4_letters_56 : decode cX4_letters 56 = .ok (.bipush 122, 2) := dk_16 122 (dk_at dksX4_letters_2 10 rfl rfl)
theorem dX4_letters_58 : decode cX4_letters 58 = .ok (.if_icmp .gt 9, 3) := dk_163 0 9 (dk_at dksX4_letters_2 12 rfl rfl)
theorem dX4_letters_61 : decode cX4_letters 61 = .ok (.iinc 1 1, 3) := dk_132 1 1 (dk_at dksX4_letters_2 15 rfl rfl)
theorem dX4_letters_64 : decode cX4_letters 64 = .ok (.goto (-57), 3) := dk_167 255 199 (dk_at dksX4_letters_2 18 rfl rfl)
theorem dX4_letters_67 : decode cX4_letters 67 = .ok (.iload_n 1, 1) := dk_27 (dk_at dksX4_letters_2 21 rfl rfl)
theorem dX4_letters_68 : decode cX4_letters 68 = .ok (.ireturn, 1) := dk_172 (dk_at dksX4_letters_2 22 rfl rfl)
abbrev cX4_demand : ByteArray := prog_12_method_2_code
def yX4_demand : MethodName := ⟨RX4, "demand", "(ZII)V"⟩
def dkwX4_demand_1 : List UInt8 := [181, 0, 39, 42, 180, 0, 3, 180, 0, 29, 191]
abbrev dktX4_demand_1 : List UInt8 := dkwX4_demand_1 ++ []
def dkwX4_demand_0 : List UInt8 := [27, 153, 0, 4, 177, 42, 180, 0, 3, 180, 0, 29, 28, 181, 0, 33, 42, 180, 0, 3, 180, 0, 29, 29]
abbrev dktX4_demand_0 : List UInt8 := dkwX4_demand_0 ++ dktX4_demand_1
theorem dksX4_demand_0 : cX4_demand.data.toList.drop 0 = dktX4_demand_0 := by decide +kernel
theorem dksX4_demand_1 : cX4_demand.data.toList.drop 24 = dktX4_demand_1 := dk_seg dksX4_demand_0 24 rfl rfl
theorem dX4_demand_0 : decode cX4_demand 0 = .ok (.iload_n 1, 1) := dk_27 (dk_at dksX4_demand_0 0 rfl rfl)
theorem dX4_demand_1 : decode cX4_demand 1 = .ok (.ifCond .eq 4, 3) := dk_153 0 4 (dk_at dksX4_demand_0 1 rfl rfl)
theorem dX4_demand_4 : decode cX4_demand 4 = .ok (.return_, 1) := dk_177 (dk_at dksX4_demand_0 4 rfl rfl)
theorem dX4_demand_5 : decode cX4_demand 5 = .ok (.aload_n 0, 1) := dk_42 (dk_at dksX4_demand_0 5 rfl rfl)
theorem dX4_demand_6 : decode cX4_demand 6 = .ok (.getfield 3, 3) := dk_180 0 3 (dk_at dksX4_demand_0 6 rfl rfl)
theorem dX4_demand_9 : decode cX4_demand 9 = .ok (.getfield 29, 3) := dk_180 0 29 (dk_at dksX4_demand_0 9 rfl rfl)
theorem dX4_demand_12 : decode cX4_demand 12 = .ok (.iload_n 2, 1) := dk_28 (dk_at dksX4_demand_0 12 rfl rfl)
theorem dX4_demand_13 : decode cX4_demand 13 = .ok (.putfield 33, 3) := dk_181 0 33 (dk_at dksX4_demand_0 13 rfl rfl)
theorem dX4_demand_16 : decode cX4_demand 16 = .ok (.aload_n 0, 1) := dk_42 (dk_at dksX4_demand_0 16 rfl rfl)
theorem dX4_demand_17 : decode cX4_demand 17 = .ok (.getfield 3, 3) := dk_180 0 3 (dk_at dksX4_demand_0 17 rfl rfl)
theorem dX4_demand_20 : decode cX4_demand 20 = .ok (.getfield 29, 3) := dk_180 0 29 (dk_at dksX4_demand_0 20 rfl rfl)
theorem dX4_demand_23 : decode cX4_demand 23 = .ok (.iload_n 3, 1) := dk_29 (dk_at dksX4_demand_0 23 rfl rfl)
theorem dX4_demand_24 : decode cX4_demand 24 = .ok (.putfield 39, 3) := dk_181 0 39 (dk_at dksX4_demand_1 0 rfl rfl)
theorem dX4_demand_27 : decode cX4_demand 27 = .ok (.aload_n 0, 1) := dk_42 (dk_at dksX4_demand_1 3 rfl rfl)
theorem dX4_demand_28 : decode cX4_demand 28 = .ok (.getfield 3, 3) := dk_180 0 3 (dk_at dksX4_demand_1 4 rfl rfl)
theorem dX4_demand_31 : decode cX4_demand 31 = .ok (.getfield 29, 3) := dk_180 0 29 (dk_at dksX4_demand_1 7 rfl rfl)
theorem dX4_demand_34 : decode cX4_demand 34 = .ok (.athrow, 1) := dk_191 (dk_at dksX4_demand_1 10 rfl rfl)
abbrev cX4_canBe : ByteArray := prog_12_method_14_code
def yX4_canBe : MethodName := ⟨RX4, "canBe", "(I)Z"⟩
def dkwX4_canBe_5 : List UInt8 := [167, 0, 4, 3, 172, 42, 180, 0, 26, 180, 0, 107, 154, 0, 7, 4, 167, 0, 4, 3, 172, 4, 172]
abbrev dktX4_canBe_5 : List UInt8 := dkwX4_canBe_5 ++ []
def dkwX4_canBe_4 : List UInt8 := [7, 162, 0, 7, 4, 167, 0, 4, 3, 172, 42, 180, 0, 26, 180, 0, 104, 8, 162, 0, 7, 4]
abbrev dktX4_canBe_4 : List UInt8 := dkwX4_canBe_4 ++ dktX4_canBe_5
def dkwX4_canBe_3 : List UInt8 := [42, 180, 0, 26, 180, 0, 98, 7, 162, 0, 7, 4, 167, 0, 4, 3, 172, 42, 180, 0, 26, 180, 0, 101]
abbrev dktX4_canBe_3 : List UInt8 := dkwX4_canBe_3 ++ dktX4_canBe_4
def dkwX4_canBe_2 : List UInt8 := [170, 0, 0, 0, 104, 0, 0, 0, 1, 0, 0, 0, 6, 0, 0, 0, 37, 0, 0, 0, 54, 0, 0, 0, 104, 0, 0, 0, 104, 0, 0, 0, 71, 0, 0, 0, 88]
abbrev dktX4_canBe_2 : List UInt8 := dkwX4_canBe_2 ++ dktX4_canBe_3
def dkwX4_canBe_1 : List UInt8 := [180, 0, 93, 154, 0, 7, 4, 167, 0, 4, 3, 159, 0, 5, 3, 172, 27]
abbrev dktX4_canBe_1 : List UInt8 := dkwX4_canBe_1 ++ dktX4_canBe_2
def dkwX4_canBe_0 : List UInt8 := [42, 180, 0, 90, 16, 40, 162, 0, 30, 27, 154, 0, 7, 4, 167, 0, 4, 3, 42, 180, 0, 26]
abbrev dktX4_canBe_0 : List UInt8 := dkwX4_canBe_0 ++ dktX4_canBe_1
theorem dksX4_canBe_0 : cX4_canBe.data.toList.drop 0 = dktX4_canBe_0 := by decide +kernel
theorem dksX4_canBe_1 : cX4_canBe.data.toList.drop 22 = dktX4_canBe_1 := dk_seg dksX4_canBe_0 22 rfl rfl
theorem dksX4_canBe_2 : cX4_canBe.data.toList.drop 39 = dktX4_canBe_2 := dk_seg dksX4_canBe_1 17 rfl rfl
theorem dksX4_canBe_3 : cX4_canBe.data.toList.drop 76 = dktX4_canBe_3 := dk_seg dksX4_canBe_2 37 rfl rfl
theorem dksX4_canBe_4 : cX4_canBe.data.toList.drop 100 = dktX4_canBe_4 := dk_seg dksX4_canBe_3 24 rfl rfl
theorem dksX4_canBe_5 : cX4_canBe.data.toList.drop 122 = dktX4_canBe_5 := dk_seg dksX4_canBe_4 22 rfl rfl
theorem dX4_canBe_0 : decode cX4_canBe 0 = .ok (.aload_n 0, 1) := dk_42 (dk_at dksX4_canBe_0 0 rfl rfl)
theorem dX4_canBe_1 : decode cX4_canBe 1 = .ok (.getfield 90, 3) := dk_180 0 90 (dk_at dksX4_canBe_0 1 rfl rfl)
theorem dX4_canBe_4 : decode cX4_canBe 4 = .ok (.bipush 40, 2) := dk_16 40 (dk_at dksX4_canBe_0 4 rfl rfl)
theorem dX4_canBe_6 : decode cX4_canBe 6 = .ok (.if_icmp .ge 30, 3) := dk_162 0 30 (dk_at dksX4_canBe_0 6 rfl rfl)
theorem dX4_canBe_9 : decode cX4_canBe 9 = .ok (.iload_n 1, 1) := dk_27 (dk_at dksX4_canBe_0 9 rfl rfl)
theorem dX4_canBe_10 : decode cX4_canBe 10 = .ok (.ifCond .ne 7, 3) := dk_154 0 7 (dk_at dksX4_canBe_0 10 rfl rfl)
theorem dX4_canBe_13 : decode cX4_canBe 13 = .ok (.iconst 1, 1) := dk_4 (dk_at dksX4_canBe_0 13 rfl rfl)
theorem dX4_canBe_14 : decode cX4_canBe 14 = .ok (.goto 4, 3) := dk_167 0 4 (dk_at dksX4_canBe_0 14 rfl rfl)
theorem dX4_canBe_17 : decode cX4_canBe 17 = .ok (.iconst 0, 1) := dk_3 (dk_at dksX4_canBe_0 17 rfl rfl)
theorem dX4_canBe_18 : decode cX4_canBe 18 = .ok (.aload_n 0, 1) := dk_42 (dk_at dksX4_canBe_0 18 rfl rfl)
theorem dX4_canBe_19 : decode cX4_canBe 19 = .ok (.getfield 26, 3) := dk_180 0 26 (dk_at dksX4_canBe_0 19 rfl rfl)
theorem dX4_canBe_22 : decode cX4_canBe 22 = .ok (.getfield 93, 3) := dk_180 0 93 (dk_at dksX4_canBe_1 0 rfl rfl)
theorem dX4_canBe_25 : decode cX4_canBe 25 = .ok (.ifCond .ne 7, 3) := dk_154 0 7 (dk_at dksX4_canBe_1 3 rfl rfl)
theorem dX4_canBe_28 : decode cX4_canBe 28 = .ok (.iconst 1, 1) := dk_4 (dk_at dksX4_canBe_1 6 rfl rfl)
theorem dX4_canBe_29 : decode cX4_canBe 29 = .ok (.goto 4, 3) := dk_167 0 4 (dk_at dksX4_canBe_1 7 rfl rfl)
theorem dX4_canBe_32 : decode cX4_canBe 32 = .ok (.iconst 0, 1) := dk_3 (dk_at dksX4_canBe_1 10 rfl rfl)
theorem dX4_canBe_33 : decode cX4_canBe 33 = .ok (.if_icmp .eq 5, 3) := dk_159 0 5 (dk_at dksX4_canBe_1 11 rfl rfl)
theorem dX4_canBe_36 : decode cX4_canBe 36 = .ok (.iconst 0, 1) := dk_3 (dk_at dksX4_canBe_1 14 rfl rfl)
theorem dX4_canBe_37 : decode cX4_canBe 37 = .ok (.ireturn, 1) := dk_172 (dk_at dksX4_canBe_1 15 rfl rfl)
theorem dX4_canBe_38 : decode cX4_canBe 38 = .ok (.iload_n 1, 1) := dk_27 (dk_at dksX4_canBe_1 16 rfl rfl)
theorem dX4_canBe_39 : decode cX4_canBe 39 = .ok (.tableswitch 104 1 6 #[37, 54, 104, 104, 71, 88], 37) := by decide +kernel
theorem dX4_canBe_76 : decode cX4_canBe 76 = .ok (.aload_n 0, 1) := dk_42 (dk_at dksX4_canBe_3 0 rfl rfl)
theorem dX4_canBe_77 : decode cX4_canBe 77 = .ok (.getfield 26, 3) := dk_180 0 26 (dk_at dksX4_canBe_3 1 rfl rfl)
theorem dX4_canBe_80 : decode cX4_canBe 80 = .ok (.getfield 98, 3) := dk_180 0 98 (dk_at dksX4_canBe_3 4 rfl rfl)
theorem dX4_canBe_83 : decode cX4_canBe 83 = .ok (.iconst 4, 1) := dk_7 (dk_at dksX4_canBe_3 7 rfl rfl)
theorem dX4_canBe_84 : decode cX4_canBe 84 = .ok (.if_icmp .ge 7, 3) := dk_162 0 7 (dk_at dksX4_canBe_3 8 rfl rfl)
theorem dX4_canBe_87 : decode cX4_canBe 87 = .ok (.iconst 1, 1) := dk_4 (dk_at dksX4_canBe_3 11 rfl rfl)
theorem dX4_canBe_88 : decode cX4_canBe 88 = .ok (.goto 4, 3) := dk_167 0 4 (dk_at dksX4_canBe_3 12 rfl rfl)
theorem dX4_canBe_91 : decode cX4_canBe 91 = .ok (.iconst 0, 1) := dk_3 (dk_at dksX4_canBe_3 15 rfl rfl)
theorem dX4_canBe_92 : decode cX4_canBe 92 = .ok (.ireturn, 1) := dk_172 (dk_at dksX4_canBe_3 16 rfl rfl)
theorem dX4_canBe_93 : decode cX4_canBe 93 = .ok (.aload_n 0, 1) := dk_42 (dk_at dksX4_canBe_3 17 rfl rfl)
theorem dX4_canBe_94 : decode cX4_canBe 94 = .ok (.getfield 26, 3) := dk_180 0 26 (dk_at dksX4_canBe_3 18 rfl rfl)
theorem dX4_canBe_97 : decode cX4_canBe 97 = .ok (.getfield 101, 3) := dk_180 0 101 (dk_at dksX4_canBe_3 21 rfl rfl)
theorem dX4_canBe_100 : decode cX4_canBe 100 = .ok (.iconst 4, 1) := dk_7 (dk_at dksX4_canBe_4 0 rfl rfl)
theorem dX4_canBe_101 : decode cX4_canBe 101 = .ok (.if_icmp .ge 7, 3) := dk_162 0 7 (dk_at dksX4_canBe_4 1 rfl rfl)
theorem dX4_canBe_104 : decode cX4_canBe 104 = .ok (.iconst 1, 1) := dk_4 (dk_at dksX4_canBe_4 4 rfl rfl)
theorem dX4_canBe_105 : decode cX4_canBe 105 = .ok (.goto 4, 3) := dk_167 0 4 (dk_at dksX4_canBe_4 5 rfl rfl)
theorem dX4_canBe_108 : decode cX4_canBe 108 = .ok (.iconst 0, 1) := dk_3 (dk_at dksX4_canBe_4 8 rfl rfl)
theorem dX4_canBe_109 : decode cX4_canBe 109 = .ok (.ireturn, 1) := dk_172 (dk_at dksX4_canBe_4 9 rfl rfl)
theorem dX4_canBe_110 : decode cX4_canBe 110 = .ok (.aload_n 0, 1) := dk_42 (dk_at dksX4_canBe_4 10 rfl rfl)
theorem dX4_canBe_111 : decode cX4_canBe 111 = .ok (.getfield 26, 3) := dk_180 0 26 (dk_at dksX4_canBe_4 11 rfl rfl)
theorem dX4_canBe_114 : decode cX4_canBe 114 = .ok (.getfield 104, 3) := dk_180 0 104 (dk_at dksX4_canBe_4 14 rfl rfl)
theorem dX4_canBe_117 : decode cX4_canBe 117 = .ok (.iconst 5, 1) := dk_8 (dk_at dksX4_canBe_4 17 rfl rfl)
theorem dX4_canBe_118 : decode cX4_canBe 118 = .ok (.if_icmp .ge 7, 3) := dk_162 0 7 (dk_at dksX4_canBe_4 18 rfl rfl)
theorem dX4_canBe_121 : decode cX4_canBe 121 = .ok (.iconst 1, 1) := dk_4 (dk_at dksX4_canBe_4 21 rfl rfl)
theorem dX4_canBe_122 : decode cX4_canBe 122 = .ok (.goto 4, 3) := dk_167 0 4 (dk_at dksX4_canBe_5 0 rfl rfl)
theorem dX4_canBe_125 : decode cX4_canBe 125 = .ok (.iconst 0, 1) := dk_3 (dk_at dksX4_canBe_5 3 rfl rfl)
theorem dX4_canBe_126 : decode cX4_canBe 126 = .ok (.ireturn, 1) := dk_172 (dk_at dksX4_canBe_5 4 rfl rfl)
theorem dX4_canBe_127 : decode cX4_canBe 127 = .ok (.aload_n 0, 1) := dk_42 (dk_at dksX4_canBe_5 5 rfl rfl)
theorem dX4_canBe_128 : decode cX4_canBe 128 = .ok (.getfield 26, 3) := dk_180 0 26 (dk_at dksX4_canBe_5 6 rfl rfl)
theorem dX4_canBe_131 : decode cX4_canBe 131 = .ok (.getfield 107, 3) := dk_180 0 107 (dk_at dksX4_canBe_5 9 rfl rfl)
theorem dX4_canBe_134 : decode cX4_canBe 134 = .ok (.ifCond .ne 7, 3) := dk_154 0 7 (dk_at dksX4_canBe_5 12 rfl rfl)
theorem dX4_canBe_137 : decode cX4_canBe 137 = .ok (.iconst 1, 1) := dk_4 (dk_at dksX4_canBe_5 15 rfl rfl)
theorem dX4_canBe_138 : decode cX4_canBe 138 = .ok (.goto 4, 3) := dk_167 0 4 (dk_at dksX4_canBe_5 16 rfl rfl)
theorem dX4_canBe_141 : decode cX4_canBe 141 = .ok (.iconst 0, 1) := dk_3 (dk_at dksX4_canBe_5 19 rfl rfl)
theorem dX4_canBe_142 : decode cX4_canBe 142 = .ok (.ireturn, 1) := dk_172 (dk_at dksX4_canBe_5 20 rfl rfl)
theorem dX4_canBe_143 : decode cX4_canBe 143 = .ok (.iconst 1, 1) := dk_4 (dk_at dksX4_canBe_5 21 rfl rfl)
theorem dX4_canBe_144 : decode cX4_canBe 144 = .ok (.ireturn, 1) := dk_172 (dk_at dksX4_canBe_5 22 rfl rfl)
abbrev cX4_line : ByteArray := prog_12_method_18_code
def yX4_line : MethodName := ⟨RX4, "line", "(I)V"⟩
def dkwX4_line_9 : List UInt8 := [181, 0, 104, 177, 42, 180, 0, 26, 4, 181, 0, 107, 177]
abbrev dktX4_line_9 : List UInt8 := dkwX4_line_9 ++ []
def dkwX4_line_8 : List UInt8 := [180, 0, 171, 28, 46, 17, 0, 199, 182, 0, 110, 79, 42, 180, 0, 26, 89, 180, 0, 104, 4, 96]
abbrev dktX4_line_8 : List UInt8 := dkwX4_line_8 ++ dktX4_line_9
def dkwX4_line_7 : List UInt8 := [17, 0, 199, 182, 0, 110, 79, 42, 180, 0, 26, 180, 0, 171, 28, 4, 96, 42, 42, 180, 0, 26]
abbrev dktX4_line_7 : List UInt8 := dkwX4_line_7 ++ dktX4_line_8
def dkwX4_line_6 : List UInt8 := [181, 0, 168, 177, 5, 42, 180, 0, 26, 180, 0, 104, 104, 61, 42, 180, 0, 26, 180, 0, 171, 28, 42, 3]
abbrev dktX4_line_6 : List UInt8 := dkwX4_line_6 ++ dktX4_line_7
def dkwX4_line_5 : List UInt8 := [180, 0, 26, 89, 180, 0, 168, 4, 42, 3, 42, 180, 0, 26, 180, 0, 98, 4, 100, 182, 0, 110, 120, 128]
abbrev dktX4_line_5 : List UInt8 := dkwX4_line_5 ++ dktX4_line_6
def dkwX4_line_4 : List UInt8 := [182, 0, 110, 79, 42, 180, 0, 26, 89, 180, 0, 101, 4, 96, 181, 0, 101, 177, 42, 182, 0, 165, 177, 42]
abbrev dktX4_line_4 : List UInt8 := dkwX4_line_4 ++ dktX4_line_5
def dkwX4_line_3 : List UInt8 := [180, 0, 159, 28, 42, 3, 16, 8, 182, 0, 110, 79, 42, 180, 0, 26, 180, 0, 162, 28, 42, 3, 16, 99]
abbrev dktX4_line_3 : List UInt8 := dkwX4_line_3 ++ dktX4_line_4
def dkwX4_line_2 : List UInt8 := [42, 182, 0, 153, 177, 42, 182, 0, 156, 177, 42, 180, 0, 26, 180, 0, 101, 61, 42, 180, 0, 26]
abbrev dktX4_line_2 : List UInt8 := dkwX4_line_2 ++ dktX4_line_3
def dkwX4_line_1 : List UInt8 := [170, 0, 0, 0, 0, 0, 205, 0, 0, 0, 0, 0, 0, 0, 5, 0, 0, 0, 39, 0, 0, 0, 44, 0, 0, 0, 49, 0, 0, 0, 103, 0, 0, 0, 108, 0, 0, 0, 137]
abbrev dktX4_line_1 : List UInt8 := dkwX4_line_1 ++ dktX4_line_2
def dkwX4_line_0 : List UInt8 := [27]
abbrev dktX4_line_0 : List UInt8 := dkwX4_line_0 ++ dktX4_line_1
theorem dksX4_line_0 : cX4_line.data.toList.drop 0 = dktX4_line_0 := by decide +kernel
theorem dksX4_line_1 : cX4_line.data.toList.drop 1 = dktX4_line_1 := dk_seg dksX4_line_0 1 rfl rfl
theorem dksX4_line_2 : cX4_line.data.toList.drop 40 = dktX4_line_2 := dk_seg dksX4_line_1 39 rfl rfl
theorem dksX4_line_3 : cX4_line.data.toList.drop 62 = dktX4_line_3 := dk_seg dksX4_line_2 22 rfl rfl
theorem dksX4_line_4 : cX4_line.data.toList.drop 86 = dktX4_line_4 := dk_seg dksX4_line_3 24 rfl rfl
theorem dksX4_line_5 : cX4_line.data.toList.drop 110 = dktX4_line_5 := dk_seg dksX4_line_4 24 rfl rfl
theorem dksX4_line_6 : cX4_line.data.toList.drop 134 = dktX4_line_6 := dk_seg dksX4_line_5 24 rfl rfl
theorem dksX4_line_7 : cX4_line.data.toList.drop 158 = dktX4_line_7 := dk_seg dksX4_line_6 24 rfl rfl
theorem dksX4_line_8 : cX4_line.data.toList.drop 180 = dktX4_line_8 := dk_seg dksX4_line_7 22 rfl rfl
theorem dksX4_line_9 : cX4_line.data.toList.drop 202 = dktX4_line_9 := dk_seg dksX4_line_8 22 rfl rfl
theorem dX4_line_0 : decode cX4_line 0 = .ok (.iload_n 1, 1) := dk_27 (dk_at dksX4_line_0 0 rfl rfl)
theorem dX4_line_1 : decode cX4_line 1 = .ok (.tableswitch 205 0 5 #[39, 44, 49, 103, 108, 137], 39) := by decide +kernel
theorem dX4_line_40 : decode cX4_line 40 = .ok (.aload_n 0, 1) := dk_42 (dk_at dksX4_line_2 0 rfl rfl)
theorem dX4_line_41 : decode cX4_line 41 = .ok (.invokevirtual 153, 3) := dk_182 0 153 (dk_at dksX4_line_2 1 rfl rfl)
theorem dX4_line_44 : decode cX4_line 44 = .ok (.return_, 1) := dk_177 (dk_at dksX4_line_2 4 rfl rfl)
theorem dX4_line_45 : decode cX4_line 45 = .ok (.aload_n 0, 1) := dk_42 (dk_at dksX4_line_2 5 rfl rfl)
theorem dX4_line_46 : decode cX4_line 46 = .ok (.invokevirtual 156, 3) := dk_182 0 156 (dk_at dksX4_line_2 6 rfl rfl)
theorem dX4_line_49 : decode cX4_line 49 = .ok (.return_, 1) := dk_177 (dk_at dksX4_line_2 9 rfl rfl)
theorem dX4_line_50 : decode cX4_line 50 = .ok (.aload_n 0, 1) := dk_42 (dk_at dksX4_line_2 10 rfl rfl)
theorem dX4_line_51 : decode cX4_line 51 = .ok (.getfield 26, 3) := dk_180 0 26 (dk_at dksX4_line_2 11 rfl rfl)
theorem dX4_line_54 : decode cX4_line 54 = .ok (.getfield 101, 3) := dk_180 0 101 (dk_at dksX4_line_2 14 rfl rfl)
theorem dX4_line_57 : decode cX4_line 57 = .ok (.istore_n 2, 1) := dk_61 (dk_at dksX4_line_2 17 rfl rfl)
theorem dX4_line_58 : decode cX4_line 58 = .ok (.aload_n 0, 1) := dk_42 (dk_at dksX4_line_2 18 rfl rfl)
theorem dX4_line_59 : decode cX4_line 59 = .ok (.getfield 26, 3) := dk_180 0 26 (dk_at dksX4_line_2 19 rfl rfl)
theorem dX4_line_62 : decode cX4_line 62 = .ok (.getfield 159, 3) := dk_180 0 159 (dk_at dksX4_line_3 0 rfl rfl)
theorem dX4_line_65 : decode cX4_line 65 = .ok (.iload_n 2, 1) := dk_28 (dk_at dksX4_line_3 3 rfl rfl)
theorem dX4_line_66 : decode cX4_line 66 = .ok (.aload_n 0, 1) := dk_42 (dk_at dksX4_line_3 4 rfl rfl)
theorem dX4_line_67 : decode cX4_line 67 = .ok (.iconst 0, 1) := dk_3 (dk_at dksX4_line_3 5 rfl rfl)
theorem dX4_line_68 : decode cX4_line 68 = .ok (.bipush 8, 2) := dk_16 8 (dk_at dksX4_line_3 6 rfl rfl)
theorem dX4_line_70 : decode cX4_line 70 = .ok (.invokevirtual 110, 3) := dk_182 0 110 (dk_at dksX4_line_3 8 rfl rfl)
theorem dX4_line_73 : decode cX4_line 73 = .ok (.iastore, 1) := dk_79 (dk_at dksX4_line_3 11 rfl rfl)
theorem dX4_line_74 : decode cX4_line 74 = .ok (.aload_n 0, 1) := dk_42 (dk_at dksX4_line_3 12 rfl rfl)
theorem dX4_line_75 : decode cX4_line 75 = .ok (.getfield 26, 3) := dk_180 0 26 (dk_at dksX4_line_3 13 rfl rfl)
theorem dX4_line_78 : decode cX4_line 78 = .ok (.getfield 162, 3) := dk_180 0 162 (dk_at dksX4_line_3 16 rfl rfl)
theorem dX4_line_81 : decode cX4_line 81 = .ok (.iload_n 2, 1) := dk_28 (dk_at dksX4_line_3 19 rfl rfl)
theorem dX4_line_82 : decode cX4_line 82 = .ok (.aload_n 0, 1) := dk_42 (dk_at dksX4_line_3 20 rfl rfl)
theorem dX4_line_83 : decode cX4_line 83 = .ok (.iconst 0, 1) := dk_3 (dk_at dksX4_line_3 21 rfl rfl)
theorem dX4_line_84 : decode cX4_line 84 = .ok (.bipush 99, 2) := dk_16 99 (dk_at dksX4_line_3 22 rfl rfl)
theorem dX4_line_86 : decode cX4_line 86 = .ok (.invokevirtual 110, 3) := dk_182 0 110 (dk_at dksX4_line_4 0 rfl rfl)
theorem dX4_line_89 : decode cX4_line 89 = .ok (.iastore, 1) := dk_79 (dk_at dksX4_line_4 3 rfl rfl)
theorem dX4_line_90 : decode cX4_line 90 = .ok (.aload_n 0, 1) := dk_42 (dk_at dksX4_line_4 4 rfl rfl)
theorem dX4_line_91 : decode cX4_line 91 = .ok (.getfield 26, 3) := dk_180 0 26 (dk_at dksX4_line_4 5 rfl rfl)
theorem dX4_line_94 : decode cX4_line 94 = .ok (.dup, 1) := dk_89 (dk_at dksX4_line_4 8 rfl rfl)
theorem dX4_line_95 : decode cX4_line 95 = .ok (.getfield 101, 3) := dk_180 0 101 (dk_at dksX4_line_4 9 rfl rfl)
theorem dX4_line_98 : decode cX4_line 98 = .ok (.iconst 1, 1) := dk_4 (dk_at dksX4_line_4 12 rfl rfl)
theorem dX4_line_99 : decode cX4_line 99 = .ok (.iadd, 1) := dk_96 (dk_at dksX4_line_4 13 rfl rfl)
theorem dX4_line_100 : decode cX4_line 100 = .ok (.putfield 101, 3) := dk_181 0 101 (dk_at dksX4_line_4 14 rfl rfl)
theorem dX4_line_103 : decode cX4_line 103 = .ok (.return_, 1) := dk_177 (dk_at dksX4_line_4 17 rfl rfl)
theorem dX4_line_104 : decode cX4_line 104 = .ok (.aload_n 0, 1) := dk_42 (dk_at dksX4_line_4 18 rfl rfl)
theorem dX4_line_105 : decode cX4_line 105 = .ok (.invokevirtual 165, 3) := dk_182 0 165 (dk_at dksX4_line_4 19 rfl rfl)
theorem dX4_line_108 : decode cX4_line 108 = .ok (.return_, 1) := dk_177 (dk_at dksX4_line_4 22 rfl rfl)
theorem dX4_line_109 : decode cX4_line 109 = .ok (.aload_n 0, 1) := dk_42 (dk_at dksX4_line_4 23 rfl rfl)
theorem dX4_line_110 : decode cX4_line 110 = .ok (.getfield 26, 3) := dk_180 0 26 (dk_at dksX4_line_5 0 rfl rfl)
theorem dX4_line_113 : decode cX4_line 113 = .ok (.dup, 1) := dk_89 (dk_at dksX4_line_5 3 rfl rfl)
theorem dX4_line_114 : decode cX4_line 114 = .ok (.getfield 168, 3) := dk_180 0 168 (dk_at dksX4_line_5 4 rfl rfl)
theorem dX4_line_117 : decode cX4_line 117 = .ok (.iconst 1, 1) := dk_4 (dk_at dksX4_line_5 7 rfl rfl)
theorem dX4_line_118 : decode cX4_line 118 = .ok (.aload_n 0, 1) := dk_42 (dk_at dksX4_line_5 8 rfl rfl)
theorem dX4_line_119 : decode cX4_line 119 = .ok (.iconst 0, 1) := dk_3 (dk_at dksX4_line_5 9 rfl rfl)
theorem dX4_line_120 : decode cX4_line 120 = .ok (.aload_n 0, 1) := dk_42 (dk_at dksX4_line_5 10 rfl rfl)
theorem dX4_line_121 : decode cX4_line 121 = .ok (.getfield 26, 3) := dk_180 0 26 (dk_at dksX4_line_5 11 rfl rfl)
theorem dX4_line_124 : decode cX4_line 124 = .ok (.getfield 98, 3) := dk_180 0 98 (dk_at dksX4_line_5 14 rfl rfl)
theorem dX4_line_127 : decode cX4_line 127 = .ok (.iconst 1, 1) := dk_4 (dk_at dksX4_line_5 17 rfl rfl)
theorem dX4_line_128 : decode cX4_line 128 = .ok (.isub, 1) := dk_100 (dk_at dksX4_line_5 18 rfl rfl)
theorem dX4_line_129 : decode cX4_line 129 = .ok (.invokevirtual 110, 3) := dk_182 0 110 (dk_at dksX4_line_5 19 rfl rfl)
theorem dX4_line_132 : decode cX4_line 132 = .ok (.ishl, 1) := dk_120 (dk_at dksX4_line_5 22 rfl rfl)
theorem dX4_line_133 : decode cX4_line 133 = .ok (.ior, 1) := dk_128 (dk_at dksX4_line_5 23 rfl rfl)
theorem dX4_line_134 : decode cX4_line 134 = .ok (.putfield 168, 3) := dk_181 0 168 (dk_at dksX4_line_6 0 rfl rfl)
theorem dX4_line_137 : decode cX4_line 137 = .ok (.return_, 1) := dk_177 (dk_at dksX4_line_6 3 rfl rfl)
theorem dX4_line_138 : decode cX4_line 138 = .ok (.iconst 2, 1) := dk_5 (dk_at dksX4_line_6 4 rfl rfl)
theorem dX4_line_139 : decode cX4_line 139 = .ok (.aload_n 0, 1) := dk_42 (dk_at dksX4_line_6 5 rfl rfl)
theorem dX4_line_140 : decode cX4_line 140 = .ok (.getfield 26, 3) := dk_180 0 26 (dk_at dksX4_line_6 6 rfl rfl)
theorem dX4_line_143 : decode cX4_line 143 = .ok (.getfield 104, 3) := dk_180 0 104 (dk_at dksX4_line_6 9 rfl rfl)
theorem dX4_line_146 : decode cX4_line 146 = .ok (.imul, 1) := dk_104 (dk_at dksX4_line_6 12 rfl rfl)
theorem dX4_line_147 : decode cX4_line 147 = .ok (.istore_n 2, 1) := dk_61 (dk_at dksX4_line_6 13 rfl rfl)
theorem dX4_line_148 : decode cX4_line 148 = .ok (.aload_n 0, 1) := dk_42 (dk_at dksX4_line_6 14 rfl rfl)
theorem dX4_line_149 : decode cX4_line 149 = .ok (.getfield 26, 3) := dk_180 0 26 (dk_at dksX4_line_6 15 rfl rfl)
theorem dX4_line_152 : decode cX4_line 152 = .ok (.getfield 171, 3) := dk_180 0 171 (dk_at dksX4_line_6 18 rfl rfl)
theorem dX4_line_155 : decode cX4_line 155 = .ok (.iload_n 2, 1) := dk_28 (dk_at dksX4_line_6 21 rfl rfl)
theorem dX4_line_156 : decode cX4_line 156 = .ok (.aload_n 0, 1) := dk_42 (dk_at dksX4_line_6 22 rfl rfl)
theorem dX4_line_157 : decode cX4_line 157 = .ok (.iconst 0, 1) := dk_3 (dk_at dksX4_line_6 23 rfl rfl)
theorem dX4_line_158 : decode cX4_line 158 = .ok (.sipush 199, 3) := dk_17 0 199 (dk_at dksX4_line_7 0 rfl rfl)
theorem dX4_line_161 : decode cX4_line 161 = .ok (.invokevirtual 110, 3) := dk_182 0 110 (dk_at dksX4_line_7 3 rfl rfl)
theorem dX4_line_164 : decode cX4_line 164 = .ok (.iastore, 1) := dk_79 (dk_at dksX4_line_7 6 rfl rfl)
theorem dX4_line_165 : decode cX4_line 165 = .ok (.aload_n 0, 1) := dk_42 (dk_at dksX4_line_7 7 rfl rfl)
theorem dX4_line_166 : decode cX4_line 166 = .ok (.getfield 26, 3) := dk_180 0 26 (dk_at dksX4_line_7 8 rfl rfl)
theorem dX4_line_169 : decode cX4_line 169 = .ok (.getfield 171, 3) := dk_180 0 171 (dk_at dksX4_line_7 11 rfl rfl)
theorem dX4_line_172 : decode cX4_line 172 = .ok (.iload_n 2, 1) := dk_28 (dk_at dksX4_line_7 14 rfl rfl)
theorem dX4_line_173 : decode cX4_line 173 = .ok (.iconst 1, 1) := dk_4 (dk_at dksX4_line_7 15 rfl rfl)
theorem dX4_line_174 : decode cX4_line 174 = .ok (.iadd, 1) := dk_96 (dk_at dksX4_line_7 16 rfl rfl)
theorem dX4_line_175 : decode cX4_line 175 = .ok (.aload_n 0, 1) := dk_42 (dk_at dksX4_line_7 17 rfl rfl)
theorem dX4_line_176 : decode cX4_line 176 = .ok (.aload_n 0, 1) := dk_42 (dk_at dksX4_line_7 18 rfl rfl)
theorem dX4_line_177 : decode cX4_line 177 = .ok (.getfield 26, 3) := dk_180 0 26 (dk_at dksX4_line_7 19 rfl rfl)
theorem dX4_line_180 : decode cX4_line 180 = .ok (.getfield 171, 3) := dk_180 0 171 (dk_at dksX4_line_8 0 rfl rfl)
theorem dX4_line_183 : decode cX4_line 183 = .ok (.iload_n 2, 1) := dk_28 (dk_at dksX4_line_8 3 rfl rfl)
theorem dX4_line_184 : decode cX4_line 184 = .ok (.iaload, 1) := dk_46 (dk_at dksX4_line_8 4 rfl rfl)
theorem dX4_line_185 : decode cX4_line 185 = .ok (.sipush 199, 3) := dk_17 0 199 (dk_at dksX4_line_8 5 rfl rfl)
theorem dX4_line_188 : decode cX4_line 188 = .ok (.invokevirtual 110, 3) := dk_182 0 110 (dk_at dksX4_line_8 8 rfl rfl)
theorem dX4_line_191 : decode cX4_line 191 = .ok (.iastore, 1) := dk_79 (dk_at dksX4_line_8 11 rfl rfl)
theorem dX4_line_192 : decode cX4_line 192 = .ok (.aload_n 0, 1) := dk_42 (dk_at dksX4_line_8 12 rfl rfl)
theorem dX4_line_193 : decode cX4_line 193 = .ok (.getfield 26, 3) := dk_180 0 26 (dk_at dksX4_line_8 13 rfl rfl)
theorem dX4_line_196 : decode cX4_line 196 = .ok (.dup, 1) := dk_89 (dk_at dksX4_line_8 16 rfl rfl)
theorem dX4_line_197 : decode cX4_line 197 = .ok (.getfield 104, 3) := dk_180 0 104 (dk_at dksX4_line_8 17 rfl rfl)
theorem dX4_line_200 : decode cX4_line 200 = .ok (.iconst 1, 1) := dk_4 (dk_at dksX4_line_8 20 rfl rfl)
theorem dX4_line_201 : decode cX4_line 201 = .ok (.iadd, 1) := dk_96 (dk_at dksX4_line_8 21 rfl rfl)
theorem dX4_line_202 : decode cX4_line 202 = .ok (.putfield 104, 3) := dk_181 0 104 (dk_at dksX4_line_9 0 rfl rfl)
theorem dX4_line_205 : decode cX4_line 205 = .ok (.return_, 1) := dk_177 (dk_at dksX4_line_9 3 rfl rfl)
theorem dX4_line_206 : decode cX4_line 206 = .ok (.aload_n 0, 1) := dk_42 (dk_at dksX4_line_9 4 rfl rfl)
theorem dX4_line_207 : decode cX4_line 207 = .ok (.getfield 26, 3) := dk_180 0 26 (dk_at dksX4_line_9 5 rfl rfl)
theorem dX4_line_210 : decode cX4_line 210 = .ok (.iconst 1, 1) := dk_4 (dk_at dksX4_line_9 8 rfl rfl)
theorem dX4_line_211 : decode cX4_line 211 = .ok (.putfield 107, 3) := dk_181 0 107 (dk_at dksX4_line_9 9 rfl rfl)
theorem dX4_line_214 : decode cX4_line 214 = .ok (.return_, 1) := dk_177 (dk_at dksX4_line_9 12 rfl rfl)
abbrev cX4_streetHere : ByteArray := prog_12_method_15_code
def yX4_streetHere : MethodName := ⟨RX4, "streetHere", "()V"⟩
def dkwX4_streetHere_1 : List UInt8 := [180, 0, 26, 42, 3, 16, 9, 182, 0, 110, 181, 0, 117, 42, 180, 0, 26, 27, 181, 0, 93, 177]
abbrev dktX4_streetHere_1 : List UInt8 := dkwX4_streetHere_1 ++ []
def dkwX4_streetHere_0 : List UInt8 := [42, 4, 16, 9, 182, 0, 110, 60, 42, 180, 0, 26, 42, 4, 16, 100, 182, 0, 110, 181, 0, 114, 42]
abbrev dktX4_streetHere_0 : List UInt8 := dkwX4_streetHere_0 ++ dktX4_streetHere_1
theorem dksX4_streetHere_0 : cX4_streetHere.data.toList.drop 0 = dktX4_streetHere_0 := by decide +kernel
theorem dksX4_streetHere_1 : cX4_streetHere.data.toList.drop 23 = dktX4_streetHere_1 := dk_seg dksX4_streetHere_0 23 rfl rfl
theorem dX4_streetHere_0 : decode cX4_streetHere 0 = .ok (.aload_n 0, 1) := dk_42 (dk_at dksX4_streetHere_0 0 rfl rfl)
theorem dX4_streetHere_1 : decode cX4_streetHere 1 = .ok (.iconst 1, 1) := dk_4 (dk_at dksX4_streetHere_0 1 rfl rfl)
theorem dX4_streetHere_2 : decode cX4_streetHere 2 = .ok (.bipush 9, 2) := dk_16 9 (dk_at dksX4_streetHere_0 2 rfl rfl)
theorem dX4_streetHere_4 : decode cX4_streetHere 4 = .ok (.invokevirtual 110, 3) := dk_182 0 110 (dk_at dksX4_streetHere_0 4 rfl rfl)
theorem dX4_streetHere_7 : decode cX4_streetHere 7 = .ok (.istore_n 1, 1) := dk_60 (dk_at dksX4_streetHere_0 7 rfl rfl)
theorem dX4_streetHere_8 : decode cX4_streetHere 8 = .ok (.aload_n 0, 1) := dk_42 (dk_at dksX4_streetHere_0 8 rfl rfl)
theorem dX4_streetHere_9 : decode cX4_streetHere 9 = .ok (.getfield 26, 3) := dk_180 0 26 (dk_at dksX4_streetHere_0 9 rfl rfl)
theorem dX4_streetHere_12 : decode cX4_streetHere 12 = .ok (.aload_n 0, 1) := dk_42 (dk_at dksX4_streetHere_0 12 rfl rfl)
theorem dX4_streetHere_13 : decode cX4_streetHere 13 = .ok (.iconst 1, 1) := dk_4 (dk_at dksX4_streetHere_0 13 rfl rfl)
theorem dX4_streetHere_14 : decode cX4_streetHere 14 = .ok (.bipush 100, 2) := dk_16 100 (dk_at dksX4_streetHere_0 14 rfl rfl)
theorem dX4_streetHere_16 : decode cX4_streetHere 16 = .ok (.invokevirtual 110, 3) := dk_182 0 110 (dk_at dksX4_streetHere_0 16 rfl rfl)
theorem dX4_streetHere_19 : decode cX4_streetHere 19 = .ok (.putfield 114, 3) := dk_181 0 114 (dk_at dksX4_streetHere_0 19 rfl rfl)
theorem dX4_streetHere_22 : decode cX4_streetHere 22 = .ok (.aload_n 0, 1) := dk_42 (dk_at dksX4_streetHere_0 22 rfl rfl)
theorem dX4_streetHere_23 : decode cX4_streetHere 23 = .ok (.getfield 26, 3) := dk_180 0 26 (dk_at dksX4_streetHere_1 0 rfl rfl)
theorem dX4_streetHere_26 : decode cX4_streetHere 26 = .ok (.aload_n 0, 1) := dk_42 (dk_at dksX4_streetHere_1 3 rfl rfl)
theorem dX4_streetHere_27 : decode cX4_streetHere 27 = .ok (.iconst 0, 1) := dk_3 (dk_at dksX4_streetHere_1 4 rfl rfl)
theorem dX4_streetHere_28 : decode cX4_streetHere 28 = .ok (.bipush 9, 2) := dk_16 9 (dk_at dksX4_streetHere_1 5 rfl rfl)
theorem dX4_streetHere_30 : decode cX4_streetHere 30 = .ok (.invokevirtual 110, 3) := dk_182 0 110 (dk_at dksX4_streetHere_1 7 rfl rfl)
theorem dX4_streetHere_33 : decode cX4_streetHere 33 = .ok (.putfield 117, 3) := dk_181 0 117 (dk_at dksX4_streetHere_1 10 rfl rfl)
theorem dX4_streetHere_36 : decode cX4_streetHere 36 = .ok (.aload_n 0, 1) := dk_42 (dk_at dksX4_streetHere_1 13 rfl rfl)
theorem dX4_streetHere_37 : decode cX4_streetHere 37 = .ok (.getfield 26, 3) := dk_180 0 26 (dk_at dksX4_streetHere_1 14 rfl rfl)
theorem dX4_streetHere_40 : decode cX4_streetHere 40 = .ok (.iload_n 1, 1) := dk_27 (dk_at dksX4_streetHere_1 17 rfl rfl)
theorem dX4_streetHere_41 : decode cX4_streetHere 41 = .ok (.putfield 93, 3) := dk_181 0 93 (dk_at dksX4_streetHere_1 18 rfl rfl)
theorem dX4_streetHere_44 : decode cX4_streetHere 44 = .ok (.return_, 1) := dk_177 (dk_at dksX4_streetHere_1 21 rfl rfl)
abbrev cX4_number : ByteArray := prog_12_method_10_code
def yX4_number : MethodName := ⟨RX4, "number", "(II)I"⟩
def dkwX4_number_4 : List UInt8 := [133, 27, 133, 28, 133, 184, 0, 80, 153, 0, 7, 4, 167, 0, 4, 3, 4, 29, 182, 0, 76, 21, 4, 172]
abbrev dktX4_number_4 : List UInt8 := dkwX4_number_4 ++ []
def dkwX4_number_3 : List UInt8 := [180, 0, 42, 4, 96, 181, 0, 42, 167, 255, 202, 42, 42, 180, 0, 42, 29, 100, 8, 163, 0, 20, 21, 4]
abbrev dktX4_number_3 : List UInt8 := dkwX4_number_3 ++ dktX4_number_4
def dkwX4_number_2 : List UInt8 := [21, 4, 104, 42, 180, 0, 3, 180, 0, 48, 42, 180, 0, 42, 51, 96, 16, 48, 100, 54, 4, 42, 89]
abbrev dktX4_number_2 : List UInt8 := dkwX4_number_2 ++ dktX4_number_3
def dkwX4_number_1 : List UInt8 := [42, 42, 180, 0, 42, 182, 0, 72, 153, 0, 49, 42, 180, 0, 42, 29, 100, 8, 162, 0, 26, 16, 10]
abbrev dktX4_number_1 : List UInt8 := dkwX4_number_1 ++ dktX4_number_2
def dkwX4_number_0 : List UInt8 := [42, 182, 0, 52, 87, 42, 180, 0, 42, 62, 42, 42, 29, 182, 0, 72, 3, 29, 182, 0, 76, 3, 54, 4]
abbrev dktX4_number_0 : List UInt8 := dkwX4_number_0 ++ dktX4_number_1
theorem dksX4_number_0 : cX4_number.data.toList.drop 0 = dktX4_number_0 := by decide +kernel
theorem dksX4_number_1 : cX4_number.data.toList.drop 24 = dktX4_number_1 := dk_seg dksX4_number_0 24 rfl rfl
theorem dksX4_number_2 : cX4_number.data.toList.drop 47 = dktX4_number_2 := dk_seg dksX4_number_1 23 rfl rfl
theorem dksX4_number_3 : cX4_number.data.toList.drop 70 = dktX4_number_3 := dk_seg dksX4_number_2 23 rfl rfl
theorem dksX4_number_4 : cX4_number.data.toList.drop 94 = dktX4_number_4 := dk_seg dksX4_number_3 24 rfl rfl
theorem dX4_number_0 : decode cX4_number 0 = .ok (.aload_n 0, 1) := dk_42 (dk_at dksX4_number_0 0 rfl rfl)
theorem dX4_number_1 : decode cX4_number 1 = .ok (.invokevirtual 52, 3) := dk_182 0 52 (dk_at dksX4_number_0 1 rfl rfl)
theorem dX4_number_4 : decode cX4_number 4 = .ok (.pop, 1) := dk_87 (dk_at dksX4_number_0 4 rfl rfl)
theorem dX4_number_5 : decode cX4_number 5 = .ok (.aload_n 0, 1) := dk_42 (dk_at dksX4_number_0 5 rfl rfl)
theorem dX4_number_6 : decode cX4_number 6 = .ok (.getfield 42, 3) := dk_180 0 42 (dk_at dksX4_number_0 6 rfl rfl)
theorem dX4_number_9 : decode cX4_number 9 = .ok (.istore_n 3, 1) := dk_62 (dk_at dksX4_number_0 9 rfl rfl)
theorem dX4_number_10 : decode cX4_number 10 = .ok (.aload_n 0, 1) := dk_42 (dk_at dksX4_number_0 10 rfl rfl)
theorem dX4_number_11 : decode cX4_number 11 = .ok (.aload_n 0, 1) := dk_42 (dk_at dksX4_number_0 11 rfl rfl)
theorem dX4_number_12 : decode cX4_number 12 = .ok (.iload_n 3, 1) := dk_29 (dk_at dksX4_number_0 12 rfl rfl)
theorem dX4_number_13 : decode cX4_number 13 = .ok (.invokevirtual 72, 3) := dk_182 0 72 (dk_at dksX4_number_0 13 rfl rfl)
theorem dX4_number_16 : decode cX4_number 16 = .ok (.iconst 0, 1) := dk_3 (dk_at dksX4_number_0 16 rfl rfl)
theorem dX4_number_17 : decode cX4_number 17 = .ok (.iload_n 3, 1) := dk_29 (dk_at dksX4_number_0 17 rfl rfl)
theorem dX4_number_18 : decode cX4_number 18 = .ok (.invokevirtual 76, 3) := dk_182 0 76 (dk_at dksX4_number_0 18 rfl rfl)
theorem dX4_number_21 : decode cX4_number 21 = .ok (.iconst 0, 1) := dk_3 (dk_at dksX4_number_0 21 rfl rfl)
theorem dX4_number_22 : decode cX4_number 22 = .ok (.istore 4, 2) := dk_54 4 (dk_at dksX4_number_0 22 rfl rfl)
theorem dX4_number_24 : decode cX4_number 24 = .ok (.aload_n 0, 1) := dk_42 (dk_at dksX4_number_1 0 rfl rfl)
theorem dX4_number_25 : decode cX4_number 25 = .ok (.aload_n 0, 1) := dk_42 (dk_at dksX4_number_1 1 rfl rfl)
theorem dX4_number_26 : decode cX4_number 26 = .ok (.getfield 42, 3) := dk_180 0 42 (dk_at dksX4_number_1 2 rfl rfl)
theorem dX4_number_29 : decode cX4_number 29 = .ok (.invokevirtual 72, 3) := dk_182 0 72 (dk_at dksX4_number_1 5 rfl rfl)
theorem dX4_number_32 : decode cX4_number 32 = .ok (.ifCond .eq 49, 3) := dk_153 0 49 (dk_at dksX4_number_1 8 rfl rfl)
theorem dX4_number_35 : decode cX4_number 35 = .ok (.aload_n 0, 1) := dk_42 (dk_at dksX4_number_1 11 rfl rfl)
theorem dX4_number_36 : decode cX4_number 36 = .ok (.getfield 42, 3) := dk_180 0 42 (dk_at dksX4_number_1 12 rfl rfl)
theorem dX4_number_39 : decode cX4_number 39 = .ok (.iload_n 3, 1) := dk_29 (dk_at dksX4_number_1 15 rfl rfl)
theorem dX4_number_40 : decode cX4_number 40 = .ok (.isub, 1) := dk_100 (dk_at dksX4_number_1 16 rfl rfl)
theorem dX4_number_41 : decode cX4_number 41 = .ok (.iconst 5, 1) := dk_8 (dk_at dksX4_number_1 17 rfl rfl)
theorem dX4_number_42 : decode cX4_number 42 = .ok (.if_icmp .ge 26, 3) := dk_162 0 26 (dk_at dksX4_number_1 18 rfl rfl)
theorem dX4_number_45 : decode cX4_number 45 = .ok (.bipush 10, 2) := dk_16 10 (dk_at dksX4_number_1 21 rfl rfl)
theorem dX4_number_47 : decode cX4_number 47 = .ok (.iload 4, 2) := dk_21 4 (dk_at dksX4_number_2 0 rfl rfl)
theorem dX4_number_49 : decode cX4_number 49 = .ok (.imul, 1) := dk_104 (dk_at dksX4_number_2 2 rfl rfl)
theorem dX4_number_50 : decode cX4_number 50 = .ok (.aload_n 0, 1) := dk_42 (dk_at dksX4_number_2 3 rfl rfl)
theorem dX4_number_51 : decode cX4_number 51 = .ok (.getfield 3, 3) := dk_180 0 3 (dk_at dksX4_number_2 4 rfl rfl)
theorem dX4_number_54 : decode cX4_number 54 = .ok (.getfield 48, 3) := dk_180 0 48 (dk_at dksX4_number_2 7 rfl rfl)
theorem dX4_number_57 : decode cX4_number 57 = .ok (.aload_n 0, 1) := dk_42 (dk_at dksX4_number_2 10 rfl rfl)
theorem dX4_number_58 : decode cX4_number 58 = .ok (.getfield 42, 3) := dk_180 0 42 (dk_at dksX4_number_2 11 rfl rfl)
theorem dX4_number_61 : decode cX4_number 61 = .ok (.baload, 1) := dk_51 (dk_at dksX4_number_2 14 rfl rfl)
theorem dX4_number_62 : decode cX4_number 62 = .ok (.iadd, 1) := dk_96 (dk_at dksX4_number_2 15 rfl rfl)
theorem dX4_number_63 : decode cX4_number 63 = .ok (.bipush 48, 2) := dk_16 48 (dk_at dksX4_number_2 16 rfl rfl)
theorem dX4_number_65 : decode cX4_number 65 = .ok (.isub, 1) := dk_100 (dk_at dksX4_number_2 18 rfl rfl)
theorem dX4_number_66 : decode cX4_number 66 = .ok (.istore 4, 2) := dk_54 4 (dk_at dksX4_number_2 19 rfl rfl)
theorem dX4_number_68 : decode cX4_number 68 = .ok (.aload_n 0, 1) := dk_42 (dk_at dksX4_number_2 21 rfl rfl)
theorem dX4_number_69 : decode cX4_number 69 = .ok (.dup, 1) := dk_89 (dk_at dksX4_number_2 22 rfl rfl)
theorem dX4_number_70 : decode cX4_number 70 = .ok (.getfield 42, 3) := dk_180 0 42 (dk_at dksX4_number_3 0 rfl rfl)
theorem dX4_number_73 : decode cX4_number 73 = .ok (.iconst 1, 1) := dk_4 (dk_at dksX4_number_3 3 rfl rfl)
theorem dX4_number_74 : decode cX4_number 74 = .ok (.iadd, 1) := dk_96 (dk_at dksX4_number_3 4 rfl rfl)
theorem dX4_number_75 : decode cX4_number 75 = .ok (.putfield 42, 3) := dk_181 0 42 (dk_at dksX4_number_3 5 rfl rfl)
theorem dX4_number_78 : decode cX4_number 78 = .ok (.goto (-54), 3) := dk_167 255 202 (dk_at dksX4_number_3 8 rfl rfl)
theorem dX4_number_81 : decode cX4_number 81 = .ok (.aload_n 0, 1) := dk_42 (dk_at dksX4_number_3 11 rfl rfl)
theorem dX4_number_82 : decode cX4_number 82 = .ok (.aload_n 0, 1) := dk_42 (dk_at dksX4_number_3 12 rfl rfl)
theorem dX4_number_83 : decode cX4_number 83 = .ok (.getfield 42, 3) := dk_180 0 42 (dk_at dksX4_number_3 13 rfl rfl)
theorem dX4_number_86 : decode cX4_number 86 = .ok (.iload_n 3, 1) := dk_29 (dk_at dksX4_number_3 16 rfl rfl)
theorem dX4_number_87 : decode cX4_number 87 = .ok (.isub, 1) := dk_100 (dk_at dksX4_number_3 17 rfl rfl)
theorem dX4_number_88 : decode cX4_number 88 = .ok (.iconst 5, 1) := dk_8 (dk_at dksX4_number_3 18 rfl rfl)
theorem dX4_number_89 : decode cX4_number 89 = .ok (.if_icmp .gt 20, 3) := dk_163 0 20 (dk_at dksX4_number_3 19 rfl rfl)
theorem dX4_number_92 : decode cX4_number 92 = .ok (.iload 4, 2) := dk_21 4 (dk_at dksX4_number_3 22 rfl rfl)
theorem dX4_number_94 : decode cX4_number 94 = .ok (.i2l, 1) := dk_133 (dk_at dksX4_number_4 0 rfl rfl)
theorem dX4_number_95 : decode cX4_number 95 = .ok (.iload_n 1, 1) := dk_27 (dk_at dksX4_number_4 1 rfl rfl)
theorem dX4_number_96 : decode cX4_number 96 = .ok (.i2l, 1) := dk_133 (dk_at dksX4_number_4 2 rfl rfl)
theorem dX4_number_97 : decode cX4_number 97 = .ok (.iload_n 2, 1) := dk_28 (dk_at dksX4_number_4 3 rfl rfl)
theorem dX4_number_98 : decode cX4_number 98 = .ok (.i2l, 1) := dk_133 (dk_at dksX4_number_4 4 rfl rfl)
theorem dX4_number_99 : decode cX4_number 99 = .ok (.invokestatic 80, 3) := dk_184 0 80 (dk_at dksX4_number_4 5 rfl rfl)
theorem dX4_number_102 : decode cX4_number 102 = .ok (.ifCond .eq 7, 3) := dk_153 0 7 (dk_at dksX4_number_4 8 rfl rfl)
theorem dX4_number_105 : decode cX4_number 105 = .ok (.iconst 1, 1) := dk_4 (dk_at dksX4_number_4 11 rfl rfl)
theorem dX4_number_106 : decode cX4_number 106 = .ok (.goto 4, 3) := dk_167 0 4 (dk_at dksX4_number_4 12 rfl rfl)
theorem dX4_number_109 : decode cX4_number 109 = .ok (.iconst 0, 1) := dk_3 (dk_at dksX4_number_4 15 rfl rfl)
theorem dX4_number_110 : decode cX4_number 110 = .ok (.iconst 1, 1) := dk_4 (dk_at dksX4_number_4 16 rfl rfl)
theorem dX4_number_111 : decode cX4_number 111 = .ok (.iload_n 3, 1) := dk_29 (dk_at dksX4_number_4 17 rfl rfl)
theorem dX4_number_112 : decode cX4_number 112 = .ok (.invokevirtual 76, 3) := dk_182 0 76 (dk_at dksX4_number_4 18 rfl rfl)
theorem dX4_number_115 : decode cX4_number 115 = .ok (.iload 4, 2) := dk_21 4 (dk_at dksX4_number_4 21 rfl rfl)
theorem dX4_number_117 : decode cX4_number 117 = .ok (.ireturn, 1) := dk_172 (dk_at dksX4_number_4 23 rfl rfl)
abbrev cX4_isDigit : ByteArray := prog_12_method_9_code
def yX4_isDigit : MethodName := ⟨RX4, "isDigit", "(I)Z"⟩
def dkwX4_isDigit_1 : List UInt8 := [161, 0, 21, 42, 180, 0, 3, 180, 0, 48, 27, 51, 16, 57, 163, 0, 7, 4, 167, 0, 4, 3, 172]
abbrev dktX4_isDigit_1 : List UInt8 := dkwX4_isDigit_1 ++ []
def dkwX4_isDigit_0 : List UInt8 := [27, 42, 180, 0, 3, 180, 0, 45, 162, 0, 35, 42, 180, 0, 3, 180, 0, 48, 27, 51, 16, 48]
abbrev dktX4_isDigit_0 : List UInt8 := dkwX4_isDigit_0 ++ dktX4_isDigit_1
theorem dksX4_isDigit_0 : cX4_isDigit.data.toList.drop 0 = dktX4_isDigit_0 := by decide +kernel
theorem dksX4_isDigit_1 : cX4_isDigit.data.toList.drop 22 = dktX4_isDigit_1 := dk_seg dksX4_isDigit_0 22 rfl rfl
theorem dX4_isDigit_0 : decode cX4_isDigit 0 = .ok (.iload_n 1, 1) := dk_27 (dk_at dksX4_isDigit_0 0 rfl rfl)
theorem dX4_isDigit_1 : decode cX4_isDigit 1 = .ok (.aload_n 0, 1) := dk_42 (dk_at dksX4_isDigit_0 1 rfl rfl)
theorem dX4_isDigit_2 : decode cX4_isDigit 2 = .ok (.getfield 3, 3) := dk_180 0 3 (dk_at dksX4_isDigit_0 2 rfl rfl)
theorem dX4_isDigit_5 : decode cX4_isDigit 5 = .ok (.getfield 45, 3) := dk_180 0 45 (dk_at dksX4_isDigit_0 5 rfl rfl)
theorem dX4_isDigit_8 : decode cX4_isDigit 8 = .ok (.if_icmp .ge 35, 3) := dk_162 0 35 (dk_at dksX4_isDigit_0 8 rfl rfl)
theorem dX4_isDigit_11 : decode cX4_isDigit 11 = .ok (.aload_n 0, 1) := dk_42 (dk_at dksX4_isDigit_0 11 rfl rfl)
theorem dX4_isDigit_12 : decode cX4_isDigit 12 = .ok (.getfield 3, 3) := dk_180 0 3 (dk_at dksX4_isDigit_0 12 rfl rfl)
theorem dX4_isDigit_15 : decode cX4_isDigit 15 = .ok (.getfield 48, 3) := dk_180 0 48 (dk_at dksX4_isDigit_0 15 rfl rfl)
theorem dX4_isDigit_18 : decode cX4_isDigit 18 = .ok (.iload_n 1, 1) := dk_27 (dk_at dksX4_isDigit_0 18 rfl rfl)
theorem dX4_isDigit_19 : decode cX4_isDigit 19 = .ok (.baload, 1) := dk_51 (dk_at dksX4_isDigit_0 19 rfl rfl)
theorem dX4_isDigit_20 : decode cX4_isDigit 20 = .ok (.bipush 48, 2) := dk_16 48 (dk_at dksX4_isDigit_0 20 rfl rfl)
theorem dX4_isDigit_22 : decode cX4_isDigit 22 = .ok (.if_icmp .lt 21, 3) := dk_161 0 21 (dk_at dksX4_isDigit_1 0 rfl rfl)
theorem dX4_isDigit_25 : decode cX4_isDigit 25 = .ok (.aload_n 0, 1) := dk_42 (dk_at dksX4_isDigit_1 3 rfl rfl)
theorem dX4_isDigit_26 : decode cX4_isDigit 26 = .ok (.getfield 3, 3) := dk_180 0 3 (dk_at dksX4_isDigit_1 4 rfl rfl)
theorem dX4_isDigit_29 : decode cX4_isDigit 29 = .ok (.getfield 48, 3) := dk_180 0 48 (dk_at dksX4_isDigit_1 7 rfl rfl)
theorem dX4_isDigit_32 : decode cX4_isDigit 32 = .ok (.iload_n 1, 1) := dk_27 (dk_at dksX4_isDigit_1 10 rfl rfl)
theorem dX4_isDigit_33 : decode cX4_isDigit 33 = .ok (.baload, 1) := dk_51 (dk_at dksX4_isDigit_1 11 rfl rfl)
theorem dX4_isDigit_34 : decode cX4_isDigit 34 = .ok (.bipush 57, 2) := dk_16 57 (dk_at dksX4_isDigit_1 12 rfl rfl)
theorem dX4_isDigit_36 : decode cX4_isDigit 36 = .ok (.if_icmp .gt 7, 3) := dk_163 0 7 (dk_at dksX4_isDigit_1 14 rfl rfl)
theorem dX4_isDigit_39 : decode cX4_isDigit 39 = .ok (.iconst 1, 1) := dk_4 (dk_at dksX4_isDigit_1 17 rfl rfl)
theorem dX4_isDigit_40 : decode cX4_isDigit 40 = .ok (.goto 4, 3) := dk_167 0 4 (dk_at dksX4_isDigit_1 18 rfl rfl)
theorem dX4_isDigit_43 : decode cX4_isDigit 43 = .ok (.iconst 0, 1) := dk_3 (dk_at dksX4_isDigit_1 21 rfl rfl)
theorem dX4_isDigit_44 : decode cX4_isDigit 44 = .ok (.ireturn, 1) := dk_172 (dk_at dksX4_isDigit_1 22 rfl rfl)
abbrev cX4_thingHere : ByteArray := prog_12_method_16_code
def yX4_thingHere : MethodName := ⟨RX4, "thingHere", "()V"⟩
def dkwX4_thingHere_6 : List UInt8 := [180, 0, 98, 4, 96, 181, 0, 98, 177]
abbrev dktX4_thingHere_6 : List UInt8 := dkwX4_thingHere_6 ++ []
def dkwX4_thingHere_5 : List UInt8 := [42, 180, 0, 26, 89, 180, 0, 124, 4, 96, 181, 0, 124, 132, 2, 1, 167, 255, 195, 42, 180, 0, 26, 89]
abbrev dktX4_thingHere_5 : List UInt8 := dkwX4_thingHere_5 ++ dktX4_thingHere_6
def dkwX4_thingHere_4 : List UInt8 := [180, 0, 26, 180, 0, 124, 27, 79, 42, 180, 0, 26, 180, 0, 141, 42, 180, 0, 26, 180, 0, 124, 3, 79]
abbrev dktX4_thingHere_4 : List UInt8 := dkwX4_thingHere_4 ++ dktX4_thingHere_5
def dkwX4_thingHere_3 : List UInt8 := [61, 28, 42, 180, 0, 26, 180, 0, 127, 27, 46, 162, 0, 54, 42, 180, 0, 26, 180, 0, 138, 42]
abbrev dktX4_thingHere_3 : List UInt8 := dkwX4_thingHere_3 ++ dktX4_thingHere_4
def dkwX4_thingHere_2 : List UInt8 := [184, 0, 130, 182, 0, 110, 79, 42, 180, 0, 26, 180, 0, 135, 27, 42, 3, 16, 20, 182, 0, 110, 79, 3]
abbrev dktX4_thingHere_2 : List UInt8 := dkwX4_thingHere_2 ++ dktX4_thingHere_3
def dkwX4_thingHere_1 : List UInt8 := [42, 180, 0, 26, 180, 0, 127, 27, 42, 4, 16, 6, 16, 16, 42, 180, 0, 26, 180, 0, 124, 100]
abbrev dktX4_thingHere_1 : List UInt8 := dkwX4_thingHere_1 ++ dktX4_thingHere_2
def dkwX4_thingHere_0 : List UInt8 := [42, 180, 0, 26, 180, 0, 98, 60, 42, 180, 0, 26, 180, 0, 120, 27, 42, 180, 0, 26, 180, 0, 124, 79]
abbrev dktX4_thingHere_0 : List UInt8 := dkwX4_thingHere_0 ++ dktX4_thingHere_1
theorem dksX4_thingHere_0 : cX4_thingHere.data.toList.drop 0 = dktX4_thingHere_0 := by decide +kernel
theorem dksX4_thingHere_1 : cX4_thingHere.data.toList.drop 24 = dktX4_thingHere_1 := dk_seg dksX4_thingHere_0 24 rfl rfl
theorem dksX4_thingHere_2 : cX4_thingHere.data.toList.drop 46 = dktX4_thingHere_2 := dk_seg dksX4_thingHere_1 22 rfl rfl
theorem dksX4_thingHere_3 : cX4_thingHere.data.toList.drop 70 = dktX4_thingHere_3 := dk_seg dksX4_thingHere_2 24 rfl rfl
theorem dksX4_thingHere_4 : cX4_thingHere.data.toList.drop 92 = dktX4_thingHere_4 := dk_seg dksX4_thingHere_3 22 rfl rfl
theorem dksX4_thingHere_5 : cX4_thingHere.data.toList.drop 116 = dktX4_thingHere_5 := dk_seg dksX4_thingHere_4 24 rfl rfl
theorem dksX4_thingHere_6 : cX4_thingHere.data.toList.drop 140 = dktX4_thingHere_6 := dk_seg dksX4_thingHere_5 24 rfl rfl
theorem dX4_thingHere_0 : decode cX4_thingHere 0 = .ok (.aload_n 0, 1) := dk_42 (dk_at dksX4_thingHere_0 0 rfl rfl)
theorem dX4_thingHere_1 : decode cX4_thingHere 1 = .ok (.getfield 26, 3) := dk_180 0 26 (dk_at dksX4_thingHere_0 1 rfl rfl)
theorem dX4_thingHere_4 : decode cX4_thingHere 4 = .ok (.getfield 98, 3) := dk_180 0 98 (dk_at dksX4_thingHere_0 4 rfl rfl)
theorem dX4_thingHere_7 : decode cX4_thingHere 7 = .ok (.istore_n 1, 1) := dk_60 (dk_at dksX4_thingHere_0 7 rfl rfl)
theorem dX4_thingHere_8 : decode cX4_thingHere 8 = .ok (.aload_n 0, 1) := dk_42 (dk_at dksX4_thingHere_0 8 rfl rfl)
theorem dX4_thingHere_9 : decode cX4_thingHere 9 = .ok (.getfield 26, 3) := dk_180 0 26 (dk_at dksX4_thingHere_0 9 rfl rfl)
theorem dX4_thingHere_12 : decode cX4_thingHere 12 = .ok (.getfield 120, 3) := dk_180 0 120 (dk_at dksX4_thingHere_0 12 rfl rfl)
theorem dX4_thingHere_15 : decode cX4_thingHere 15 = .ok (.iload_n 1, 1) := dk_27 (dk_at dksX4_thingHere_0 15 rfl rfl)
theorem dX4_thingHere_16 : decode cX4_thingHere 16 = .ok (.aload_n 0, 1) := dk_42 (dk_at dksX4_thingHere_0 16 rfl rfl)
theorem dX4_thingHere_17 : decode cX4_thingHere 17 = .ok (.getfield 26, 3) := dk_180 0 26 (dk_at dksX4_thingHere_0 17 rfl rfl)
theorem dX4_thingHere_20 : decode cX4_thingHere 20 = .ok (.getfield 124, 3) := dk_180 0 124 (dk_at dksX4_thingHere_0 20 rfl rfl)
theorem dX4_thingHere_23 : decode cX4_thingHere 23 = .ok (.iastore, 1) := dk_79 (dk_at dksX4_thingHere_0 23 rfl rfl)
theorem dX4_thingHere_24 : decode cX4_thingHere 24 = .ok (.aload_n 0, 1) := dk_42 (dk_at dksX4_thingHere_1 0 rfl rfl)
theorem dX4_thingHere_25 : decode cX4_thingHere 25 = .ok (.getfield 26, 3) := dk_180 0 26 (dk_at dksX4_thingHere_1 1 rfl rfl)
theorem dX4_thingHere_28 : decode cX4_thingHere 28 = .ok (.getfield 127, 3) := dk_180 0 127 (dk_at dksX4_thingHere_1 4 rfl rfl)
theorem dX4_thingHere_31 : decode cX4_thingHere 31 = .ok (.iload_n 1, 1) := dk_27 (dk_at dksX4_thingHere_1 7 rfl rfl)
theorem dX4_thingHere_32 : decode cX4_thingHere 32 = .ok (.aload_n 0, 1) := dk_42 (dk_at dksX4_thingHere_1 8 rfl rfl)
theorem dX4_thingHere_33 : decode cX4_thingHere 33 = .ok (.iconst 1, 1) := dk_4 (dk_at dksX4_thingHere_1 9 rfl rfl)
theorem dX4_thingHere_34 : decode cX4_thingHere 34 = .ok (.bipush 6, 2) := dk_16 6 (dk_at dksX4_thingHere_1 10 rfl rfl)
theorem dX4_thingHere_36 : decode cX4_thingHere 36 = .ok (.bipush 16, 2) := dk_16 16 (dk_at dksX4_thingHere_1 12 rfl rfl)
theorem dX4_thingHere_38 : decode cX4_thingHere 38 = .ok (.aload_n 0, 1) := dk_42 (dk_at dksX4_thingHere_1 14 rfl rfl)
theorem dX4_thingHere_39 : decode cX4_thingHere 39 = .ok (.getfield 26, 3) := dk_180 0 26 (dk_at dksX4_thingHere_1 15 rfl rfl)
theorem dX4_thingHere_42 : decode cX4_thingHere 42 = .ok (.getfield 124, 3) := dk_180 0 124 (dk_at dksX4_thingHere_1 18 rfl rfl)
theorem dX4_thingHere_45 : decode cX4_thingHere 45 = .ok (.isub, 1) := dk_100 (dk_at dksX4_thingHere_1 21 rfl rfl)
theorem dX4_thingHere_46 : decode cX4_thingHere 46 = .ok (.invokestatic 130, 3) := dk_184 0 130 (dk_at dksX4_thingHere_2 0 rfl rfl)
theorem dX4_thingHere_49 : decode cX4_thingHere 49 = .ok (.invokevirtual 110, 3) := dk_182 0 110 (dk_at dksX4_thingHere_2 3 rfl rfl)
theorem dX4_thingHere_52 : decode cX4_thingHere 52 = .ok (.iastore, 1) := dk_79 (dk_at dksX4_thingHere_2 6 rfl rfl)
theorem dX4_thingHere_53 : decode cX4_thingHere 53 = .ok (.aload_n 0, 1) := dk_42 (dk_at dksX4_thingHere_2 7 rfl rfl)
theorem dX4_thingHere_54 : decode cX4_thingHere 54 = .ok (.getfield 26, 3) := dk_180 0 26 (dk_at dksX4_thingHere_2 8 rfl rfl)
theorem dX4_thingHere_57 : decode cX4_thingHere 57 = .ok (.getfield 135, 3) := dk_180 0 135 (dk_at dksX4_thingHere_2 11 rfl rfl)
theorem dX4_thingHere_60 : decode cX4_thingHere 60 = .ok (.iload_n 1, 1) := dk_27 (dk_at dksX4_thingHere_2 14 rfl rfl)
theorem dX4_thingHere_61 : decode cX4_thingHere 61 = .ok (.aload_n 0, 1) := dk_42 (dk_at dksX4_thingHere_2 15 rfl rfl)
theorem dX4_thingHere_62 : decode cX4_thingHere 62 = .ok (.iconst 0, 1) := dk_3 (dk_at dksX4_thingHere_2 16 rfl rfl)
theorem dX4_thingHere_63 : decode cX4_thingHere 63 = .ok (.bipush 20, 2) := dk_16 20 (dk_at dksX4_thingHere_2 17 rfl rfl)
theorem dX4_thingHere_65 : decode cX4_thingHere 65 = .ok (.invokevirtual 110, 3) := dk_182 0 110 (dk_at dksX4_thingHere_2 19 rfl rfl)
theorem dX4_thingHere_68 : decode cX4_thingHere 68 = .ok (.iastore, 1) := dk_79 (dk_at dksX4_thingHere_2 22 rfl rfl)
theorem dX4_thingHere_69 : decode cX4_thingHere 69 = .ok (.iconst 0, 1) := dk_3 (dk_at dksX4_thingHere_2 23 rfl rfl)
theorem dX4_thingHere_70 : decode cX4_thingHere 70 = .ok (.istore_n 2, 1) := dk_61 (dk_at dksX4_thingHere_3 0 rfl rfl)
theorem dX4_thingHere_71 : decode cX4_thingHere 71 = .ok (.iload_n 2, 1) := dk_28 (dk_at dksX4_thingHere_3 1 rfl rfl)
theorem dX4_thingHere_72 : decode cX4_thingHere 72 = .ok (.aload_n 0, 1) := dk_42 (dk_at dksX4_thingHere_3 2 rfl rfl)
theorem dX4_thingHere_73 : decode cX4_thingHere 73 = .ok (.getfield 26, 3) := dk_180 0 26 (dk_at dksX4_thingHere_3 3 rfl rfl)
theorem dX4_thingHere_76 : decode cX4_thingHere 76 = .ok (.getfield 127, 3) := dk_180 0 127 (dk_at dksX4_thingHere_3 6 rfl rfl)
theorem dX4_thingHere_79 : decode cX4_thingHere 79 = .ok (.iload_n 1, 1) := dk_27 (dk_at dksX4_thingHere_3 9 rfl rfl)
theorem dX4_thingHere_80 : decode cX4_thingHere 80 = .ok (.iaload, 1) := dk_46 (dk_at dksX4_thingHere_3 10 rfl rfl)
theorem dX4_thingHere_81 : decode cX4_thingHere 81 = .ok (.if_icmp .ge 54, 3) := dk_162 0 54 (dk_at dksX4_thingHere_3 11 rfl rfl)
theorem dX4_thingHere_84 : decode cX4_thingHere 84 = .ok (.aload_n 0, 1) := dk_42 (dk_at dksX4_thingHere_3 14 rfl rfl)
theorem dX4_thingHere_85 : decode cX4_thingHere 85 = .ok (.getfield 26, 3) := dk_180 0 26 (dk_at dksX4_thingHere_3 15 rfl rfl)
theorem dX4_thingHere_88 : decode cX4_thingHere 88 = .ok (.getfield 138, 3) := dk_180 0 138 (dk_at dksX4_thingHere_3 18 rfl rfl)
theorem dX4_thingHere_91 : decode cX4_thingHere 91 = .ok (.aload_n 0, 1) := dk_42 (dk_at dksX4_thingHere_3 21 rfl rfl)
theorem dX4_thingHere_92 : decode cX4_thingHere 92 = .ok (.getfield 26, 3) := dk_180 0 26 (dk_at dksX4_thingHere_4 0 rfl rfl)
theorem dX4_thingHere_95 : decode cX4_thingHere 95 = .ok (.getfield 124, 3) := dk_180 0 124 (dk_at dksX4_thingHere_4 3 rfl rfl)
theorem dX4_thingHere_98 : decode cX4_thingHere 98 = .ok (.iload_n 1, 1) := dk_27 (dk_at dksX4_thingHere_4 6 rfl rfl)
theorem dX4_thingHere_99 : decode cX4_thingHere 99 = .ok (.iastore, 1) := dk_79 (dk_at dksX4_thingHere_4 7 rfl rfl)
theorem dX4_thingHere_100 : decode cX4_thingHere 100 = .ok (.aload_n 0, 1) := dk_42 (dk_at dksX4_thingHere_4 8 rfl rfl)
theorem dX4_thingHere_101 : decode cX4_thingHere 101 = .ok (.getfield 26, 3) := dk_180 0 26 (dk_at dksX4_thingHere_4 9 rfl rfl)
theorem dX4_thingHere_104 : decode cX4_thingHere 104 = .ok (.getfield 141, 3) := dk_180 0 141 (dk_at dksX4_thingHere_4 12 rfl rfl)
theorem dX4_thingHere_107 : decode cX4_thingHere 107 = .ok (.aload_n 0, 1) := dk_42 (dk_at dksX4_thingHere_4 15 rfl rfl)
theorem dX4_thingHere_108 : decode cX4_thingHere 108 = .ok (.getfield 26, 3) := dk_180 0 26 (dk_at dksX4_thingHere_4 16 rfl rfl)
theorem dX4_thingHere_111 : decode cX4_thingHere 111 = .ok (.getfield 124, 3) := dk_180 0 124 (dk_at dksX4_thingHere_4 19 rfl rfl)
theorem dX4_thingHere_114 : decode cX4_thingHere 114 = .ok (.iconst 0, 1) := dk_3 (dk_at dksX4_thingHere_4 22 rfl rfl)
theorem dX4_thingHere_115 : decode cX4_thingHere 115 = .ok (.iastore, 1) := dk_79 (dk_at dksX4_thingHere_4 23 rfl rfl)
theorem dX4_thingHere_116 : decode cX4_thingHere 116 = .ok (.aload_n 0, 1) := dk_42 (dk_at dksX4_thingHere_5 0 rfl rfl)
theorem dX4_thingHere_117 : decode cX4_thingHere 117 = .ok (.getfield 26, 3) := dk_180 0 26 (dk_at dksX4_thingHere_5 1 rfl rfl)
theorem dX4_thingHere_120 : decode cX4_thingHere 120 = .ok (.dup, 1) := dk_89 (dk_at dksX4_thingHere_5 4 rfl rfl)
theorem dX4_thingHere_121 : decode cX4_thingHere 121 = .ok (.getfield 124, 3) := dk_180 0 124 (dk_at dksX4_thingHere_5 5 rfl rfl)
theorem dX4_thingHere_124 : decode cX4_thingHere 124 = .ok (.iconst 1, 1) := dk_4 (dk_at dksX4_thingHere_5 8 rfl rfl)
theorem dX4_thingHere_125 : decode cX4_thingHere 125 = .ok (.iadd, 1) := dk_96 (dk_at dksX4_thingHere_5 9 rfl rfl)
theorem dX4_thingHere_126 : decode cX4_thingHere 126 = .ok (.putfield 124, 3) := dk_181 0 124 (dk_at dksX4_thingHere_5 10 rfl rfl)
theorem dX4_thingHere_129 : decode cX4_thingHere 129 = .ok (.iinc 2 1, 3) := dk_132 2 1 (dk_at dksX4_thingHere_5 13 rfl rfl)
theorem dX4_thingHere_132 : decode cX4_thingHere 132 = .ok (.goto (-61), 3) := dk_167 255 195 (dk_at dksX4_thingHere_5 16 rfl rfl)
theorem dX4_thingHere_135 : decode cX4_thingHere 135 = .ok (.aload_n 0, 1) := dk_42 (dk_at dksX4_thingHere_5 19 rfl rfl)
theorem dX4_thingHere_136 : decode cX4_thingHere 136 = .ok (.getfield 26, 3) := dk_180 0 26 (dk_at dksX4_thingHere_5 20 rfl rfl)
theorem dX4_thingHere_139 : decode cX4_thingHere 139 = .ok (.dup, 1) := dk_89 (dk_at dksX4_thingHere_5 23 rfl rfl)
theorem dX4_thingHere_140 : decode cX4_thingHere 140 = .ok (.getfield 98, 3) := dk_180 0 98 (dk_at dksX4_thingHere_6 0 rfl rfl)
theorem dX4_thingHere_143 : decode cX4_thingHere 143 = .ok (.iconst 1, 1) := dk_4 (dk_at dksX4_thingHere_6 3 rfl rfl)
theorem dX4_thingHere_144 : decode cX4_thingHere 144 = .ok (.iadd, 1) := dk_96 (dk_at dksX4_thingHere_6 4 rfl rfl)
theorem dX4_thingHere_145 : decode cX4_thingHere 145 = .ok (.putfield 98, 3) := dk_181 0 98 (dk_at dksX4_thingHere_6 5 rfl rfl)
theorem dX4_thingHere_148 : decode cX4_thingHere 148 = .ok (.return_, 1) := dk_177 (dk_at dksX4_thingHere_6 8 rfl rfl)
abbrev cX4_coatHere : ByteArray := prog_12_method_17_code
def yX4_coatHere : MethodName := ⟨RX4, "coatHere", "()V"⟩
def dkwX4_coatHere_5 : List UInt8 := [177]
abbrev dktX4_coatHere_5 : List UInt8 := dkwX4_coatHere_5 ++ []
def dkwX4_coatHere_4 : List UInt8 := [180, 0, 26, 180, 0, 141, 27, 46, 96, 28, 79, 42, 180, 0, 26, 180, 0, 141, 27, 92, 46, 4, 96, 79]
abbrev dktX4_coatHere_4 : List UInt8 := dkwX4_coatHere_4 ++ dktX4_coatHere_5
def dkwX4_coatHere_3 : List UInt8 := [180, 0, 26, 180, 0, 141, 27, 92, 46, 4, 100, 79, 42, 180, 0, 26, 180, 0, 144, 8, 27, 104, 42]
abbrev dktX4_coatHere_3 : List UInt8 := dkwX4_coatHere_3 ++ dktX4_coatHere_4
def dkwX4_coatHere_2 : List UInt8 := [180, 0, 144, 8, 27, 104, 4, 96, 42, 180, 0, 26, 180, 0, 144, 8, 27, 104, 7, 184, 0, 147, 42]
abbrev dktX4_coatHere_2 : List UInt8 := dkwX4_coatHere_2 ++ dktX4_coatHere_3
def dkwX4_coatHere_1 : List UInt8 := [4, 100, 182, 0, 110, 61, 42, 180, 0, 26, 180, 0, 141, 27, 46, 8, 160, 0, 42, 42, 180, 0, 26]
abbrev dktX4_coatHere_1 : List UInt8 := dkwX4_coatHere_1 ++ dktX4_coatHere_2
def dkwX4_coatHere_0 : List UInt8 := [42, 3, 42, 180, 0, 26, 180, 0, 124, 4, 100, 182, 0, 110, 60, 42, 3, 42, 180, 0, 26, 180, 0, 101]
abbrev dktX4_coatHere_0 : List UInt8 := dkwX4_coatHere_0 ++ dktX4_coatHere_1
theorem dksX4_coatHere_0 : cX4_coatHere.data.toList.drop 0 = dktX4_coatHere_0 := by decide +kernel
theorem dksX4_coatHere_1 : cX4_coatHere.data.toList.drop 24 = dktX4_coatHere_1 := dk_seg dksX4_coatHere_0 24 rfl rfl
theorem dksX4_coatHere_2 : cX4_coatHere.data.toList.drop 47 = dktX4_coatHere_2 := dk_seg dksX4_coatHere_1 23 rfl rfl
theorem dksX4_coatHere_3 : cX4_coatHere.data.toList.drop 70 = dktX4_coatHere_3 := dk_seg dksX4_coatHere_2 23 rfl rfl
theorem dksX4_coatHere_4 : cX4_coatHere.data.toList.drop 93 = dktX4_coatHere_4 := dk_seg dksX4_coatHere_3 23 rfl rfl
theorem dksX4_coatHere_5 : cX4_coatHere.data.toList.drop 117 = dktX4_coatHere_5 := dk_seg dksX4_coatHere_4 24 rfl rfl
theorem dX4_coatHere_0 : decode cX4_coatHere 0 = .ok (.aload_n 0, 1) := dk_42 (dk_at dksX4_coatHere_0 0 rfl rfl)
theorem dX4_coatHere_1 : decode cX4_coatHere 1 = .ok (.iconst 0, 1) := dk_3 (dk_at dksX4_coatHere_0 1 rfl rfl)
theorem dX4_coatHere_2 : decode cX4_coatHere 2 = .ok (.aload_n 0, 1) := dk_42 (dk_at dksX4_coatHere_0 2 rfl rfl)
theorem dX4_coatHere_3 : decode cX4_coatHere 3 = .ok (.getfield 26, 3) := dk_180 0 26 (dk_at dksX4_coatHere_0 3 rfl rfl)
theorem dX4_coatHere_6 : decode cX4_coatHere 6 = .ok (.getfield 124, 3) := dk_180 0 124 (dk_at dksX4_coatHere_0 6 rfl rfl)
theorem dX4_coatHere_9 : decode cX4_coatHere 9 = .ok (.iconst 1, 1) := dk_4 (dk_at dksX4_coatHere_0 9 rfl rfl)
theorem dX4_coatHere_10 : decode cX4_coatHere 10 = .ok (.isub, 1) := dk_100 (dk_at dksX4_coatHere_0 10 rfl rfl)
theorem dX4_coatHere_11 : decode cX4_coatHere 11 = .ok (.invokevirtual 110, 3) := dk_182 0 110 (dk_at dksX4_coatHere_0 11 rfl rfl)
theorem dX4_coatHere_14 : decode cX4_coatHere 14 = .ok (.istore_n 1, 1) := dk_60 (dk_at dksX4_coatHere_0 14 rfl rfl)
theorem dX4_coatHere_15 : decode cX4_coatHere 15 = .ok (.aload_n 0, 1) := dk_42 (dk_at dksX4_coatHere_0 15 rfl rfl)
theorem dX4_coatHere_16 : decode cX4_coatHere 16 = .ok (.iconst 0, 1) := dk_3 (dk_at dksX4_coatHere_0 16 rfl rfl)
theorem dX4_coatHere_17 : decode cX4_coatHere 17 = .ok (.aload_n 0, 1) := dk_42 (dk_at dksX4_coatHere_0 17 rfl rfl)
theorem dX4_coatHere_18 : decode cX4_coatHere 18 = .ok (.getfield 26, 3) := dk_180 0 26 (dk_at dksX4_coatHere_0 18 rfl rfl)
theorem dX4_coatHere_21 : decode cX4_coatHere 21 = .ok (.getfield 101, 3) := dk_180 0 101 (dk_at dksX4_coatHere_0 21 rfl rfl)
theorem dX4_coatHere_24 : decode cX4_coatHere 24 = .ok (.iconst 1, 1) := dk_4 (dk_at dksX4_coatHere_1 0 rfl rfl)
theorem dX4_coatHere_25 : decode cX4_coatHere 25 = .ok (.isub, 1) := dk_100 (dk_at dksX4_coatHere_1 1 rfl rfl)
theorem dX4_coatHere_26 : decode cX4_coatHere 26 = .ok (.invokevirtual 110, 3) := dk_182 0 110 (dk_at dksX4_coatHere_1 2 rfl rfl)
theorem dX4_coatHere_29 : decode cX4_coatHere 29 = .ok (.istore_n 2, 1) := dk_61 (dk_at dksX4_coatHere_1 5 rfl rfl)
theorem dX4_coatHere_30 : decode cX4_coatHere 30 = .ok (.aload_n 0, 1) := dk_42 (dk_at dksX4_coatHere_1 6 rfl rfl)
theorem dX4_coatHere_31 : decode cX4_coatHere 31 = .ok (.getfield 26, 3) := dk_180 0 26 (dk_at dksX4_coatHere_1 7 rfl rfl)
theorem dX4_coatHere_34 : decode cX4_coatHere 34 = .ok (.getfield 141, 3) := dk_180 0 141 (dk_at dksX4_coatHere_1 10 rfl rfl)
theorem dX4_coatHere_37 : decode cX4_coatHere 37 = .ok (.iload_n 1, 1) := dk_27 (dk_at dksX4_coatHere_1 13 rfl rfl)
theorem dX4_coatHere_38 : decode cX4_coatHere 38 = .ok (.iaload, 1) := dk_46 (dk_at dksX4_coatHere_1 14 rfl rfl)
theorem dX4_coatHere_39 : decode cX4_coatHere 39 = .ok (.iconst 5, 1) := dk_8 (dk_at dksX4_coatHere_1 15 rfl rfl)
theorem dX4_coatHere_40 : decode cX4_coatHere 40 = .ok (.if_icmp .ne 42, 3) := dk_160 0 42 (dk_at dksX4_coatHere_1 16 rfl rfl)
theorem dX4_coatHere_43 : decode cX4_coatHere 43 = .ok (.aload_n 0, 1) := dk_42 (dk_at dksX4_coatHere_1 19 rfl rfl)
theorem dX4_coatHere_44 : decode cX4_coatHere 44 = .ok (.getfield 26, 3) := dk_180 0 26 (dk_at dksX4_coatHere_1 20 rfl rfl)
theorem dX4_coatHere_47 : decode cX4_coatHere 47 = .ok (.getfield 144, 3) := dk_180 0 144 (dk_at dksX4_coatHere_2 0 rfl rfl)
theorem dX4_coatHere_50 : decode cX4_coatHere 50 = .ok (.iconst 5, 1) := dk_8 (dk_at dksX4_coatHere_2 3 rfl rfl)
theorem dX4_coatHere_51 : decode cX4_coatHere 51 = .ok (.iload_n 1, 1) := dk_27 (dk_at dksX4_coatHere_2 4 rfl rfl)
theorem dX4_coatHere_52 : decode cX4_coatHere 52 = .ok (.imul, 1) := dk_104 (dk_at dksX4_coatHere_2 5 rfl rfl)
theorem dX4_coatHere_53 : decode cX4_coatHere 53 = .ok (.iconst 1, 1) := dk_4 (dk_at dksX4_coatHere_2 6 rfl rfl)
theorem dX4_coatHere_54 : decode cX4_coatHere 54 = .ok (.iadd, 1) := dk_96 (dk_at dksX4_coatHere_2 7 rfl rfl)
theorem dX4_coatHere_55 : decode cX4_coatHere 55 = .ok (.aload_n 0, 1) := dk_42 (dk_at dksX4_coatHere_2 8 rfl rfl)
theorem dX4_coatHere_56 : decode cX4_coatHere 56 = .ok (.getfield 26, 3) := dk_180 0 26 (dk_at dksX4_coatHere_2 9 rfl rfl)
theorem dX4_coatHere_59 : decode cX4_coatHere 59 = .ok (.getfield 144, 3) := dk_180 0 144 (dk_at dksX4_coatHere_2 12 rfl rfl)
theorem dX4_coatHere_62 : decode cX4_coatHere 62 = .ok (.iconst 5, 1) := dk_8 (dk_at dksX4_coatHere_2 15 rfl rfl)
theorem dX4_coatHere_63 : decode cX4_coatHere 63 = .ok (.iload_n 1, 1) := dk_27 (dk_at dksX4_coatHere_2 16 rfl rfl)
theorem dX4_coatHere_64 : decode cX4_coatHere 64 = .ok (.imul, 1) := dk_104 (dk_at dksX4_coatHere_2 17 rfl rfl)
theorem dX4_coatHere_65 : decode cX4_coatHere 65 = .ok (.iconst 4, 1) := dk_7 (dk_at dksX4_coatHere_2 18 rfl rfl)
theorem dX4_coatHere_66 : decode cX4_coatHere 66 = .ok (.invokestatic 147, 3) := dk_184 0 147 (dk_at dksX4_coatHere_2 19 rfl rfl)
theorem dX4_coatHere_69 : decode cX4_coatHere 69 = .ok (.aload_n 0, 1) := dk_42 (dk_at dksX4_coatHere_2 22 rfl rfl)
theorem dX4_coatHere_70 : decode cX4_coatHere 70 = .ok (.getfield 26, 3) := dk_180 0 26 (dk_at dksX4_coatHere_3 0 rfl rfl)
theorem dX4_coatHere_73 : decode cX4_coatHere 73 = .ok (.getfield 141, 3) := dk_180 0 141 (dk_at dksX4_coatHere_3 3 rfl rfl)
theorem dX4_coatHere_76 : decode cX4_coatHere 76 = .ok (.iload_n 1, 1) := dk_27 (dk_at dksX4_coatHere_3 6 rfl rfl)
theorem dX4_coatHere_77 : decode cX4_coatHere 77 = .ok (.dup2, 1) := dk_92 (dk_at dksX4_coatHere_3 7 rfl rfl)
theorem dX4_coatHere_78 : decode cX4_coatHere 78 = .ok (.iaload, 1) := dk_46 (dk_at dksX4_coatHere_3 8 rfl rfl)
theorem dX4_coatHere_79 : decode cX4_coatHere 79 = .ok (.iconst 1, 1) := dk_4 (dk_at dksX4_coatHere_3 9 rfl rfl)
theorem dX4_coatHere_80 : decode cX4_coatHere 80 = .ok (.isub, 1) := dk_100 (dk_at dksX4_coatHere_3 10 rfl rfl)
theorem dX4_coatHere_81 : decode cX4_coatHere 81 = .ok (.iastore, 1) := dk_79 (dk_at dksX4_coatHere_3 11 rfl rfl)
theorem dX4_coatHere_82 : decode cX4_coatHere 82 = .ok (.aload_n 0, 1) := dk_42 (dk_at dksX4_coatHere_3 12 rfl rfl)
theorem dX4_coatHere_83 : decode cX4_coatHere 83 = .ok (.getfield 26, 3) := dk_180 0 26 (dk_at dksX4_coatHere_3 13 rfl rfl)
theorem dX4_coatHere_86 : decode cX4_coatHere 86 = .ok (.getfield 144, 3) := dk_180 0 144 (dk_at dksX4_coatHere_3 16 rfl rfl)
theorem dX4_coatHere_89 : decode cX4_coatHere 89 = .ok (.iconst 5, 1) := dk_8 (dk_at dksX4_coatHere_3 19 rfl rfl)
theorem dX4_coatHere_90 : decode cX4_coatHere 90 = .ok (.iload_n 1, 1) := dk_27 (dk_at dksX4_coatHere_3 20 rfl rfl)
theorem dX4_coatHere_91 : decode cX4_coatHere 91 = .ok (.imul, 1) := dk_104 (dk_at dksX4_coatHere_3 21 rfl rfl)
theorem dX4_coatHere_92 : decode cX4_coatHere 92 = .ok (.aload_n 0, 1) := dk_42 (dk_at dksX4_coatHere_3 22 rfl rfl)
theorem dX4_coatHere_93 : decode cX4_coatHere 93 = .ok (.getfield 26, 3) := dk_180 0 26 (dk_at dksX4_coatHere_4 0 rfl rfl)
theorem dX4_coatHere_96 : decode cX4_coatHere 96 = .ok (.getfield 141, 3) := dk_180 0 141 (dk_at dksX4_coatHere_4 3 rfl rfl)
theorem dX4_coatHere_99 : decode cX4_coatHere 99 = .ok (.iload_n 1, 1) := dk_27 (dk_at dksX4_coatHere_4 6 rfl rfl)
theorem dX4_coatHere_100 : decode cX4_coatHere 100 = .ok (.iaload, 1) := dk_46 (dk_at dksX4_coatHere_4 7 rfl rfl)
theorem dX4_coatHere_101 : decode cX4_coatHere 101 = .ok (.iadd, 1) := dk_96 (dk_at dksX4_coatHere_4 8 rfl rfl)
theorem dX4_coatHere_102 : decode cX4_coatHere 102 = .ok (.iload_n 2, 1) := dk_28 (dk_at dksX4_coatHere_4 9 rfl rfl)
theorem dX4_coatHere_103 : decode cX4_coatHere 103 = .ok (.iastore, 1) := dk_79 (dk_at dksX4_coatHere_4 10 rfl rfl)
theorem dX4_coatHere_104 : decode cX4_coatHere 104 = .ok (.aload_n 0, 1) := dk_42 (dk_at dksX4_coatHere_4 11 rfl rfl)
theorem dX4_coatHere_105 : decode cX4_coatHere 105 = .ok (.getfield 26, 3) := dk_180 0 26 (dk_at dksX4_coatHere_4 12 rfl rfl)
theorem dX4_coatHere_108 : decode cX4_coatHere 108 = .ok (.getfield 141, 3) := dk_180 0 141 (dk_at dksX4_coatHere_4 15 rfl rfl)
theorem dX4_coatHere_111 : decode cX4_coatHere 111 = .ok (.iload_n 1, 1) := dk_27 (dk_at dksX4_coatHere_4 18 rfl rfl)
theorem dX4_coatHere_112 : decode cX4_coatHere 112 = .ok (.dup2, 1) := dk_92 (dk_at dksX4_coatHere_4 19 rfl rfl)
theorem dX4_coatHere_113 : decode cX4_coatHere 113 = .ok (.iaload, 1) := dk_46 (dk_at dksX4_coatHere_4 20 rfl rfl)
theorem dX4_coatHere_114 : decode cX4_coatHere 114 = .ok (.iconst 1, 1) := dk_4 (dk_at dksX4_coatHere_4 21 rfl rfl)
theorem dX4_coatHere_115 : decode cX4_coatHere 115 = .ok (.iadd, 1) := dk_96 (dk_at dksX4_coatHere_4 22 rfl rfl)
theorem dX4_coatHere_116 : decode cX4_coatHere 116 = .ok (.iastore, 1) := dk_79 (dk_at dksX4_coatHere_4 23 rfl rfl)
theorem dX4_coatHere_117 : decode cX4_coatHere 117 = .ok (.return_, 1) := dk_177 (dk_at dksX4_coatHere_5 0 rfl rfl)
abbrev cX4_takesSign : ByteArray := prog_12_method_4_code
def yX4_takesSign : MethodName := ⟨RX4, "takesSign", "(I)Z"⟩
def dkwX4_takesSign_0 : List UInt8 := [42, 182, 0, 52, 27, 159, 0, 5, 3, 172, 42, 89, 180, 0, 42, 4, 96, 181, 0, 42, 4, 172]
abbrev dktX4_takesSign_0 : List UInt8 := dkwX4_takesSign_0 ++ []
theorem dksX4_takesSign_0 : cX4_takesSign.data.toList.drop 0 = dktX4_takesSign_0 := by decide +kernel
theorem dX4_takesSign_0 : decode cX4_takesSign 0 = .ok (.aload_n 0, 1) := dk_42 (dk_at dksX4_takesSign_0 0 rfl rfl)
theorem dX4_takesSign_1 : decode cX4_takesSign 1 = .ok (.invokevirtual 52, 3) := dk_182 0 52 (dk_at dksX4_takesSign_0 1 rfl rfl)
theorem dX4_takesSign_4 : decode cX4_takesSign 4 = .ok (.iload_n 1, 1) := dk_27 (dk_at dksX4_takesSign_0 4 rfl rfl)
theorem dX4_takesSign_5 : decode cX4_takesSign 5 = .ok (.if_icmp .eq 5, 3) := dk_159 0 5 (dk_at dksX4_takesSign_0 5 rfl rfl)
theorem dX4_takesSign_8 : decode cX4_takesSign 8 = .ok (.iconst 0, 1) := dk_3 (dk_at dksX4_takesSign_0 8 rfl rfl)
theorem dX4_takesSign_9 : decode cX4_takesSign 9 = .ok (.ireturn, 1) := dk_172 (dk_at dksX4_takesSign_0 9 rfl rfl)
theorem dX4_takesSign_10 : decode cX4_takesSign 10 = .ok (.aload_n 0, 1) := dk_42 (dk_at dksX4_takesSign_0 10 rfl rfl)
theorem dX4_takesSign_11 : decode cX4_takesSign 11 = .ok (.dup, 1) := dk_89 (dk_at dksX4_takesSign_0 11 rfl rfl)
theorem dX4_takesSign_12 : decode cX4_takesSign 12 = .ok (.getfield 42, 3) := dk_180 0 42 (dk_at dksX4_takesSign_0 12 rfl rfl)
theorem dX4_takesSign_15 : decode cX4_takesSign 15 = .ok (.iconst 1, 1) := dk_4 (dk_at dksX4_takesSign_0 15 rfl rfl)
theorem dX4_takesSign_16 : decode cX4_takesSign 16 = .ok (.iadd, 1) := dk_96 (dk_at dksX4_takesSign_0 16 rfl rfl)
theorem dX4_takesSign_17 : decode cX4_takesSign 17 = .ok (.putfield 42, 3) := dk_181 0 42 (dk_at dksX4_takesSign_0 17 rfl rfl)
theorem dX4_takesSign_20 : decode cX4_takesSign 20 = .ok (.iconst 1, 1) := dk_4 (dk_at dksX4_takesSign_0 20 rfl rfl)
theorem dX4_takesSign_21 : decode cX4_takesSign 21 = .ok (.ireturn, 1) := dk_172 (dk_at dksX4_takesSign_0 21 rfl rfl)
abbrev cX4_ends : ByteArray := prog_12_method_13_code
def yX4_ends : MethodName := ⟨RX4, "ends", "()V"⟩
def dkwX4_ends_0 : List UInt8 := [42, 42, 182, 0, 52, 2, 160, 0, 7, 4, 167, 0, 4, 3, 3, 42, 180, 0, 42, 182, 0, 76, 177]
abbrev dktX4_ends_0 : List UInt8 := dkwX4_ends_0 ++ []
theorem dksX4_ends_0 : cX4_ends.data.toList.drop 0 = dktX4_ends_0 := by decide +kernel
theorem dX4_ends_0 : decode cX4_ends 0 = .ok (.aload_n 0, 1) := dk_42 (dk_at dksX4_ends_0 0 rfl rfl)
theorem dX4_ends_1 : decode cX4_ends 1 = .ok (.aload_n 0, 1) := dk_42 (dk_at dksX4_ends_0 1 rfl rfl)
theorem dX4_ends_2 : decode cX4_ends 2 = .ok (.invokevirtual 52, 3) := dk_182 0 52 (dk_at dksX4_ends_0 2 rfl rfl)
theorem dX4_ends_5 : decode cX4_ends 5 = .ok (.iconst (-1), 1) := dk_2 (dk_at dksX4_ends_0 5 rfl rfl)
theorem dX4_ends_6 : decode cX4_ends 6 = .ok (.if_icmp .ne 7, 3) := dk_160 0 7 (dk_at dksX4_ends_0 6 rfl rfl)
theorem dX4_ends_9 : decode cX4_ends 9 = .ok (.iconst 1, 1) := dk_4 (dk_at dksX4_ends_0 9 rfl rfl)
theorem dX4_ends_10 : decode cX4_ends 10 = .ok (.goto 4, 3) := dk_167 0 4 (dk_at dksX4_ends_0 10 rfl rfl)
theorem dX4_ends_13 : decode cX4_ends 13 = .ok (.iconst 0, 1) := dk_3 (dk_at dksX4_ends_0 13 rfl rfl)
theorem dX4_ends_14 : decode cX4_ends 14 = .ok (.iconst 0, 1) := dk_3 (dk_at dksX4_ends_0 14 rfl rfl)
theorem dX4_ends_15 : decode cX4_ends 15 = .ok (.aload_n 0, 1) := dk_42 (dk_at dksX4_ends_0 15 rfl rfl)
theorem dX4_ends_16 : decode cX4_ends 16 = .ok (.getfield 42, 3) := dk_180 0 42 (dk_at dksX4_ends_0 16 rfl rfl)
theorem dX4_ends_19 : decode cX4_ends 19 = .ok (.invokevirtual 76, 3) := dk_182 0 76 (dk_at dksX4_ends_0 19 rfl rfl)
theorem dX4_ends_22 : decode cX4_ends 22 = .ok (.return_, 1) := dk_177 (dk_at dksX4_ends_0 22 rfl rfl)
abbrev cX4_ruleTold : ByteArray := prog_12_method_21_code
def yX4_ruleTold : MethodName := ⟨RX4, "ruleTold", "()LLatestCoat$Rule;"⟩
def dkwX4_ruleTold_5 : List UInt8 := [182, 0, 198, 43, 176]
abbrev dktX4_ruleTold_5 : List UInt8 := dkwX4_ruleTold_5 ++ []
def dkwX4_ruleTold_4 : List UInt8 := [182, 0, 238, 83, 43, 89, 180, 0, 237, 4, 96, 181, 0, 237, 42, 16, 59, 182, 0, 195, 154, 255, 152, 42]
abbrev dktX4_ruleTold_4 : List UInt8 := dkwX4_ruleTold_4 ++ dktX4_ruleTold_5
def dkwX4_ruleTold_3 : List UInt8 := [181, 0, 90, 42, 89, 180, 0, 42, 8, 96, 181, 0, 42, 43, 180, 0, 233, 43, 180, 0, 237, 42]
abbrev dktX4_ruleTold_3 : List UInt8 := dkwX4_ruleTold_3 ++ dktX4_ruleTold_4
def dkwX4_ruleTold_2 : List UInt8 := [16, 12, 162, 0, 7, 4, 167, 0, 4, 3, 7, 28, 182, 0, 76, 42, 89, 180, 0, 90, 4, 96]
abbrev dktX4_ruleTold_2 : List UInt8 := dkwX4_ruleTold_2 ++ dktX4_ruleTold_3
def dkwX4_ruleTold_1 : List UInt8 := [180, 0, 230, 182, 0, 184, 154, 0, 7, 4, 167, 0, 4, 3, 3, 28, 182, 0, 76, 42, 42, 180, 0, 90]
abbrev dktX4_ruleTold_1 : List UInt8 := dkwX4_ruleTold_1 ++ dktX4_ruleTold_2
def dkwX4_ruleTold_0 : List UInt8 := [187, 0, 227, 89, 183, 0, 229, 76, 42, 182, 0, 52, 87, 42, 180, 0, 42, 61, 42, 42, 42, 180, 0, 3]
abbrev dktX4_ruleTold_0 : List UInt8 := dkwX4_ruleTold_0 ++ dktX4_ruleTold_1
theorem dksX4_ruleTold_0 : cX4_ruleTold.data.toList.drop 0 = dktX4_ruleTold_0 := by decide +kernel
theorem dksX4_ruleTold_1 : cX4_ruleTold.data.toList.drop 24 = dktX4_ruleTold_1 := dk_seg dksX4_ruleTold_0 24 rfl rfl
theorem dksX4_ruleTold_2 : cX4_ruleTold.data.toList.drop 48 = dktX4_ruleTold_2 := dk_seg dksX4_ruleTold_1 24 rfl rfl
theorem dksX4_ruleTold_3 : cX4_ruleTold.data.toList.drop 70 = dktX4_ruleTold_3 := dk_seg dksX4_ruleTold_2 22 rfl rfl
theorem dksX4_ruleTold_4 : cX4_ruleTold.data.toList.drop 92 = dktX4_ruleTold_4 := dk_seg dksX4_ruleTold_3 22 rfl rfl
theorem dksX4_ruleTold_5 : cX4_ruleTold.data.toList.drop 116 = dktX4_ruleTold_5 := dk_seg dksX4_ruleTold_4 24 rfl rfl
theorem dX4_ruleTold_0 : decode cX4_ruleTold 0 = .ok (.new 227, 3) := dk_187 0 227 (dk_at dksX4_ruleTold_0 0 rfl rfl)
theorem dX4_ruleTold_3 : decode cX4_ruleTold 3 = .ok (.dup, 1) := dk_89 (dk_at dksX4_ruleTold_0 3 rfl rfl)
theorem dX4_ruleTold_4 : decode cX4_ruleTold 4 = .ok (.invokespecial 229, 3) := dk_183 0 229 (dk_at dksX4_ruleTold_0 4 rfl rfl)
theorem dX4_ruleTold_7 : decode cX4_ruleTold 7 = .ok (.astore_n 1, 1) := dk_76 (dk_at dksX4_ruleTold_0 7 rfl rfl)
theorem dX4_ruleTold_8 : decode cX4_ruleTold 8 = .ok (.aload_n 0, 1) := dk_42 (dk_at dksX4_ruleTold_0 8 rfl rfl)
theorem dX4_ruleTold_9 : decode cX4_ruleTold 9 = .ok (.invokevirtual 52, 3) := dk_182 0 52 (dk_at dksX4_ruleTold_0 9 rfl rfl)
theorem dX4_ruleTold_12 : decode cX4_ruleTold 12 = .ok (.pop, 1) := dk_87 (dk_at dksX4_ruleTold_0 12 rfl rfl)
theorem dX4_ruleTold_13 : decode cX4_ruleTold 13 = .ok (.aload_n 0, 1) := dk_42 (dk_at dksX4_ruleTold_0 13 rfl rfl)
theorem dX4_ruleTold_14 : decode cX4_ruleTold 14 = .ok (.getfield 42, 3) := dk_180 0 42 (dk_at dksX4_ruleTold_0 14 rfl rfl)
theorem dX4_ruleTold_17 : decode cX4_ruleTold 17 = .ok (.istore_n 2, 1) := dk_61 (dk_at dksX4_ruleTold_0 17 rfl rfl)
theorem dX4_ruleTold_18 : decode cX4_ruleTold 18 = .ok (.aload_n 0, 1) := dk_42 (dk_at dksX4_ruleTold_0 18 rfl rfl)
theorem dX4_ruleTold_19 : decode cX4_ruleTold 19 = .ok (.aload_n 0, 1) := dk_42 (dk_at dksX4_ruleTold_0 19 rfl rfl)
theorem dX4_ruleTold_20 : decode cX4_ruleTold 20 = .ok (.aload_n 0, 1) := dk_42 (dk_at dksX4_ruleTold_0 20 rfl rfl)
theorem dX4_ruleTold_21 : decode cX4_ruleTold 21 = .ok (.getfield 3, 3) := dk_180 0 3 (dk_at dksX4_ruleTold_0 21 rfl rfl)
theorem dX4_ruleTold_24 : decode cX4_ruleTold 24 = .ok (.getfield 230, 3) := dk_180 0 230 (dk_at dksX4_ruleTold_1 0 rfl rfl)
theorem dX4_ruleTold_27 : decode cX4_ruleTold 27 = .ok (.invokevirtual 184, 3) := dk_182 0 184 (dk_at dksX4_ruleTold_1 3 rfl rfl)
theorem dX4_ruleTold_30 : decode cX4_ruleTold 30 = .ok (.ifCond .ne 7, 3) := dk_154 0 7 (dk_at dksX4_ruleTold_1 6 rfl rfl)
theorem dX4_ruleTold_33 : decode cX4_ruleTold 33 = .ok (.iconst 1, 1) := dk_4 (dk_at dksX4_ruleTold_1 9 rfl rfl)
theorem dX4_ruleTold_34 : decode cX4_ruleTold 34 = .ok (.goto 4, 3) := dk_167 0 4 (dk_at dksX4_ruleTold_1 10 rfl rfl)
theorem dX4_ruleTold_37 : decode cX4_ruleTold 37 = .ok (.iconst 0, 1) := dk_3 (dk_at dksX4_ruleTold_1 13 rfl rfl)
theorem dX4_ruleTold_38 : decode cX4_ruleTold 38 = .ok (.iconst 0, 1) := dk_3 (dk_at dksX4_ruleTold_1 14 rfl rfl)
theorem dX4_ruleTold_39 : decode cX4_ruleTold 39 = .ok (.iload_n 2, 1) := dk_28 (dk_at dksX4_ruleTold_1 15 rfl rfl)
theorem dX4_ruleTold_40 : decode cX4_ruleTold 40 = .ok (.invokevirtual 76, 3) := dk_182 0 76 (dk_at dksX4_ruleTold_1 16 rfl rfl)
theorem dX4_ruleTold_43 : decode cX4_ruleTold 43 = .ok (.aload_n 0, 1) := dk_42 (dk_at dksX4_ruleTold_1 19 rfl rfl)
theorem dX4_ruleTold_44 : decode cX4_ruleTold 44 = .ok (.aload_n 0, 1) := dk_42 (dk_at dksX4_ruleTold_1 20 rfl rfl)
theorem dX4_ruleTold_45 : decode cX4_ruleTold 45 = .ok (.getfield 90, 3) := dk_180 0 90 (dk_at dksX4_ruleTold_1 21 rfl rfl)
theorem dX4_ruleTold_48 : decode cX4_ruleTold 48 = .ok (.bipush 12, 2) := dk_16 12 (dk_at dksX4_ruleTold_2 0 rfl rfl)
theorem dX4_ruleTold_50 : decode cX4_ruleTold 50 = .ok (.if_icmp .ge 7, 3) := dk_162 0 7 (dk_at dksX4_ruleTold_2 2 rfl rfl)
theorem dX4_ruleTold_53 : decode cX4_ruleTold 53 = .ok (.iconst 1, 1) := dk_4 (dk_at dksX4_ruleTold_2 5 rfl rfl)
theorem dX4_ruleTold_54 : decode cX4_ruleTold 54 = .ok (.goto 4, 3) := dk_167 0 4 (dk_at dksX4_ruleTold_2 6 rfl rfl)
theorem dX4_ruleTold_57 : decode cX4_ruleTold 57 = .ok (.iconst 0, 1) := dk_3 (dk_at dksX4_ruleTold_2 9 rfl rfl)
theorem dX4_ruleTold_58 : decode cX4_ruleTold 58 = .ok (.iconst 4, 1) := dk_7 (dk_at dksX4_ruleTold_2 10 rfl rfl)
theorem dX4_ruleTold_59 : decode cX4_ruleTold 59 = .ok (.iload_n 2, 1) := dk_28 (dk_at dksX4_ruleTold_2 11 rfl rfl)
theorem dX4_ruleTold_60 : decode cX4_ruleTold 60 = .ok (.invokevirtual 76, 3) := dk_182 0 76 (dk_at dksX4_ruleTold_2 12 rfl rfl)
theorem dX4_ruleTold_63 : decode cX4_ruleTold 63 = .ok (.aload_n 0, 1) := dk_42 (dk_at dksX4_ruleTold_2 15 rfl rfl)
theorem dX4_ruleTold_64 : decode cX4_ruleTold 64 = .ok (.dup, 1) := dk_89 (dk_at dksX4_ruleTold_2 16 rfl rfl)
theorem dX4_ruleTold_65 : decode cX4_ruleTold 65 = .ok (.getfield 90, 3) := dk_180 0 90 (dk_at dksX4_ruleTold_2 17 rfl rfl)
theorem dX4_ruleTold_68 : decode cX4_ruleTold 68 = .ok (.iconst 1, 1) := dk_4 (dk_at dksX4_ruleTold_2 20 rfl rfl)
theorem dX4_ruleTold_69 : decode cX4_ruleTold 69 = .ok (.iadd, 1) := dk_96 (dk_at dksX4_ruleTold_2 21 rfl rfl)
theorem dX4_ruleTold_70 : decode cX4_ruleTold 70 = .ok (.putfield 90, 3) := dk_181 0 90 (dk_at dksX4_ruleTold_3 0 rfl rfl)
theorem dX4_ruleTold_73 : decode cX4_ruleTold 73 = .ok (.aload_n 0, 1) := dk_42 (dk_at dksX4_ruleTold_3 3 rfl rfl)
theorem dX4_ruleTold_74 : decode cX4_ruleTold 74 = .ok (.dup, 1) := dk_89 (dk_at dksX4_ruleTold_3 4 rfl rfl)
theorem dX4_ruleTold_75 : decode cX4_ruleTold 75 = .ok (.getfield 42, 3) := dk_180 0 42 (dk_at dksX4_ruleTold_3 5 rfl rfl)
theorem dX4_ruleTold_78 : decode cX4_ruleTold 78 = .ok (.iconst 5, 1) := dk_8 (dk_at dksX4_ruleTold_3 8 rfl rfl)
theorem dX4_ruleTold_79 : decode cX4_ruleTold 79 = .ok (.iadd, 1) := dk_96 (dk_at dksX4_ruleTold_3 9 rfl rfl)
theorem dX4_ruleTold_80 : decode cX4_ruleTold 80 = .ok (.putfield 42, 3) := dk_181 0 42 (dk_at dksX4_ruleTold_3 10 rfl rfl)
theorem dX4_ruleTold_83 : decode cX4_ruleTold 83 = .ok (.aload_n 1, 1) := dk_43 (dk_at dksX4_ruleTold_3 13 rfl rfl)
theorem dX4_ruleTold_84 : decode cX4_ruleTold 84 = .ok (.getfield 233, 3) := dk_180 0 233 (dk_at dksX4_ruleTold_3 14 rfl rfl)
theorem dX4_ruleTold_87 : decode cX4_ruleTold 87 = .ok (.aload_n 1, 1) := dk_43 (dk_at dksX4_ruleTold_3 17 rfl rfl)
theorem dX4_ruleTold_88 : decode cX4_ruleTold 88 = .ok (.getfield 237, 3) := dk_180 0 237 (dk_at dksX4_ruleTold_3 18 rfl rfl)
theorem dX4_ruleTold_91 : decode cX4_ruleTold 91 = .ok (.aload_n 0, 1) := dk_42 (dk_at dksX4_ruleTold_3 21 rfl rfl)
theorem dX4_ruleTold_92 : decode cX4_ruleTold 92 = .ok (.invokevirtual 238, 3) := dk_182 0 238 (dk_at dksX4_ruleTold_4 0 rfl rfl)
theorem dX4_ruleTold_95 : decode cX4_ruleTold 95 = .ok (.aastore, 1) := dk_83 (dk_at dksX4_ruleTold_4 3 rfl rfl)
theorem dX4_ruleTold_96 : decode cX4_ruleTold 96 = .ok (.aload_n 1, 1) := dk_43 (dk_at dksX4_ruleTold_4 4 rfl rfl)
theorem dX4_ruleTold_97 : decode cX4_ruleTold 97 = .ok (.dup, 1) := dk_89 (dk_at dksX4_ruleTold_4 5 rfl rfl)
theorem dX4_ruleTold_98 : decode cX4_ruleTold 98 = .ok (.getfield 237, 3) := dk_180 0 237 (dk_at dksX4_ruleTold_4 6 rfl rfl)
theorem dX4_ruleTold_101 : decode cX4_ruleTold 101 = .ok (.iconst 1, 1) := dk_4 (dk_at dksX4_ruleTold_4 9 rfl rfl)
theorem dX4_ruleTold_102 : decode cX4_ruleTold 102 = .ok (.iadd, 1) := dk_96 (dk_at dksX4_ruleTold_4 10 rfl rfl)
theorem dX4_ruleTold_103 : decode cX4_ruleTold 103 = .ok (.putfield 237, 3) := dk_181 0 237 (dk_at dksX4_ruleTold_4 11 rfl rfl)
theorem dX4_ruleTold_106 : decode cX4_ruleTold 106 = .ok (.aload_n 0, 1) := dk_42 (dk_at dksX4_ruleTold_4 14 rfl rfl)
theorem dX4_ruleTold_107 : decode cX4_ruleTold 107 = .ok (.bipush 59, 2) := dk_16 59 (dk_at dksX4_ruleTold_4 15 rfl rfl)
theorem dX4_ruleTold_109 : decode cX4_ruleTold 109 = .ok (.invokevirtual 195, 3) := dk_182 0 195 (dk_at dksX4_ruleTold_4 17 rfl rfl)
theorem dX4_ruleTold_112 : decode cX4_ruleTold 112 = .ok (.ifCond .ne (-104), 3) := dk_154 255 152 (dk_at dksX4_ruleTold_4 20 rfl rfl)
theorem dX4_ruleTold_115 : decode cX4_ruleTold 115 = .ok (.aload_n 0, 1) := dk_42 (dk_at dksX4_ruleTold_4 23 rfl rfl)
theorem dX4_ruleTold_116 : decode cX4_ruleTold 116 = .ok (.invokevirtual 198, 3) := dk_182 0 198 (dk_at dksX4_ruleTold_5 0 rfl rfl)
theorem dX4_ruleTold_119 : decode cX4_ruleTold 119 = .ok (.aload_n 1, 1) := dk_43 (dk_at dksX4_ruleTold_5 3 rfl rfl)
theorem dX4_ruleTold_120 : decode cX4_ruleTold 120 = .ok (.areturn, 1) := dk_176 (dk_at dksX4_ruleTold_5 4 rfl rfl)
abbrev cX4_clauseHere : ByteArray := prog_12_method_20_code
def yX4_clauseHere : MethodName := ⟨RX4, "clauseHere", "()LLatestCoat$Clause;"⟩
def dkwX4_clauseHere_1 : List UInt8 := [153, 0, 10, 42, 182, 0, 219, 167, 0, 4, 1, 181, 0, 223, 43, 176]
abbrev dktX4_clauseHere_1 : List UInt8 := dkwX4_clauseHere_1 ++ []
def dkwX4_clauseHere_0 : List UInt8 := [187, 0, 204, 89, 183, 0, 206, 76, 43, 42, 182, 0, 207, 181, 0, 211, 43, 42, 18, 214, 182, 0, 216]
abbrev dktX4_clauseHere_0 : List UInt8 := dkwX4_clauseHere_0 ++ dktX4_clauseHere_1
theorem dksX4_clauseHere_0 : cX4_clauseHere.data.toList.drop 0 = dktX4_clauseHere_0 := by decide +kernel
theorem dksX4_clauseHere_1 : cX4_clauseHere.data.toList.drop 23 = dktX4_clauseHere_1 := dk_seg dksX4_clauseHere_0 23 rfl rfl
theorem dX4_clauseHere_0 : decode cX4_clauseHere 0 = .ok (.new 204, 3) := dk_187 0 204 (dk_at dksX4_clauseHere_0 0 rfl rfl)
theorem dX4_clauseHere_3 : decode cX4_clauseHere 3 = .ok (.dup, 1) := dk_89 (dk_at dksX4_clauseHere_0 3 rfl rfl)
theorem dX4_clauseHere_4 : decode cX4_clauseHere 4 = .ok (.invokespecial 206, 3) := dk_183 0 206 (dk_at dksX4_clauseHere_0 4 rfl rfl)
theorem dX4_clauseHere_7 : decode cX4_clauseHere 7 = .ok (.astore_n 1, 1) := dk_76 (dk_at dksX4_clauseHere_0 7 rfl rfl)
theorem dX4_clauseHere_8 : decode cX4_clauseHere 8 = .ok (.aload_n 1, 1) := dk_43 (dk_at dksX4_clauseHere_0 8 rfl rfl)
theorem dX4_clauseHere_9 : decode cX4_clauseHere 9 = .ok (.aload_n 0, 1) := dk_42 (dk_at dksX4_clauseHere_0 9 rfl rfl)
theorem dX4_clauseHere_10 : decode cX4_clauseHere 10 = .ok (.invokevirtual 207, 3) := dk_182 0 207 (dk_at dksX4_clauseHere_0 10 rfl rfl)
theorem dX4_clauseHere_13 : decode cX4_clauseHere 13 = .ok (.putfield 211, 3) := dk_181 0 211 (dk_at dksX4_clauseHere_0 13 rfl rfl)
theorem dX4_clauseHere_16 : decode cX4_clauseHere 16 = .ok (.aload_n 1, 1) := dk_43 (dk_at dksX4_clauseHere_0 16 rfl rfl)
theorem dX4_clauseHere_17 : decode cX4_clauseHere 17 = .ok (.aload_n 0, 1) := dk_42 (dk_at dksX4_clauseHere_0 17 rfl rfl)
theorem dX4_clauseHere_18 : decode cX4_clauseHere 18 = .ok (.ldc 214, 2) := dk_18 214 (dk_at dksX4_clauseHere_0 18 rfl rfl)
theorem dX4_clauseHere_20 : decode cX4_clauseHere 20 = .ok (.invokevirtual 216, 3) := dk_182 0 216 (dk_at dksX4_clauseHere_0 20 rfl rfl)
theorem dX4_clauseHere_23 : decode cX4_clauseHere 23 = .ok (.ifCond .eq 10, 3) := dk_153 0 10 (dk_at dksX4_clauseHere_1 0 rfl rfl)
theorem dX4_clauseHere_26 : decode cX4_clauseHere 26 = .ok (.aload_n 0, 1) := dk_42 (dk_at dksX4_clauseHere_1 3 rfl rfl)
theorem dX4_clauseHere_27 : decode cX4_clauseHere 27 = .ok (.invokevirtual 219, 3) := dk_182 0 219 (dk_at dksX4_clauseHere_1 4 rfl rfl)
theorem dX4_clauseHere_30 : decode cX4_clauseHere 30 = .ok (.goto 4, 3) := dk_167 0 4 (dk_at dksX4_clauseHere_1 7 rfl rfl)
theorem dX4_clauseHere_33 : decode cX4_clauseHere 33 = .ok (.aconst_null, 1) := dk_1 (dk_at dksX4_clauseHere_1 10 rfl rfl)
theorem dX4_clauseHere_34 : decode cX4_clauseHere 34 = .ok (.putfield 223, 3) := dk_181 0 223 (dk_at dksX4_clauseHere_1 11 rfl rfl)
theorem dX4_clauseHere_37 : decode cX4_clauseHere 37 = .ok (.aload_n 1, 1) := dk_43 (dk_at dksX4_clauseHere_1 14 rfl rfl)
theorem dX4_clauseHere_38 : decode cX4_clauseHere 38 = .ok (.areturn, 1) := dk_176 (dk_at dksX4_clauseHere_1 15 rfl rfl)
abbrev cX4_sum : ByteArray := prog_12_method_26_code
def yX4_sum : MethodName := ⟨RX4, "sum", "()LLatestCoat$Value;"⟩
def dkwX4_sum_2 : List UInt8 := [187, 1, 25, 89, 43, 28, 42, 182, 1, 22, 183, 1, 27, 76, 167, 255, 201, 43, 176]
abbrev dktX4_sum_2 : List UInt8 := dkwX4_sum_2 ++ []
def dkwX4_sum_1 : List UInt8 := [180, 0, 3, 180, 0, 48, 42, 180, 0, 42, 51, 61, 42, 89, 180, 0, 42, 4, 96, 181, 0, 42]
abbrev dktX4_sum_1 : List UInt8 := dkwX4_sum_1 ++ dktX4_sum_2
def dkwX4_sum_0 : List UInt8 := [42, 182, 1, 22, 76, 42, 182, 0, 52, 16, 43, 159, 0, 12, 42, 182, 0, 52, 16, 45, 160, 0, 43, 42]
abbrev dktX4_sum_0 : List UInt8 := dkwX4_sum_0 ++ dktX4_sum_1
theorem dksX4_sum_0 : cX4_sum.data.toList.drop 0 = dktX4_sum_0 := by decide +kernel
theorem dksX4_sum_1 : cX4_sum.data.toList.drop 24 = dktX4_sum_1 := dk_seg dksX4_sum_0 24 rfl rfl
theorem dksX4_sum_2 : cX4_sum.data.toList.drop 46 = dktX4_sum_2 := dk_seg dksX4_sum_1 22 rfl rfl
theorem dX4_sum_0 : decode cX4_sum 0 = .ok (.aload_n 0, 1) := dk_42 (dk_at dksX4_sum_0 0 rfl rfl)
theorem dX4_sum_1 : decode cX4_sum 1 = .ok (.invokevirtual 278, 3) := dk_182 1 22 (dk_at dksX4_sum_0 1 rfl rfl)
theorem dX4_sum_4 : decode cX4_sum 4 = .ok (.astore_n 1, 1) := dk_76 (dk_at dksX4_sum_0 4 rfl rfl)
theorem dX4_sum_5 : decode cX4_sum 5 = .ok (.aload_n 0, 1) := dk_42 (dk_at dksX4_sum_0 5 rfl rfl)
theorem dX4_sum_6 : decode cX4_sum 6 = .ok (.invokevirtual 52, 3) := dk_182 0 52 (dk_at dksX4_sum_0 6 rfl rfl)
theorem dX4_sum_9 : decode cX4_sum 9 = .ok (.bipush 43, 2) := dk_16 43 (dk_at dksX4_sum_0 9 rfl rfl)
theorem dX4_sum_11 : decode cX4_sum 11 = .ok (.if_icmp .eq 12, 3) := dk_159 0 12 (dk_at dksX4_sum_0 11 rfl rfl)
theorem dX4_sum_14 : decode cX4_sum 14 = .ok (.aload_n 0, 1) := dk_42 (dk_at dksX4_sum_0 14 rfl rfl)
theorem dX4_sum_15 : decode cX4_sum 15 = .ok (.invokevirtual 52, 3) := dk_182 0 52 (dk_at dksX4_sum_0 15 rfl rfl)
theorem dX4_sum_18 : decode cX4_sum 18 = .ok (.bipush 45, 2) := dk_16 45 (dk_at dksX4_sum_0 18 rfl rfl)
theorem dX4_sum_20 : decode cX4_sum 20 = .ok (.if_icmp .ne 43, 3) := dk_160 0 43 (dk_at dksX4_sum_0 20 rfl rfl)
theorem dX4_sum_23 : decode cX4_sum 23 = .ok (.aload_n 0, 1) := dk_42 (dk_at dksX4_sum_0 23 rfl rfl)
theorem dX4_sum_24 : decode cX4_sum 24 = .ok (.getfield 3, 3) := dk_180 0 3 (dk_at dksX4_sum_1 0 rfl rfl)
theorem dX4_sum_27 : decode cX4_sum 27 = .ok (.getfield 48, 3) := dk_180 0 48 (dk_at dksX4_sum_1 3 rfl rfl)
theorem dX4_sum_30 : decode cX4_sum 30 = .ok (.aload_n 0, 1) := dk_42 (dk_at dksX4_sum_1 6 rfl rfl)
theorem dX4_sum_31 : decode cX4_sum 31 = .ok (.getfield 42, 3) := dk_180 0 42 (dk_at dksX4_sum_1 7 rfl rfl)
theorem dX4_sum_34 : decode cX4_sum 34 = .ok (.baload, 1) := dk_51 (dk_at dksX4_sum_1 10 rfl rfl)
theorem dX4_sum_35 : decode cX4_sum 35 = .ok (.istore_n 2, 1) := dk_61 (dk_at dksX4_sum_1 11 rfl rfl)
theorem dX4_sum_36 : decode cX4_sum 36 = .ok (.aload_n 0, 1) := dk_42 (dk_at dksX4_sum_1 12 rfl rfl)
theorem dX4_sum_37 : decode cX4_sum 37 = .ok (.dup, 1) := dk_89 (dk_at dksX4_sum_1 13 rfl rfl)
theorem dX4_sum_38 : decode cX4_sum 38 = .ok (.getfield 42, 3) := dk_180 0 42 (dk_at dksX4_sum_1 14 rfl rfl)
theorem dX4_sum_41 : decode cX4_sum 41 = .ok (.iconst 1, 1) := dk_4 (dk_at dksX4_sum_1 17 rfl rfl)
theorem dX4_sum_42 : decode cX4_sum 42 = .ok (.iadd, 1) := dk_96 (dk_at dksX4_sum_1 18 rfl rfl)
theorem dX4_sum_43 : decode cX4_sum 43 = .ok (.putfield 42, 3) := dk_181 0 42 (dk_at dksX4_sum_1 19 rfl rfl)
theorem dX4_sum_46 : decode cX4_sum 46 = .ok (.new 281, 3) := dk_187 1 25 (dk_at dksX4_sum_2 0 rfl rfl)
theorem dX4_sum_49 : decode cX4_sum 49 = .ok (.dup, 1) := dk_89 (dk_at dksX4_sum_2 3 rfl rfl)
theorem dX4_sum_50 : decode cX4_sum 50 = .ok (.aload_n 1, 1) := dk_43 (dk_at dksX4_sum_2 4 rfl rfl)
theorem dX4_sum_51 : decode cX4_sum 51 = .ok (.iload_n 2, 1) := dk_28 (dk_at dksX4_sum_2 5 rfl rfl)
theorem dX4_sum_52 : decode cX4_sum 52 = .ok (.aload_n 0, 1) := dk_42 (dk_at dksX4_sum_2 6 rfl rfl)
theorem dX4_sum_53 : decode cX4_sum 53 = .ok (.invokevirtual 278, 3) := dk_182 1 22 (dk_at dksX4_sum_2 7 rfl rfl)
theorem dX4_sum_56 : decode cX4_sum 56 = .ok (.invokespecial 283, 3) := dk_183 1 27 (dk_at dksX4_sum_2 10 rfl rfl)
theorem dX4_sum_59 : decode cX4_sum 59 = .ok (.astore_n 1, 1) := dk_76 (dk_at dksX4_sum_2 13 rfl rfl)
theorem dX4_sum_60 : decode cX4_sum 60 = .ok (.goto (-55), 3) := dk_167 255 201 (dk_at dksX4_sum_2 14 rfl rfl)
theorem dX4_sum_63 : decode cX4_sum 63 = .ok (.aload_n 1, 1) := dk_43 (dk_at dksX4_sum_2 17 rfl rfl)
theorem dX4_sum_64 : decode cX4_sum 64 = .ok (.areturn, 1) := dk_176 (dk_at dksX4_sum_2 18 rfl rfl)
abbrev cX4_term : ByteArray := prog_12_method_27_code
def yX4_term : MethodName := ⟨RX4, "term", "()LLatestCoat$Value;"⟩
def dkwX4_term_3 : List UInt8 := [167, 255, 192, 43, 176]
abbrev dktX4_term_3 : List UInt8 := dkwX4_term_3 ++ []
def dkwX4_term_2 : List UInt8 := [180, 0, 42, 4, 96, 181, 0, 42, 187, 1, 25, 89, 43, 28, 42, 182, 1, 28, 183, 1, 27, 76]
abbrev dktX4_term_2 : List UInt8 := dkwX4_term_2 ++ dktX4_term_3
def dkwX4_term_1 : List UInt8 := [182, 0, 52, 16, 37, 160, 0, 43, 42, 180, 0, 3, 180, 0, 48, 42, 180, 0, 42, 51, 61, 42, 89]
abbrev dktX4_term_1 : List UInt8 := dkwX4_term_1 ++ dktX4_term_2
def dkwX4_term_0 : List UInt8 := [42, 182, 1, 28, 76, 42, 182, 0, 52, 16, 42, 159, 0, 21, 42, 182, 0, 52, 16, 47, 159, 0, 12, 42]
abbrev dktX4_term_0 : List UInt8 := dkwX4_term_0 ++ dktX4_term_1
theorem dksX4_term_0 : cX4_term.data.toList.drop 0 = dktX4_term_0 := by decide +kernel
theorem dksX4_term_1 : cX4_term.data.toList.drop 24 = dktX4_term_1 := dk_seg dksX4_term_0 24 rfl rfl
theorem dksX4_term_2 : cX4_term.data.toList.drop 47 = dktX4_term_2 := dk_seg dksX4_term_1 23 rfl rfl
theorem dksX4_term_3 : cX4_term.data.toList.drop 69 = dktX4_term_3 := dk_seg dksX4_term_2 22 rfl rfl
theorem dX4_term_0 : decode cX4_term 0 = .ok (.aload_n 0, 1) := dk_42 (dk_at dksX4_term_0 0 rfl rfl)
theorem dX4_term_1 : decode cX4_term 1 = .ok (.invokevirtual 284, 3) := dk_182 1 28 (dk_at dksX4_term_0 1 rfl rfl)
theorem dX4_term_4 : decode cX4_term 4 = .ok (.astore_n 1, 1) := dk_76 (dk_at dksX4_term_0 4 rfl rfl)
theorem dX4_term_5 : decode cX4_term 5 = .ok (.aload_n 0, 1) := dk_42 (dk_at dksX4_term_0 5 rfl rfl)
theorem dX4_term_6 : decode cX4_term 6 = .ok (.invokevirtual 52, 3) := dk_182 0 52 (dk_at dksX4_term_0 6 rfl rfl)
theorem dX4_term_9 : decode cX4_term 9 = .ok (.bipush 42, 2) := dk_16 42 (dk_at dksX4_term_0 9 rfl rfl)
theorem dX4_term_11 : decode cX4_term 11 = .ok (.if_icmp .eq 21, 3) := dk_159 0 21 (dk_at dksX4_term_0 11 rfl rfl)
theorem dX4_term_14 : decode cX4_term 14 = .ok (.aload_n 0, 1) := dk_42 (dk_at dksX4_term_0 14 rfl rfl)
theorem dX4_term_15 : decode cX4_term 15 = .ok (.invokevirtual 52, 3) := dk_182 0 52 (dk_at dksX4_term_0 15 rfl rfl)
theorem dX4_term_18 : decode cX4_term 18 = .ok (.bipush 47, 2) := dk_16 47 (dk_at dksX4_term_0 18 rfl rfl)
theorem dX4_term_20 : decode cX4_term 20 = .ok (.if_icmp .eq 12, 3) := dk_159 0 12 (dk_at dksX4_term_0 20 rfl rfl)
theorem dX4_term_23 : decode cX4_term 23 = .ok (.aload_n 0, 1) := dk_42 (dk_at dksX4_term_0 23 rfl rfl)
theorem dX4_term_24 : decode cX4_term 24 = .ok (.invokevirtual 52, 3) := dk_182 0 52 (dk_at dksX4_term_1 0 rfl rfl)
theorem dX4_term_27 : decode cX4_term 27 = .ok (.bipush 37, 2) := dk_16 37 (dk_at dksX4_term_1 3 rfl rfl)
theorem dX4_term_29 : decode cX4_term 29 = .ok (.if_icmp .ne 43, 3) := dk_160 0 43 (dk_at dksX4_term_1 5 rfl rfl)
theorem dX4_term_32 : decode cX4_term 32 = .ok (.aload_n 0, 1) := dk_42 (dk_at dksX4_term_1 8 rfl rfl)
theorem dX4_term_33 : decode cX4_term 33 = .ok (.getfield 3, 3) := dk_180 0 3 (dk_at dksX4_term_1 9 rfl rfl)
theorem dX4_term_36 : decode cX4_term 36 = .ok (.getfield 48, 3) := dk_180 0 48 (dk_at dksX4_term_1 12 rfl rfl)
theorem dX4_term_39 : decode cX4_term 39 = .ok (.aload_n 0, 1) := dk_42 (dk_at dksX4_term_1 15 rfl rfl)
theorem dX4_term_40 : decode cX4_term 40 = .ok (.getfield 42, 3) := dk_180 0 42 (dk_at dksX4_term_1 16 rfl rfl)
theorem dX4_term_43 : decode cX4_term 43 = .ok (.baload, 1) := dk_51 (dk_at dksX4_term_1 19 rfl rfl)
theorem dX4_term_44 : decode cX4_term 44 = .ok (.istore_n 2, 1) := dk_61 (dk_at dksX4_term_1 20 rfl rfl)
theorem dX4_term_45 : decode cX4_term 45 = .ok (.aload_n 0, 1) := dk_42 (dk_at dksX4_term_1 21 rfl rfl)
theorem dX4_term_46 : decode cX4_term 46 = .ok (.dup, 1) := dk_89 (dk_at dksX4_term_1 22 rfl rfl)
theorem dX4_term_47 : decode cX4_term 47 = .ok (.getfield 42, 3) := dk_180 0 42 (dk_at dksX4_term_2 0 rfl rfl)
theorem dX4_term_50 : decode cX4_term 50 = .ok (.iconst 1, 1) := dk_4 (dk_at dksX4_term_2 3 rfl rfl)
theorem dX4_term_51 : decode cX4_term 51 = .ok (.iadd, 1) := dk_96 (dk_at dksX4_term_2 4 rfl rfl)
theorem dX4_term_52 : decode cX4_term 52 = .ok (.putfield 42, 3) := dk_181 0 42 (dk_at dksX4_term_2 5 rfl rfl)
theorem dX4_term_55 : decode cX4_term 55 = .ok (.new 281, 3) := dk_187 1 25 (dk_at dksX4_term_2 8 rfl rfl)
theorem dX4_term_58 : decode cX4_term 58 = .ok (.dup, 1) := dk_89 (dk_at dksX4_term_2 11 rfl rfl)
theorem dX4_term_59 : decode cX4_term 59 = .ok (.aload_n 1, 1) := dk_43 (dk_at dksX4_term_2 12 rfl rfl)
theorem dX4_term_60 : decode cX4_term 60 = .ok (.iload_n 2, 1) := dk_28 (dk_at dksX4_term_2 13 rfl rfl)
theorem dX4_term_61 : decode cX4_term 61 = .ok (.aload_n 0, 1) := dk_42 (dk_at dksX4_term_2 14 rfl rfl)
theorem dX4_term_62 : decode cX4_term 62 = .ok (.invokevirtual 284, 3) := dk_182 1 28 (dk_at dksX4_term_2 15 rfl rfl)
theorem dX4_term_65 : decode cX4_term 65 = .ok (.invokespecial 283, 3) := dk_183 1 27 (dk_at dksX4_term_2 18 rfl rfl)
theorem dX4_term_68 : decode cX4_term 68 = .ok (.astore_n 1, 1) := dk_76 (dk_at dksX4_term_2 21 rfl rfl)
theorem dX4_term_69 : decode cX4_term 69 = .ok (.goto (-64), 3) := dk_167 255 192 (dk_at dksX4_term_3 0 rfl rfl)
theorem dX4_term_72 : decode cX4_term 72 = .ok (.aload_n 1, 1) := dk_43 (dk_at dksX4_term_3 3 rfl rfl)
theorem dX4_term_73 : decode cX4_term 73 = .ok (.areturn, 1) := dk_176 (dk_at dksX4_term_3 4 rfl rfl)
abbrev cX4_value : ByteArray := prog_12_method_28_code
def yX4_value : MethodName := ⟨RX4, "value", "()LLatestCoat$Value;"⟩
def dkwX4_value_4 : List UInt8 := [89, 28, 183, 1, 39, 176]
abbrev dktX4_value_4 : List UInt8 := dkwX4_value_4 ++ []
def dkwX4_value_3 : List UInt8 := [182, 1, 14, 42, 89, 180, 0, 42, 42, 180, 0, 19, 28, 50, 182, 0, 59, 96, 181, 0, 42, 187, 1, 37]
abbrev dktX4_value_3 : List UInt8 := dkwX4_value_3 ++ dktX4_value_4
def dkwX4_value_2 : List UInt8 := [182, 0, 184, 61, 42, 28, 2, 159, 0, 7, 4, 167, 0, 4, 3, 3, 27, 182, 0, 76, 42, 27]
abbrev dktX4_value_2 : List UInt8 := dkwX4_value_2 ++ dktX4_value_3
def dkwX4_value_1 : List UInt8 := [182, 0, 110, 61, 42, 27, 182, 1, 14, 187, 1, 32, 89, 28, 133, 183, 1, 34, 176, 42, 42, 180, 0, 19]
abbrev dktX4_value_1 : List UInt8 := dkwX4_value_1 ++ dktX4_value_2
def dkwX4_value_0 : List UInt8 := [42, 182, 0, 52, 87, 42, 180, 0, 42, 60, 42, 27, 182, 0, 72, 153, 0, 27, 42, 3, 19, 1, 31]
abbrev dktX4_value_0 : List UInt8 := dkwX4_value_0 ++ dktX4_value_1
theorem dksX4_value_0 : cX4_value.data.toList.drop 0 = dktX4_value_0 := by decide +kernel
theorem dksX4_value_1 : cX4_value.data.toList.drop 23 = dktX4_value_1 := dk_seg dksX4_value_0 23 rfl rfl
theorem dksX4_value_2 : cX4_value.data.toList.drop 47 = dktX4_value_2 := dk_seg dksX4_value_1 24 rfl rfl
theorem dksX4_value_3 : cX4_value.data.toList.drop 69 = dktX4_value_3 := dk_seg dksX4_value_2 22 rfl rfl
theorem dksX4_value_4 : cX4_value.data.toList.drop 93 = dktX4_value_4 := dk_seg dksX4_value_3 24 rfl rfl
theorem dX4_value_0 : decode cX4_value 0 = .ok (.aload_n 0, 1) := dk_42 (dk_at dksX4_value_0 0 rfl rfl)
theorem dX4_value_1 : decode cX4_value 1 = .ok (.invokevirtual 52, 3) := dk_182 0 52 (dk_at dksX4_value_0 1 rfl rfl)
theorem dX4_value_4 : decode cX4_value 4 = .ok (.pop, 1) := dk_87 (dk_at dksX4_value_0 4 rfl rfl)
theorem dX4_value_5 : decode cX4_value 5 = .ok (.aload_n 0, 1) := dk_42 (dk_at dksX4_value_0 5 rfl rfl)
theorem dX4_value_6 : decode cX4_value 6 = .ok (.getfield 42, 3) := dk_180 0 42 (dk_at dksX4_value_0 6 rfl rfl)
theorem dX4_value_9 : decode cX4_value 9 = .ok (.istore_n 1, 1) := dk_60 (dk_at dksX4_value_0 9 rfl rfl)
theorem dX4_value_10 : decode cX4_value 10 = .ok (.aload_n 0, 1) := dk_42 (dk_at dksX4_value_0 10 rfl rfl)
theorem dX4_value_11 : decode cX4_value 11 = .ok (.iload_n 1, 1) := dk_27 (dk_at dksX4_value_0 11 rfl rfl)
theorem dX4_value_12 : decode cX4_value 12 = .ok (.invokevirtual 72, 3) := dk_182 0 72 (dk_at dksX4_value_0 12 rfl rfl)
theorem dX4_value_15 : decode cX4_value 15 = .ok (.ifCond .eq 27, 3) := dk_153 0 27 (dk_at dksX4_value_0 15 rfl rfl)
theorem dX4_value_18 : decode cX4_value 18 = .ok (.aload_n 0, 1) := dk_42 (dk_at dksX4_value_0 18 rfl rfl)
theorem dX4_value_19 : decode cX4_value 19 = .ok (.iconst 0, 1) := dk_3 (dk_at dksX4_value_0 19 rfl rfl)
theorem dX4_value_20 : decode cX4_value 20 = .ok (.ldc_w 287, 3) := dk_19 1 31 (dk_at dksX4_value_0 20 rfl rfl)
theorem dX4_value_23 : decode cX4_value 23 = .ok (.invokevirtual 110, 3) := dk_182 0 110 (dk_at dksX4_value_1 0 rfl rfl)
theorem dX4_value_26 : decode cX4_value 26 = .ok (.istore_n 2, 1) := dk_61 (dk_at dksX4_value_1 3 rfl rfl)
theorem dX4_value_27 : decode cX4_value 27 = .ok (.aload_n 0, 1) := dk_42 (dk_at dksX4_value_1 4 rfl rfl)
theorem dX4_value_28 : decode cX4_value 28 = .ok (.iload_n 1, 1) := dk_27 (dk_at dksX4_value_1 5 rfl rfl)
theorem dX4_value_29 : decode cX4_value 29 = .ok (.invokevirtual 270, 3) := dk_182 1 14 (dk_at dksX4_value_1 6 rfl rfl)
theorem dX4_value_32 : decode cX4_value 32 = .ok (.new 288, 3) := dk_187 1 32 (dk_at dksX4_value_1 9 rfl rfl)
theorem dX4_value_35 : decode cX4_value 35 = .ok (.dup, 1) := dk_89 (dk_at dksX4_value_1 12 rfl rfl)
theorem dX4_value_36 : decode cX4_value 36 = .ok (.iload_n 2, 1) := dk_28 (dk_at dksX4_value_1 13 rfl rfl)
theorem dX4_value_37 : decode cX4_value 37 = .ok (.i2l, 1) := dk_133 (dk_at dksX4_value_1 14 rfl rfl)
theorem dX4_value_38 : decode cX4_value 38 = .ok (.invokespecial 290, 3) := dk_183 1 34 (dk_at dksX4_value_1 15 rfl rfl)
theorem dX4_value_41 : decode cX4_value 41 = .ok (.areturn, 1) := dk_176 (dk_at dksX4_value_1 18 rfl rfl)
theorem dX4_value_42 : decode cX4_value 42 = .ok (.aload_n 0, 1) := dk_42 (dk_at dksX4_value_1 19 rfl rfl)
theorem dX4_value_43 : decode cX4_value 43 = .ok (.aload_n 0, 1) := dk_42 (dk_at dksX4_value_1 20 rfl rfl)
theorem dX4_value_44 : decode cX4_value 44 = .ok (.getfield 19, 3) := dk_180 0 19 (dk_at dksX4_value_1 21 rfl rfl)
theorem dX4_value_47 : decode cX4_value 47 = .ok (.invokevirtual 184, 3) := dk_182 0 184 (dk_at dksX4_value_2 0 rfl rfl)
theorem dX4_value_50 : decode cX4_value 50 = .ok (.istore_n 2, 1) := dk_61 (dk_at dksX4_value_2 3 rfl rfl)
theorem dX4_value_51 : decode cX4_value 51 = .ok (.aload_n 0, 1) := dk_42 (dk_at dksX4_value_2 4 rfl rfl)
theorem dX4_value_52 : decode cX4_value 52 = .ok (.iload_n 2, 1) := dk_28 (dk_at dksX4_value_2 5 rfl rfl)
theorem dX4_value_53 : decode cX4_value 53 = .ok (.iconst (-1), 1) := dk_2 (dk_at dksX4_value_2 6 rfl rfl)
theorem dX4_value_54 : decode cX4_value 54 = .ok (.if_icmp .eq 7, 3) := dk_159 0 7 (dk_at dksX4_value_2 7 rfl rfl)
theorem dX4_value_57 : decode cX4_value 57 = .ok (.iconst 1, 1) := dk_4 (dk_at dksX4_value_2 10 rfl rfl)
theorem dX4_value_58 : decode cX4_value 58 = .ok (.goto 4, 3) := dk_167 0 4 (dk_at dksX4_value_2 11 rfl rfl)
theorem dX4_value_61 : decode cX4_value 61 = .ok (.iconst 0, 1) := dk_3 (dk_at dksX4_value_2 14 rfl rfl)
theorem dX4_value_62 : decode cX4_value 62 = .ok (.iconst 0, 1) := dk_3 (dk_at dksX4_value_2 15 rfl rfl)
theorem dX4_value_63 : decode cX4_value 63 = .ok (.iload_n 1, 1) := dk_27 (dk_at dksX4_value_2 16 rfl rfl)
theorem dX4_value_64 : decode cX4_value 64 = .ok (.invokevirtual 76, 3) := dk_182 0 76 (dk_at dksX4_value_2 17 rfl rfl)
theorem dX4_value_67 : decode cX4_value 67 = .ok (.aload_n 0, 1) := dk_42 (dk_at dksX4_value_2 20 rfl rfl)
theorem dX4_value_68 : decode cX4_value 68 = .ok (.iload_n 1, 1) := dk_27 (dk_at dksX4_value_2 21 rfl rfl)
theorem dX4_value_69 : decode cX4_value 69 = .ok (.invokevirtual 270, 3) := dk_182 1 14 (dk_at dksX4_value_3 0 rfl rfl)
theorem dX4_value_72 : decode cX4_value 72 = .ok (.aload_n 0, 1) := dk_42 (dk_at dksX4_value_3 3 rfl rfl)
theorem dX4_value_73 : decode cX4_value 73 = .ok (.dup, 1) := dk_89 (dk_at dksX4_value_3 4 rfl rfl)
theorem dX4_value_74 : decode cX4_value 74 = .ok (.getfield 42, 3) := dk_180 0 42 (dk_at dksX4_value_3 5 rfl rfl)
theorem dX4_value_77 : decode cX4_value 77 = .ok (.aload_n 0, 1) := dk_42 (dk_at dksX4_value_3 8 rfl rfl)
theorem dX4_value_78 : decode cX4_value 78 = .ok (.getfield 19, 3) := dk_180 0 19 (dk_at dksX4_value_3 9 rfl rfl)
theorem dX4_value_81 : decode cX4_value 81 = .ok (.iload_n 2, 1) := dk_28 (dk_at dksX4_value_3 12 rfl rfl)
theorem dX4_value_82 : decode cX4_value 82 = .ok (.aaload, 1) := dk_50 (dk_at dksX4_value_3 13 rfl rfl)
theorem dX4_value_83 : decode cX4_value 83 = .ok (.invokevirtual 59, 3) := dk_182 0 59 (dk_at dksX4_value_3 14 rfl rfl)
theorem dX4_value_86 : decode cX4_value 86 = .ok (.iadd, 1) := dk_96 (dk_at dksX4_value_3 17 rfl rfl)
theorem dX4_value_87 : decode cX4_value 87 = .ok (.putfield 42, 3) := dk_181 0 42 (dk_at dksX4_value_3 18 rfl rfl)
theorem dX4_value_90 : decode cX4_value 90 = .ok (.new 293, 3) := dk_187 1 37 (dk_at dksX4_value_3 21 rfl rfl)
theorem dX4_value_93 : decode cX4_value 93 = .ok (.dup, 1) := dk_89 (dk_at dksX4_value_4 0 rfl rfl)
theorem dX4_value_94 : decode cX4_value 94 = .ok (.iload_n 2, 1) := dk_28 (dk_at dksX4_value_4 1 rfl rfl)
theorem dX4_value_95 : decode cX4_value 95 = .ok (.invokespecial 295, 3) := dk_183 1 39 (dk_at dksX4_value_4 2 rfl rfl)
theorem dX4_value_98 : decode cX4_value 98 = .ok (.areturn, 1) := dk_176 (dk_at dksX4_value_4 5 rfl rfl)
abbrev cX4_makes : ByteArray := prog_12_method_11_code
def yX4_makes : MethodName := ⟨RX4, "makes", "(I)V"⟩
def dkwX4_makes_1 : List UInt8 := [180, 0, 84, 4, 96, 181, 0, 84, 177]
abbrev dktX4_makes_1 : List UInt8 := dkwX4_makes_1 ++ []
def dkwX4_makes_0 : List UInt8 := [42, 42, 180, 0, 84, 16, 60, 162, 0, 7, 4, 167, 0, 4, 3, 6, 27, 182, 0, 76, 42, 89]
abbrev dktX4_makes_0 : List UInt8 := dkwX4_makes_0 ++ dktX4_makes_1
theorem dksX4_makes_0 : cX4_makes.data.toList.drop 0 = dktX4_makes_0 := by decide +kernel
theorem dksX4_makes_1 : cX4_makes.data.toList.drop 22 = dktX4_makes_1 := dk_seg dksX4_makes_0 22 rfl rfl
theorem dX4_makes_0 : decode cX4_makes 0 = .ok (.aload_n 0, 1) := dk_42 (dk_at dksX4_makes_0 0 rfl rfl)
theorem dX4_makes_1 : decode cX4_makes 1 = .ok (.aload_n 0, 1) := dk_42 (dk_at dksX4_makes_0 1 rfl rfl)
theorem dX4_makes_2 : decode cX4_makes 2 = .ok (.getfield 84, 3) := dk_180 0 84 (dk_at dksX4_makes_0 2 rfl rfl)
theorem dX4_makes_5 : decode cX4_makes 5 = .ok (.bipush 60, 2) := dk_16 60 (dk_at dksX4_makes_0 5 rfl rfl)
theorem dX4_makes_7 : decode cX4_makes 7 = .ok (.if_icmp .ge 7, 3) := dk_162 0 7 (dk_at dksX4_makes_0 7 rfl rfl)
theorem dX4_makes_10 : decode cX4_makes 10 = .ok (.iconst 1, 1) := dk_4 (dk_at dksX4_makes_0 10 rfl rfl)
theorem dX4_makes_11 : decode cX4_makes 11 = .ok (.goto 4, 3) := dk_167 0 4 (dk_at dksX4_makes_0 11 rfl rfl)
theorem dX4_makes_14 : decode cX4_makes 14 = .ok (.iconst 0, 1) := dk_3 (dk_at dksX4_makes_0 14 rfl rfl)
theorem dX4_makes_15 : decode cX4_makes 15 = .ok (.iconst 3, 1) := dk_6 (dk_at dksX4_makes_0 15 rfl rfl)
theorem dX4_makes_16 : decode cX4_makes 16 = .ok (.iload_n 1, 1) := dk_27 (dk_at dksX4_makes_0 16 rfl rfl)
theorem dX4_makes_17 : decode cX4_makes 17 = .ok (.invokevirtual 76, 3) := dk_182 0 76 (dk_at dksX4_makes_0 17 rfl rfl)
theorem dX4_makes_20 : decode cX4_makes 20 = .ok (.aload_n 0, 1) := dk_42 (dk_at dksX4_makes_0 20 rfl rfl)
theorem dX4_makes_21 : decode cX4_makes 21 = .ok (.dup, 1) := dk_89 (dk_at dksX4_makes_0 21 rfl rfl)
theorem dX4_makes_22 : decode cX4_makes 22 = .ok (.getfield 84, 3) := dk_180 0 84 (dk_at dksX4_makes_1 0 rfl rfl)
theorem dX4_makes_25 : decode cX4_makes 25 = .ok (.iconst 1, 1) := dk_4 (dk_at dksX4_makes_1 3 rfl rfl)
theorem dX4_makes_26 : decode cX4_makes 26 = .ok (.iadd, 1) := dk_96 (dk_at dksX4_makes_1 4 rfl rfl)
theorem dX4_makes_27 : decode cX4_makes 27 = .ok (.putfield 84, 3) := dk_181 0 84 (dk_at dksX4_makes_1 5 rfl rfl)
theorem dX4_makes_30 : decode cX4_makes 30 = .ok (.return_, 1) := dk_177 (dk_at dksX4_makes_1 8 rfl rfl)
abbrev cX4_takesWord : ByteArray := prog_12_method_7_code
def yX4_takesWord : MethodName := ⟨RX4, "takesWord", "(Ljava/lang/String;)Z"⟩
def dkwX4_takesWord_1 : List UInt8 := [172]
abbrev dktX4_takesWord_1 : List UInt8 := dkwX4_takesWord_1 ++ []
def dkwX4_takesWord_0 : List UInt8 := [42, 43, 182, 0, 68, 154, 0, 5, 3, 172, 42, 89, 180, 0, 42, 43, 182, 0, 59, 96, 181, 0, 42, 4]
abbrev dktX4_takesWord_0 : List UInt8 := dkwX4_takesWord_0 ++ dktX4_takesWord_1
theorem dksX4_takesWord_0 : cX4_takesWord.data.toList.drop 0 = dktX4_takesWord_0 := by decide +kernel
theorem dksX4_takesWord_1 : cX4_takesWord.data.toList.drop 24 = dktX4_takesWord_1 := dk_seg dksX4_takesWord_0 24 rfl rfl
theorem dX4_takesWord_0 : decode cX4_takesWord 0 = .ok (.aload_n 0, 1) := dk_42 (dk_at dksX4_takesWord_0 0 rfl rfl)
theorem dX4_takesWord_1 : decode cX4_takesWord 1 = .ok (.aload_n 1, 1) := dk_43 (dk_at dksX4_takesWord_0 1 rfl rfl)
theorem dX4_takesWord_2 : decode cX4_takesWord 2 = .ok (.invokevirtual 68, 3) := dk_182 0 68 (dk_at dksX4_takesWord_0 2 rfl rfl)
theorem dX4_takesWord_5 : decode cX4_takesWord 5 = .ok (.ifCond .ne 5, 3) := dk_154 0 5 (dk_at dksX4_takesWord_0 5 rfl rfl)
theorem dX4_takesWord_8 : decode cX4_takesWord 8 = .ok (.iconst 0, 1) := dk_3 (dk_at dksX4_takesWord_0 8 rfl rfl)
theorem dX4_takesWord_9 : decode cX4_takesWord 9 = .ok (.ireturn, 1) := dk_172 (dk_at dksX4_takesWord_0 9 rfl rfl)
theorem dX4_takesWord_10 : decode cX4_takesWord 10 = .ok (.aload_n 0, 1) := dk_42 (dk_at dksX4_takesWord_0 10 rfl rfl)
theorem dX4_takesWord_11 : decode cX4_takesWord 11 = .ok (.dup, 1) := dk_89 (dk_at dksX4_takesWord_0 11 rfl rfl)
theorem dX4_takesWord_12 : decode cX4_takesWord 12 = .ok (.getfield 42, 3) := dk_180 0 42 (dk_at dksX4_takesWord_0 12 rfl rfl)
theorem dX4_takesWord_15 : decode cX4_takesWord 15 = .ok (.aload_n 1, 1) := dk_43 (dk_at dksX4_takesWord_0 15 rfl rfl)
theorem dX4_takesWord_16 : decode cX4_takesWord 16 = .ok (.invokevirtual 59, 3) := dk_182 0 59 (dk_at dksX4_takesWord_0 16 rfl rfl)
theorem dX4_takesWord_19 : decode cX4_takesWord 19 = .ok (.iadd, 1) := dk_96 (dk_at dksX4_takesWord_0 19 rfl rfl)
theorem dX4_takesWord_20 : decode cX4_takesWord 20 = .ok (.putfield 42, 3) := dk_181 0 42 (dk_at dksX4_takesWord_0 20 rfl rfl)
theorem dX4_takesWord_23 : decode cX4_takesWord 23 = .ok (.iconst 1, 1) := dk_4 (dk_at dksX4_takesWord_0 23 rfl rfl)
theorem dX4_takesWord_24 : decode cX4_takesWord 24 = .ok (.ireturn, 1) := dk_172 (dk_at dksX4_takesWord_1 0 rfl rfl)
abbrev cX4_tested : ByteArray := prog_12_method_22_code
def yX4_tested : MethodName := ⟨RX4, "tested", "()LLatestCoat$Test;"⟩
def dkwX4_tested_1 : List UInt8 := [183, 0, 249, 76, 167, 255, 233, 43, 176]
abbrev dktX4_tested_1 : List UInt8 := dkwX4_tested_1 ++ []
def dkwX4_tested_0 : List UInt8 := [42, 182, 0, 242, 76, 42, 18, 245, 182, 0, 216, 153, 0, 20, 187, 0, 247, 89, 43, 3, 42, 182, 0, 242]
abbrev dktX4_tested_0 : List UInt8 := dkwX4_tested_0 ++ dktX4_tested_1
theorem dksX4_tested_0 : cX4_tested.data.toList.drop 0 = dktX4_tested_0 := by decide +kernel
theorem dksX4_tested_1 : cX4_tested.data.toList.drop 24 = dktX4_tested_1 := dk_seg dksX4_tested_0 24 rfl rfl
theorem dX4_tested_0 : decode cX4_tested 0 = .ok (.aload_n 0, 1) := dk_42 (dk_at dksX4_tested_0 0 rfl rfl)
theorem dX4_tested_1 : decode cX4_tested 1 = .ok (.invokevirtual 242, 3) := dk_182 0 242 (dk_at dksX4_tested_0 1 rfl rfl)
theorem dX4_tested_4 : decode cX4_tested 4 = .ok (.astore_n 1, 1) := dk_76 (dk_at dksX4_tested_0 4 rfl rfl)
theorem dX4_tested_5 : decode cX4_tested 5 = .ok (.aload_n 0, 1) := dk_42 (dk_at dksX4_tested_0 5 rfl rfl)
theorem dX4_tested_6 : decode cX4_tested 6 = .ok (.ldc 245, 2) := dk_18 245 (dk_at dksX4_tested_0 6 rfl rfl)
theorem dX4_tested_8 : decode cX4_tested 8 = .ok (.invokevirtual 216, 3) := dk_182 0 216 (dk_at dksX4_tested_0 8 rfl rfl)
theorem dX4_tested_11 : decode cX4_tested 11 = .ok (.ifCond .eq 20, 3) := dk_153 0 20 (dk_at dksX4_tested_0 11 rfl rfl)
theorem dX4_tested_14 : decode cX4_tested 14 = .ok (.new 247, 3) := dk_187 0 247 (dk_at dksX4_tested_0 14 rfl rfl)
theorem dX4_tested_17 : decode cX4_tested 17 = .ok (.dup, 1) := dk_89 (dk_at dksX4_tested_0 17 rfl rfl)
theorem dX4_tested_18 : decode cX4_tested 18 = .ok (.aload_n 1, 1) := dk_43 (dk_at dksX4_tested_0 18 rfl rfl)
theorem dX4_tested_19 : decode cX4_tested 19 = .ok (.iconst 0, 1) := dk_3 (dk_at dksX4_tested_0 19 rfl rfl)
theorem dX4_tested_20 : decode cX4_tested 20 = .ok (.aload_n 0, 1) := dk_42 (dk_at dksX4_tested_0 20 rfl rfl)
theorem dX4_tested_21 : decode cX4_tested 21 = .ok (.invokevirtual 242, 3) := dk_182 0 242 (dk_at dksX4_tested_0 21 rfl rfl)
theorem dX4_tested_24 : decode cX4_tested 24 = .ok (.invokespecial 249, 3) := dk_183 0 249 (dk_at dksX4_tested_1 0 rfl rfl)
theorem dX4_tested_27 : decode cX4_tested 27 = .ok (.astore_n 1, 1) := dk_76 (dk_at dksX4_tested_1 3 rfl rfl)
theorem dX4_tested_28 : decode cX4_tested 28 = .ok (.goto (-23), 3) := dk_167 255 233 (dk_at dksX4_tested_1 4 rfl rfl)
theorem dX4_tested_31 : decode cX4_tested 31 = .ok (.aload_n 1, 1) := dk_43 (dk_at dksX4_tested_1 7 rfl rfl)
theorem dX4_tested_32 : decode cX4_tested 32 = .ok (.areturn, 1) := dk_176 (dk_at dksX4_tested_1 8 rfl rfl)
abbrev cX4_parted : ByteArray := prog_12_method_23_code
def yX4_parted : MethodName := ⟨RX4, "parted", "()LLatestCoat$Test;"⟩
def dkwX4_parted_1 : List UInt8 := [183, 0, 249, 76, 167, 255, 233, 43, 176]
abbrev dktX4_parted_1 : List UInt8 := dkwX4_parted_1 ++ []
def dkwX4_parted_0 : List UInt8 := [42, 182, 0, 252, 76, 42, 18, 255, 182, 0, 216, 153, 0, 20, 187, 0, 247, 89, 43, 4, 42, 182, 0, 252]
abbrev dktX4_parted_0 : List UInt8 := dkwX4_parted_0 ++ dktX4_parted_1
theorem dksX4_parted_0 : cX4_parted.data.toList.drop 0 = dktX4_parted_0 := by decide +kernel
theorem dksX4_parted_1 : cX4_parted.data.toList.drop 24 = dktX4_parted_1 := dk_seg dksX4_parted_0 24 rfl rfl
theorem dX4_parted_0 : decode cX4_parted 0 = .ok (.aload_n 0, 1) := dk_42 (dk_at dksX4_parted_0 0 rfl rfl)
theorem dX4_parted_1 : decode cX4_parted 1 = .ok (.invokevirtual 252, 3) := dk_182 0 252 (dk_at dksX4_parted_0 1 rfl rfl)
theorem dX4_parted_4 : decode cX4_parted 4 = .ok (.astore_n 1, 1) := dk_76 (dk_at dksX4_parted_0 4 rfl rfl)
theorem dX4_parted_5 : decode cX4_parted 5 = .ok (.aload_n 0, 1) := dk_42 (dk_at dksX4_parted_0 5 rfl rfl)
theorem dX4_parted_6 : decode cX4_parted 6 = .ok (.ldc 255, 2) := dk_18 255 (dk_at dksX4_parted_0 6 rfl rfl)
theorem dX4_parted_8 : decode cX4_parted 8 = .ok (.invokevirtual 216, 3) := dk_182 0 216 (dk_at dksX4_parted_0 8 rfl rfl)
theorem dX4_parted_11 : decode cX4_parted 11 = .ok (.ifCond .eq 20, 3) := dk_153 0 20 (dk_at dksX4_parted_0 11 rfl rfl)
theorem dX4_parted_14 : decode cX4_parted 14 = .ok (.new 247, 3) := dk_187 0 247 (dk_at dksX4_parted_0 14 rfl rfl)
theorem dX4_parted_17 : decode cX4_parted 17 = .ok (.dup, 1) := dk_89 (dk_at dksX4_parted_0 17 rfl rfl)
theorem dX4_parted_18 : decode cX4_parted 18 = .ok (.aload_n 1, 1) := dk_43 (dk_at dksX4_parted_0 18 rfl rfl)
theorem dX4_parted_19 : decode cX4_parted 19 = .ok (.iconst 1, 1) := dk_4 (dk_at dksX4_parted_0 19 rfl rfl)
theorem dX4_parted_20 : decode cX4_parted 20 = .ok (.aload_n 0, 1) := dk_42 (dk_at dksX4_parted_0 20 rfl rfl)
theorem dX4_parted_21 : decode cX4_parted 21 = .ok (.invokevirtual 252, 3) := dk_182 0 252 (dk_at dksX4_parted_0 21 rfl rfl)
theorem dX4_parted_24 : decode cX4_parted 24 = .ok (.invokespecial 249, 3) := dk_183 0 249 (dk_at dksX4_parted_1 0 rfl rfl)
theorem dX4_parted_27 : decode cX4_parted 27 = .ok (.astore_n 1, 1) := dk_76 (dk_at dksX4_parted_1 3 rfl rfl)
theorem dX4_parted_28 : decode cX4_parted 28 = .ok (.goto (-23), 3) := dk_167 255 233 (dk_at dksX4_parted_1 4 rfl rfl)
theorem dX4_parted_31 : decode cX4_parted 31 = .ok (.aload_n 1, 1) := dk_43 (dk_at dksX4_parted_1 7 rfl rfl)
theorem dX4_parted_32 : decode cX4_parted 32 = .ok (.areturn, 1) := dk_176 (dk_at dksX4_parted_1 8 rfl rfl)
abbrev cX4_fact : ByteArray := prog_12_method_24_code
def yX4_fact : MethodName := ⟨RX4, "fact", "()LLatestCoat$Test;"⟩
def dkwX4_fact_6 : List UInt8 := [187, 1, 17, 89, 45, 21, 5, 42, 182, 0, 207, 183, 1, 19, 176]
abbrev dktX4_fact_6 : List UInt8 := dkwX4_fact_6 ++ []
def dkwX4_fact_5 : List UInt8 := [182, 0, 52, 87, 42, 180, 0, 42, 54, 4, 42, 182, 1, 11, 54, 5, 42, 21, 4, 182, 1, 14]
abbrev dktX4_fact_5 : List UInt8 := dkwX4_fact_5 ++ dktX4_fact_6
def dkwX4_fact_4 : List UInt8 := [180, 0, 42, 182, 0, 76, 42, 89, 180, 0, 87, 4, 100, 181, 0, 87, 45, 176, 42, 182, 0, 207, 78, 42]
abbrev dktX4_fact_4 : List UInt8 := dkwX4_fact_4 ++ dktX4_fact_5
def dkwX4_fact_3 : List UInt8 := [42, 89, 180, 0, 42, 4, 96, 181, 0, 42, 42, 182, 0, 219, 78, 42, 42, 16, 93, 182, 0, 195, 3, 42]
abbrev dktX4_fact_3 : List UInt8 := dkwX4_fact_3 ++ dktX4_fact_4
def dkwX4_fact_2 : List UInt8 := [78, 42, 89, 180, 0, 87, 4, 100, 181, 0, 87, 45, 176, 27, 16, 91, 160, 0, 50, 42, 28, 182, 1, 3]
abbrev dktX4_fact_2 : List UInt8 := dkwX4_fact_2 ++ dktX4_fact_3
def dkwX4_fact_1 : List UInt8 := [182, 1, 3, 42, 89, 180, 0, 42, 6, 96, 181, 0, 42, 187, 1, 6, 89, 42, 182, 0, 252, 183, 1, 8]
abbrev dktX4_fact_1 : List UInt8 := dkwX4_fact_1 ++ dktX4_fact_2
def dkwX4_fact_0 : List UInt8 := [42, 182, 0, 52, 60, 42, 180, 0, 42, 61, 42, 19, 1, 1, 182, 0, 68, 153, 0, 42, 42, 28]
abbrev dktX4_fact_0 : List UInt8 := dkwX4_fact_0 ++ dktX4_fact_1
theorem dksX4_fact_0 : cX4_fact.data.toList.drop 0 = dktX4_fact_0 := by decide +kernel
theorem dksX4_fact_1 : cX4_fact.data.toList.drop 22 = dktX4_fact_1 := dk_seg dksX4_fact_0 22 rfl rfl
theorem dksX4_fact_2 : cX4_fact.data.toList.drop 46 = dktX4_fact_2 := dk_seg dksX4_fact_1 24 rfl rfl
theorem dksX4_fact_3 : cX4_fact.data.toList.drop 70 = dktX4_fact_3 := dk_seg dksX4_fact_2 24 rfl rfl
theorem dksX4_fact_4 : cX4_fact.data.toList.drop 94 = dktX4_fact_4 := dk_seg dksX4_fact_3 24 rfl rfl
theorem dksX4_fact_5 : cX4_fact.data.toList.drop 118 = dktX4_fact_5 := dk_seg dksX4_fact_4 24 rfl rfl
theorem dksX4_fact_6 : cX4_fact.data.toList.drop 140 = dktX4_fact_6 := dk_seg dksX4_fact_5 22 rfl rfl
theorem dX4_fact_0 : decode cX4_fact 0 = .ok (.aload_n 0, 1) := dk_42 (dk_at dksX4_fact_0 0 rfl rfl)
theorem dX4_fact_1 : decode cX4_fact 1 = .ok (.invokevirtual 52, 3) := dk_182 0 52 (dk_at dksX4_fact_0 1 rfl rfl)
theorem dX4_fact_4 : decode cX4_fact 4 = .ok (.istore_n 1, 1) := dk_60 (dk_at dksX4_fact_0 4 rfl rfl)
theorem dX4_fact_5 : decode cX4_fact 5 = .ok (.aload_n 0, 1) := dk_42 (dk_at dksX4_fact_0 5 rfl rfl)
theorem dX4_fact_6 : decode cX4_fact 6 = .ok (.getfield 42, 3) := dk_180 0 42 (dk_at dksX4_fact_0 6 rfl rfl)
theorem dX4_fact_9 : decode cX4_fact 9 = .ok (.istore_n 2, 1) := dk_61 (dk_at dksX4_fact_0 9 rfl rfl)
theorem dX4_fact_10 : decode cX4_fact 10 = .ok (.aload_n 0, 1) := dk_42 (dk_at dksX4_fact_0 10 rfl rfl)
theorem dX4_fact_11 : decode cX4_fact 11 = .ok (.ldc_w 257, 3) := dk_19 1 1 (dk_at dksX4_fact_0 11 rfl rfl)
theorem dX4_fact_14 : decode cX4_fact 14 = .ok (.invokevirtual 68, 3) := dk_182 0 68 (dk_at dksX4_fact_0 14 rfl rfl)
theorem dX4_fact_17 : decode cX4_fact 17 = .ok (.ifCond .eq 42, 3) := dk_153 0 42 (dk_at dksX4_fact_0 17 rfl rfl)
theorem dX4_fact_20 : decode cX4_fact 20 = .ok (.aload_n 0, 1) := dk_42 (dk_at dksX4_fact_0 20 rfl rfl)
theorem dX4_fact_21 : decode cX4_fact 21 = .ok (.iload_n 2, 1) := dk_28 (dk_at dksX4_fact_0 21 rfl rfl)
theorem dX4_fact_22 : decode cX4_fact 22 = .ok (.invokevirtual 259, 3) := dk_182 1 3 (dk_at dksX4_fact_1 0 rfl rfl)
theorem dX4_fact_25 : decode cX4_fact 25 = .ok (.aload_n 0, 1) := dk_42 (dk_at dksX4_fact_1 3 rfl rfl)
theorem dX4_fact_26 : decode cX4_fact 26 = .ok (.dup, 1) := dk_89 (dk_at dksX4_fact_1 4 rfl rfl)
theorem dX4_fact_27 : decode cX4_fact 27 = .ok (.getfield 42, 3) := dk_180 0 42 (dk_at dksX4_fact_1 5 rfl rfl)
theorem dX4_fact_30 : decode cX4_fact 30 = .ok (.iconst 3, 1) := dk_6 (dk_at dksX4_fact_1 8 rfl rfl)
theorem dX4_fact_31 : decode cX4_fact 31 = .ok (.iadd, 1) := dk_96 (dk_at dksX4_fact_1 9 rfl rfl)
theorem dX4_fact_32 : decode cX4_fact 32 = .ok (.putfield 42, 3) := dk_181 0 42 (dk_at dksX4_fact_1 10 rfl rfl)
theorem dX4_fact_35 : decode cX4_fact 35 = .ok (.new 262, 3) := dk_187 1 6 (dk_at dksX4_fact_1 13 rfl rfl)
theorem dX4_fact_38 : decode cX4_fact 38 = .ok (.dup, 1) := dk_89 (dk_at dksX4_fact_1 16 rfl rfl)
theorem dX4_fact_39 : decode cX4_fact 39 = .ok (.aload_n 0, 1) := dk_42 (dk_at dksX4_fact_1 17 rfl rfl)
theorem dX4_fact_40 : decode cX4_fact 40 = .ok (.invokevirtual 252, 3) := dk_182 0 252 (dk_at dksX4_fact_1 18 rfl rfl)
theorem dX4_fact_43 : decode cX4_fact 43 = .ok (.invokespecial 264, 3) := dk_183 1 8 (dk_at dksX4_fact_1 21 rfl rfl)
theorem dX4_fact_46 : decode cX4_fact 46 = .ok (.astore_n 3, 1) := dk_78 (dk_at dksX4_fact_2 0 rfl rfl)
theorem dX4_fact_47 : decode cX4_fact 47 = .ok (.aload_n 0, 1) := dk_42 (dk_at dksX4_fact_2 1 rfl rfl)
theorem dX4_fact_48 : decode cX4_fact 48 = .ok (.dup, 1) := dk_89 (dk_at dksX4_fact_2 2 rfl rfl)
theorem dX4_fact_49 : decode cX4_fact 49 = .ok (.getfield 87, 3) := dk_180 0 87 (dk_at dksX4_fact_2 3 rfl rfl)
theorem dX4_fact_52 : decode cX4_fact 52 = .ok (.iconst 1, 1) := dk_4 (dk_at dksX4_fact_2 6 rfl rfl)
theorem dX4_fact_53 : decode cX4_fact 53 = .ok (.isub, 1) := dk_100 (dk_at dksX4_fact_2 7 rfl rfl)
theorem dX4_fact_54 : decode cX4_fact 54 = .ok (.putfield 87, 3) := dk_181 0 87 (dk_at dksX4_fact_2 8 rfl rfl)
theorem dX4_fact_57 : decode cX4_fact 57 = .ok (.aload_n 3, 1) := dk_45 (dk_at dksX4_fact_2 11 rfl rfl)
theorem dX4_fact_58 : decode cX4_fact 58 = .ok (.areturn, 1) := dk_176 (dk_at dksX4_fact_2 12 rfl rfl)
theorem dX4_fact_59 : decode cX4_fact 59 = .ok (.iload_n 1, 1) := dk_27 (dk_at dksX4_fact_2 13 rfl rfl)
theorem dX4_fact_60 : decode cX4_fact 60 = .ok (.bipush 91, 2) := dk_16 91 (dk_at dksX4_fact_2 14 rfl rfl)
theorem dX4_fact_62 : decode cX4_fact 62 = .ok (.if_icmp .ne 50, 3) := dk_160 0 50 (dk_at dksX4_fact_2 16 rfl rfl)
theorem dX4_fact_65 : decode cX4_fact 65 = .ok (.aload_n 0, 1) := dk_42 (dk_at dksX4_fact_2 19 rfl rfl)
theorem dX4_fact_66 : decode cX4_fact 66 = .ok (.iload_n 2, 1) := dk_28 (dk_at dksX4_fact_2 20 rfl rfl)
theorem dX4_fact_67 : decode cX4_fact 67 = .ok (.invokevirtual 259, 3) := dk_182 1 3 (dk_at dksX4_fact_2 21 rfl rfl)
theorem dX4_fact_70 : decode cX4_fact 70 = .ok (.aload_n 0, 1) := dk_42 (dk_at dksX4_fact_3 0 rfl rfl)
theorem dX4_fact_71 : decode cX4_fact 71 = .ok (.dup, 1) := dk_89 (dk_at dksX4_fact_3 1 rfl rfl)
theorem dX4_fact_72 : decode cX4_fact 72 = .ok (.getfield 42, 3) := dk_180 0 42 (dk_at dksX4_fact_3 2 rfl rfl)
theorem dX4_fact_75 : decode cX4_fact 75 = .ok (.iconst 1, 1) := dk_4 (dk_at dksX4_fact_3 5 rfl rfl)
theorem dX4_fact_76 : decode cX4_fact 76 = .ok (.iadd, 1) := dk_96 (dk_at dksX4_fact_3 6 rfl rfl)
theorem dX4_fact_77 : decode cX4_fact 77 = .ok (.putfield 42, 3) := dk_181 0 42 (dk_at dksX4_fact_3 7 rfl rfl)
theorem dX4_fact_80 : decode cX4_fact 80 = .ok (.aload_n 0, 1) := dk_42 (dk_at dksX4_fact_3 10 rfl rfl)
theorem dX4_fact_81 : decode cX4_fact 81 = .ok (.invokevirtual 219, 3) := dk_182 0 219 (dk_at dksX4_fact_3 11 rfl rfl)
theorem dX4_fact_84 : decode cX4_fact 84 = .ok (.astore_n 3, 1) := dk_78 (dk_at dksX4_fact_3 14 rfl rfl)
theorem dX4_fact_85 : decode cX4_fact 85 = .ok (.aload_n 0, 1) := dk_42 (dk_at dksX4_fact_3 15 rfl rfl)
theorem dX4_fact_86 : decode cX4_fact 86 = .ok (.aload_n 0, 1) := dk_42 (dk_at dksX4_fact_3 16 rfl rfl)
theorem dX4_fact_87 : decode cX4_fact 87 = .ok (.bipush 93, 2) := dk_16 93 (dk_at dksX4_fact_3 17 rfl rfl)
theorem dX4_fact_89 : decode cX4_fact 89 = .ok (.invokevirtual 195, 3) := dk_182 0 195 (dk_at dksX4_fact_3 19 rfl rfl)
theorem dX4_fact_92 : decode cX4_fact 92 = .ok (.iconst 0, 1) := dk_3 (dk_at dksX4_fact_3 22 rfl rfl)
theorem dX4_fact_93 : decode cX4_fact 93 = .ok (.aload_n 0, 1) := dk_42 (dk_at dksX4_fact_3 23 rfl rfl)
theorem dX4_fact_94 : decode cX4_fact 94 = .ok (.getfield 42, 3) := dk_180 0 42 (dk_at dksX4_fact_4 0 rfl rfl)
theorem dX4_fact_97 : decode cX4_fact 97 = .ok (.invokevirtual 76, 3) := dk_182 0 76 (dk_at dksX4_fact_4 3 rfl rfl)
theorem dX4_fact_100 : decode cX4_fact 100 = .ok (.aload_n 0, 1) := dk_42 (dk_at dksX4_fact_4 6 rfl rfl)
theorem dX4_fact_101 : decode cX4_fact 101 = .ok (.dup, 1) := dk_89 (dk_at dksX4_fact_4 7 rfl rfl)
theorem dX4_fact_102 : decode cX4_fact 102 = .ok (.getfield 87, 3) := dk_180 0 87 (dk_at dksX4_fact_4 8 rfl rfl)
theorem dX4_fact_105 : decode cX4_fact 105 = .ok (.iconst 1, 1) := dk_4 (dk_at dksX4_fact_4 11 rfl rfl)
theorem dX4_fact_106 : decode cX4_fact 106 = .ok (.isub, 1) := dk_100 (dk_at dksX4_fact_4 12 rfl rfl)
theorem dX4_fact_107 : decode cX4_fact 107 = .ok (.putfield 87, 3) := dk_181 0 87 (dk_at dksX4_fact_4 13 rfl rfl)
theorem dX4_fact_110 : decode cX4_fact 110 = .ok (.aload_n 3, 1) := dk_45 (dk_at dksX4_fact_4 16 rfl rfl)
theorem dX4_fact_111 : decode cX4_fact 111 = .ok (.areturn, 1) := dk_176 (dk_at dksX4_fact_4 17 rfl rfl)
theorem dX4_fact_112 : decode cX4_fact 112 = .ok (.aload_n 0, 1) := dk_42 (dk_at dksX4_fact_4 18 rfl rfl)
theorem dX4_fact_113 : decode cX4_fact 113 = .ok (.invokevirtual 207, 3) := dk_182 0 207 (dk_at dksX4_fact_4 19 rfl rfl)
theorem dX4_fact_116 : decode cX4_fact 116 = .ok (.astore_n 3, 1) := dk_78 (dk_at dksX4_fact_4 22 rfl rfl)
theorem dX4_fact_117 : decode cX4_fact 117 = .ok (.aload_n 0, 1) := dk_42 (dk_at dksX4_fact_4 23 rfl rfl)
theorem dX4_fact_118 : decode cX4_fact 118 = .ok (.invokevirtual 52, 3) := dk_182 0 52 (dk_at dksX4_fact_5 0 rfl rfl)
theorem dX4_fact_121 : decode cX4_fact 121 = .ok (.pop, 1) := dk_87 (dk_at dksX4_fact_5 3 rfl rfl)
theorem dX4_fact_122 : decode cX4_fact 122 = .ok (.aload_n 0, 1) := dk_42 (dk_at dksX4_fact_5 4 rfl rfl)
theorem dX4_fact_123 : decode cX4_fact 123 = .ok (.getfield 42, 3) := dk_180 0 42 (dk_at dksX4_fact_5 5 rfl rfl)
theorem dX4_fact_126 : decode cX4_fact 126 = .ok (.istore 4, 2) := dk_54 4 (dk_at dksX4_fact_5 8 rfl rfl)
theorem dX4_fact_128 : decode cX4_fact 128 = .ok (.aload_n 0, 1) := dk_42 (dk_at dksX4_fact_5 10 rfl rfl)
theorem dX4_fact_129 : decode cX4_fact 129 = .ok (.invokevirtual 267, 3) := dk_182 1 11 (dk_at dksX4_fact_5 11 rfl rfl)
theorem dX4_fact_132 : decode cX4_fact 132 = .ok (.istore 5, 2) := dk_54 5 (dk_at dksX4_fact_5 14 rfl rfl)
theorem dX4_fact_134 : decode cX4_fact 134 = .ok (.aload_n 0, 1) := dk_42 (dk_at dksX4_fact_5 16 rfl rfl)
theorem dX4_fact_135 : decode cX4_fact 135 = .ok (.iload 4, 2) := dk_21 4 (dk_at dksX4_fact_5 17 rfl rfl)
theorem dX4_fact_137 : decode cX4_fact 137 = .ok (.invokevirtual 270, 3) := dk_182 1 14 (dk_at dksX4_fact_5 19 rfl rfl)
theorem dX4_fact_140 : decode cX4_fact 140 = .ok (.new 273, 3) := dk_187 1 17 (dk_at dksX4_fact_6 0 rfl rfl)
theorem dX4_fact_143 : decode cX4_fact 143 = .ok (.dup, 1) := dk_89 (dk_at dksX4_fact_6 3 rfl rfl)
theorem dX4_fact_144 : decode cX4_fact 144 = .ok (.aload_n 3, 1) := dk_45 (dk_at dksX4_fact_6 4 rfl rfl)
theorem dX4_fact_145 : decode cX4_fact 145 = .ok (.iload 5, 2) := dk_21 5 (dk_at dksX4_fact_6 5 rfl rfl)
theorem dX4_fact_147 : decode cX4_fact 147 = .ok (.aload_n 0, 1) := dk_42 (dk_at dksX4_fact_6 7 rfl rfl)
theorem dX4_fact_148 : decode cX4_fact 148 = .ok (.invokevirtual 207, 3) := dk_182 0 207 (dk_at dksX4_fact_6 8 rfl rfl)
theorem dX4_fact_151 : decode cX4_fact 151 = .ok (.invokespecial 275, 3) := dk_183 1 19 (dk_at dksX4_fact_6 11 rfl rfl)
theorem dX4_fact_154 : decode cX4_fact 154 = .ok (.areturn, 1) := dk_176 (dk_at dksX4_fact_6 14 rfl rfl)
abbrev cX4_opens : ByteArray := prog_12_method_12_code
def yX4_opens : MethodName := ⟨RX4, "opens", "(I)V"⟩
def dkwX4_opens_1 : List UInt8 := [180, 0, 87, 4, 96, 181, 0, 87, 177]
abbrev dktX4_opens_1 : List UInt8 := dkwX4_opens_1 ++ []
def dkwX4_opens_0 : List UInt8 := [42, 42, 180, 0, 87, 16, 10, 162, 0, 7, 4, 167, 0, 4, 3, 5, 27, 182, 0, 76, 42, 89]
abbrev dktX4_opens_0 : List UInt8 := dkwX4_opens_0 ++ dktX4_opens_1
theorem dksX4_opens_0 : cX4_opens.data.toList.drop 0 = dktX4_opens_0 := by decide +kernel
theorem dksX4_opens_1 : cX4_opens.data.toList.drop 22 = dktX4_opens_1 := dk_seg dksX4_opens_0 22 rfl rfl
theorem dX4_opens_0 : decode cX4_opens 0 = .ok (.aload_n 0, 1) := dk_42 (dk_at dksX4_opens_0 0 rfl rfl)
theorem dX4_opens_1 : decode cX4_opens 1 = .ok (.aload_n 0, 1) := dk_42 (dk_at dksX4_opens_0 1 rfl rfl)
theorem dX4_opens_2 : decode cX4_opens 2 = .ok (.getfield 87, 3) := dk_180 0 87 (dk_at dksX4_opens_0 2 rfl rfl)
theorem dX4_opens_5 : decode cX4_opens 5 = .ok (.bipush 10, 2) := dk_16 10 (dk_at dksX4_opens_0 5 rfl rfl)
theorem dX4_opens_7 : decode cX4_opens 7 = .ok (.if_icmp .ge 7, 3) := dk_162 0 7 (dk_at dksX4_opens_0 7 rfl rfl)
theorem dX4_opens_10 : decode cX4_opens 10 = .ok (.iconst 1, 1) := dk_4 (dk_at dksX4_opens_0 10 rfl rfl)
theorem dX4_opens_11 : decode cX4_opens 11 = .ok (.goto 4, 3) := dk_167 0 4 (dk_at dksX4_opens_0 11 rfl rfl)
theorem dX4_opens_14 : decode cX4_opens 14 = .ok (.iconst 0, 1) := dk_3 (dk_at dksX4_opens_0 14 rfl rfl)
theorem dX4_opens_15 : decode cX4_opens 15 = .ok (.iconst 2, 1) := dk_5 (dk_at dksX4_opens_0 15 rfl rfl)
theorem dX4_opens_16 : decode cX4_opens 16 = .ok (.iload_n 1, 1) := dk_27 (dk_at dksX4_opens_0 16 rfl rfl)
theorem dX4_opens_17 : decode cX4_opens 17 = .ok (.invokevirtual 76, 3) := dk_182 0 76 (dk_at dksX4_opens_0 17 rfl rfl)
theorem dX4_opens_20 : decode cX4_opens 20 = .ok (.aload_n 0, 1) := dk_42 (dk_at dksX4_opens_0 20 rfl rfl)
theorem dX4_opens_21 : decode cX4_opens 21 = .ok (.dup, 1) := dk_89 (dk_at dksX4_opens_0 21 rfl rfl)
theorem dX4_opens_22 : decode cX4_opens 22 = .ok (.getfield 87, 3) := dk_180 0 87 (dk_at dksX4_opens_1 0 rfl rfl)
theorem dX4_opens_25 : decode cX4_opens 25 = .ok (.iconst 1, 1) := dk_4 (dk_at dksX4_opens_1 3 rfl rfl)
theorem dX4_opens_26 : decode cX4_opens 26 = .ok (.iadd, 1) := dk_96 (dk_at dksX4_opens_1 4 rfl rfl)
theorem dX4_opens_27 : decode cX4_opens 27 = .ok (.putfield 87, 3) := dk_181 0 87 (dk_at dksX4_opens_1 5 rfl rfl)
theorem dX4_opens_30 : decode cX4_opens 30 = .ok (.return_, 1) := dk_177 (dk_at dksX4_opens_1 8 rfl rfl)
abbrev cX4_sign : ByteArray := prog_12_method_25_code
def yX4_sign : MethodName := ⟨RX4, "sign", "()I"⟩
def dkwX4_sign_5 : List UInt8 := [167, 0, 16, 3, 167, 0, 12, 28, 153, 0, 7, 6, 167, 0, 4, 7, 172]
abbrev dktX4_sign_5 : List UInt8 := dkwX4_sign_5 ++ []
def dkwX4_sign_4 : List UInt8 := [153, 0, 13, 42, 89, 180, 0, 42, 4, 96, 181, 0, 42, 27, 16, 60, 160, 0, 15, 28, 153, 0, 7, 4]
abbrev dktX4_sign_4 : List UInt8 := dkwX4_sign_4 ++ dktX4_sign_5
def dkwX4_sign_3 : List UInt8 := [180, 0, 3, 180, 0, 48, 42, 180, 0, 42, 51, 16, 61, 160, 0, 7, 4, 167, 0, 4, 3, 61, 28]
abbrev dktX4_sign_3 : List UInt8 := dkwX4_sign_3 ++ dktX4_sign_4
def dkwX4_sign_2 : List UInt8 := [16, 61, 160, 0, 5, 5, 172, 42, 180, 0, 42, 42, 180, 0, 3, 180, 0, 45, 162, 0, 24, 42]
abbrev dktX4_sign_2 : List UInt8 := dkwX4_sign_2 ++ dktX4_sign_3
def dkwX4_sign_1 : List UInt8 := [4, 167, 0, 4, 3, 3, 42, 180, 0, 42, 182, 0, 76, 42, 89, 180, 0, 42, 4, 96, 181, 0, 42, 27]
abbrev dktX4_sign_1 : List UInt8 := dkwX4_sign_1 ++ dktX4_sign_2
def dkwX4_sign_0 : List UInt8 := [42, 182, 0, 52, 60, 42, 27, 16, 60, 159, 0, 15, 27, 16, 61, 159, 0, 9, 27, 16, 62, 160, 0, 7]
abbrev dktX4_sign_0 : List UInt8 := dkwX4_sign_0 ++ dktX4_sign_1
theorem dksX4_sign_0 : cX4_sign.data.toList.drop 0 = dktX4_sign_0 := by decide +kernel
theorem dksX4_sign_1 : cX4_sign.data.toList.drop 24 = dktX4_sign_1 := dk_seg dksX4_sign_0 24 rfl rfl
theorem dksX4_sign_2 : cX4_sign.data.toList.drop 48 = dktX4_sign_2 := dk_seg dksX4_sign_1 24 rfl rfl
theorem dksX4_sign_3 : cX4_sign.data.toList.drop 70 = dktX4_sign_3 := dk_seg dksX4_sign_2 22 rfl rfl
theorem dksX4_sign_4 : cX4_sign.data.toList.drop 93 = dktX4_sign_4 := dk_seg dksX4_sign_3 23 rfl rfl
theorem dksX4_sign_5 : cX4_sign.data.toList.drop 117 = dktX4_sign_5 := dk_seg dksX4_sign_4 24 rfl rfl
theorem dX4_sign_0 : decode cX4_sign 0 = .ok (.aload_n 0, 1) := dk_42 (dk_at dksX4_sign_0 0 rfl rfl)
theorem dX4_sign_1 : decode cX4_sign 1 = .ok (.invokevirtual 52, 3) := dk_182 0 52 (dk_at dksX4_sign_0 1 rfl rfl)
theorem dX4_sign_4 : decode cX4_sign 4 = .ok (.istore_n 1, 1) := dk_60 (dk_at dksX4_sign_0 4 rfl rfl)
theorem dX4_sign_5 : decode cX4_sign 5 = .ok (.aload_n 0, 1) := dk_42 (dk_at dksX4_sign_0 5 rfl rfl)
theorem dX4_sign_6 : decode cX4_sign 6 = .ok (.iload_n 1, 1) := dk_27 (dk_at dksX4_sign_0 6 rfl rfl)
theorem dX4_sign_7 : decode cX4_sign 7 = .ok (.bipush 60, 2) := dk_16 60 (dk_at dksX4_sign_0 7 rfl rfl)
theorem dX4_sign_9 : decode cX4_sign 9 = .ok (.if_icmp .eq 15, 3) := dk_159 0 15 (dk_at dksX4_sign_0 9 rfl rfl)
theorem dX4_sign_12 : decode cX4_sign 12 = .ok (.iload_n 1, 1) := dk_27 (dk_at dksX4_sign_0 12 rfl rfl)
theorem dX4_sign_13 : decode cX4_sign 13 = .ok (.bipush 61, 2) := dk_16 61 (dk_at dksX4_sign_0 13 rfl rfl)
theorem dX4_sign_15 : decode cX4_sign 15 = .ok (.if_icmp .eq 9, 3) := dk_159 0 9 (dk_at dksX4_sign_0 15 rfl rfl)
theorem dX4_sign_18 : decode cX4_sign 18 = .ok (.iload_n 1, 1) := dk_27 (dk_at dksX4_sign_0 18 rfl rfl)
theorem dX4_sign_19 : decode cX4_sign 19 = .ok (.bipush 62, 2) := dk_16 62 (dk_at dksX4_sign_0 19 rfl rfl)
theorem dX4_sign_21 : decode cX4_sign 21 = .ok (.if_icmp .ne 7, 3) := dk_160 0 7 (dk_at dksX4_sign_0 21 rfl rfl)
theorem dX4_sign_24 : decode cX4_sign 24 = .ok (.iconst 1, 1) := dk_4 (dk_at dksX4_sign_1 0 rfl rfl)
theorem dX4_sign_25 : decode cX4_sign 25 = .ok (.goto 4, 3) := dk_167 0 4 (dk_at dksX4_sign_1 1 rfl rfl)
theorem dX4_sign_28 : decode cX4_sign 28 = .ok (.iconst 0, 1) := dk_3 (dk_at dksX4_sign_1 4 rfl rfl)
theorem dX4_sign_29 : decode cX4_sign 29 = .ok (.iconst 0, 1) := dk_3 (dk_at dksX4_sign_1 5 rfl rfl)
theorem dX4_sign_30 : decode cX4_sign 30 = .ok (.aload_n 0, 1) := dk_42 (dk_at dksX4_sign_1 6 rfl rfl)
theorem dX4_sign_31 : decode cX4_sign 31 = .ok (.getfield 42, 3) := dk_180 0 42 (dk_at dksX4_sign_1 7 rfl rfl)
theorem dX4_sign_34 : decode cX4_sign 34 = .ok (.invokevirtual 76, 3) := dk_182 0 76 (dk_at dksX4_sign_1 10 rfl rfl)
theorem dX4_sign_37 : decode cX4_sign 37 = .ok (.aload_n 0, 1) := dk_42 (dk_at dksX4_sign_1 13 rfl rfl)
theorem dX4_sign_38 : decode cX4_sign 38 = .ok (.dup, 1) := dk_89 (dk_at dksX4_sign_1 14 rfl rfl)
theorem dX4_sign_39 : decode cX4_sign 39 = .ok (.getfield 42, 3) := dk_180 0 42 (dk_at dksX4_sign_1 15 rfl rfl)
theorem dX4_sign_42 : decode cX4_sign 42 = .ok (.iconst 1, 1) := dk_4 (dk_at dksX4_sign_1 18 rfl rfl)
theorem dX4_sign_43 : decode cX4_sign 43 = .ok (.iadd, 1) := dk_96 (dk_at dksX4_sign_1 19 rfl rfl)
theorem dX4_sign_44 : decode cX4_sign 44 = .ok (.putfield 42, 3) := dk_181 0 42 (dk_at dksX4_sign_1 20 rfl rfl)
theorem dX4_sign_47 : decode cX4_sign 47 = .ok (.iload_n 1, 1) := dk_27 (dk_at dksX4_sign_1 23 rfl rfl)
theorem dX4_sign_48 : decode cX4_sign 48 = .ok (.bipush 61, 2) := dk_16 61 (dk_at dksX4_sign_2 0 rfl rfl)
theorem dX4_sign_50 : decode cX4_sign 50 = .ok (.if_icmp .ne 5, 3) := dk_160 0 5 (dk_at dksX4_sign_2 2 rfl rfl)
theorem dX4_sign_53 : decode cX4_sign 53 = .ok (.iconst 2, 1) := dk_5 (dk_at dksX4_sign_2 5 rfl rfl)
theorem dX4_sign_54 : decode cX4_sign 54 = .ok (.ireturn, 1) := dk_172 (dk_at dksX4_sign_2 6 rfl rfl)
theorem dX4_sign_55 : decode cX4_sign 55 = .ok (.aload_n 0, 1) := dk_42 (dk_at dksX4_sign_2 7 rfl rfl)
theorem dX4_sign_56 : decode cX4_sign 56 = .ok (.getfield 42, 3) := dk_180 0 42 (dk_at dksX4_sign_2 8 rfl rfl)
theorem dX4_sign_59 : decode cX4_sign 59 = .ok (.aload_n 0, 1) := dk_42 (dk_at dksX4_sign_2 11 rfl rfl)
theorem dX4_sign_60 : decode cX4_sign 60 = .ok (.getfield 3, 3) := dk_180 0 3 (dk_at dksX4_sign_2 12 rfl rfl)
theorem dX4_sign_63 : decode cX4_sign 63 = .ok (.getfield 45, 3) := dk_180 0 45 (dk_at dksX4_sign_2 15 rfl rfl)
theorem dX4_sign_66 : decode cX4_sign 66 = .ok (.if_icmp .ge 24, 3) := dk_162 0 24 (dk_at dksX4_sign_2 18 rfl rfl)
theorem dX4_sign_69 : decode cX4_sign 69 = .ok (.aload_n 0, 1) := dk_42 (dk_at dksX4_sign_2 21 rfl rfl)
theorem dX4_sign_70 : decode cX4_sign 70 = .ok (.getfield 3, 3) := dk_180 0 3 (dk_at dksX4_sign_3 0 rfl rfl)
theorem dX4_sign_73 : decode cX4_sign 73 = .ok (.getfield 48, 3) := dk_180 0 48 (dk_at dksX4_sign_3 3 rfl rfl)
theorem dX4_sign_76 : decode cX4_sign 76 = .ok (.aload_n 0, 1) := dk_42 (dk_at dksX4_sign_3 6 rfl rfl)
theorem dX4_sign_77 : decode cX4_sign 77 = .ok (.getfield 42, 3) := dk_180 0 42 (dk_at dksX4_sign_3 7 rfl rfl)
theorem dX4_sign_80 : decode cX4_sign 80 = .ok (.baload, 1) := dk_51 (dk_at dksX4_sign_3 10 rfl rfl)
theorem dX4_sign_81 : decode cX4_sign 81 = .ok (.bipush 61, 2) := dk_16 61 (dk_at dksX4_sign_3 11 rfl rfl)
theorem dX4_sign_83 : decode cX4_sign 83 = .ok (.if_icmp .ne 7, 3) := dk_160 0 7 (dk_at dksX4_sign_3 13 rfl rfl)
theorem dX4_sign_86 : decode cX4_sign 86 = .ok (.iconst 1, 1) := dk_4 (dk_at dksX4_sign_3 16 rfl rfl)
theorem dX4_sign_87 : decode cX4_sign 87 = .ok (.goto 4, 3) := dk_167 0 4 (dk_at dksX4_sign_3 17 rfl rfl)
theorem dX4_sign_90 : decode cX4_sign 90 = .ok (.iconst 0, 1) := dk_3 (dk_at dksX4_sign_3 20 rfl rfl)
theorem dX4_sign_91 : decode cX4_sign 91 = .ok (.istore_n 2, 1) := dk_61 (dk_at dksX4_sign_3 21 rfl rfl)
theorem dX4_sign_92 : decode cX4_sign 92 = .ok (.iload_n 2, 1) := dk_28 (dk_at dksX4_sign_3 22 rfl rfl)
theorem dX4_sign_93 : decode cX4_sign 93 = .ok (.ifCond .eq 13, 3) := dk_153 0 13 (dk_at dksX4_sign_4 0 rfl rfl)
theorem dX4_sign_96 : decode cX4_sign 96 = .ok (.aload_n 0, 1) := dk_42 (dk_at dksX4_sign_4 3 rfl rfl)
theorem dX4_sign_97 : decode cX4_sign 97 = .ok (.dup, 1) := dk_89 (dk_at dksX4_sign_4 4 rfl rfl)
theorem dX4_sign_98 : decode cX4_sign 98 = .ok (.getfield 42, 3) := dk_180 0 42 (dk_at dksX4_sign_4 5 rfl rfl)
theorem dX4_sign_101 : decode cX4_sign 101 = .ok (.iconst 1, 1) := dk_4 (dk_at dksX4_sign_4 8 rfl rfl)
theorem dX4_sign_102 : decode cX4_sign 102 = .ok (.iadd, 1) := dk_96 (dk_at dksX4_sign_4 9 rfl rfl)
theorem dX4_sign_103 : decode cX4_sign 103 = .ok (.putfield 42, 3) := dk_181 0 42 (dk_at dksX4_sign_4 10 rfl rfl)
theorem dX4_sign_106 : decode cX4_sign 106 = .ok (.iload_n 1, 1) := dk_27 (dk_at dksX4_sign_4 13 rfl rfl)
theorem dX4_sign_107 : decode cX4_sign 107 = .ok (.bipush 60, 2) := dk_16 60 (dk_at dksX4_sign_4 14 rfl rfl)
theorem dX4_sign_109 : decode cX4_sign 109 = .ok (.if_icmp .ne 15, 3) := dk_160 0 15 (dk_at dksX4_sign_4 16 rfl rfl)
theorem dX4_sign_112 : decode cX4_sign 112 = .ok (.iload_n 2, 1) := dk_28 (dk_at dksX4_sign_4 19 rfl rfl)
theorem dX4_sign_113 : decode cX4_sign 113 = .ok (.ifCond .eq 7, 3) := dk_153 0 7 (dk_at dksX4_sign_4 20 rfl rfl)
theorem dX4_sign_116 : decode cX4_sign 116 = .ok (.iconst 1, 1) := dk_4 (dk_at dksX4_sign_4 23 rfl rfl)
theorem dX4_sign_117 : decode cX4_sign 117 = .ok (.goto 16, 3) := dk_167 0 16 (dk_at dksX4_sign_5 0 rfl rfl)
theorem dX4_sign_120 : decode cX4_sign 120 = .ok (.iconst 0, 1) := dk_3 (dk_at dksX4_sign_5 3 rfl rfl)
theorem dX4_sign_121 : decode cX4_sign 121 = .ok (.goto 12, 3) := dk_167 0 12 (dk_at dksX4_sign_5 4 rfl rfl)
theorem dX4_sign_124 : decode cX4_sign 124 = .ok (.iload_n 2, 1) := dk_28 (dk_at dksX4_sign_5 7 rfl rfl)
theorem dX4_sign_125 : decode cX4_sign 125 = .ok (.ifCond .eq 7, 3) := dk_153 0 7 (dk_at dksX4_sign_5 8 rfl rfl)
theorem dX4_sign_128 : decode cX4_sign 128 = .ok (.iconst 3, 1) := dk_6 (dk_at dksX4_sign_5 11 rfl rfl)
theorem dX4_sign_129 : decode cX4_sign 129 = .ok (.goto 4, 3) := dk_167 0 4 (dk_at dksX4_sign_5 12 rfl rfl)
theorem dX4_sign_132 : decode cX4_sign 132 = .ok (.iconst 4, 1) := dk_7 (dk_at dksX4_sign_5 15 rfl rfl)
theorem dX4_sign_133 : decode cX4_sign 133 = .ok (.ireturn, 1) := dk_172 (dk_at dksX4_sign_5 16 rfl rfl)
theorem q136 : (Jvm.Cond.initialized "LatestCoat$Text") ∈ lw_all := lw_g (lw_at lw_m1 8 rfl) rfl
theorem q170 : (Jvm.Cond.fieldLinkNest "LatestCoat$Text" (93 : Nat) "LatestCoat$Town" "dry" "I" "LatestCoat") ∈ lw_tbl := lw_at lw_m1 42 rfl
theorem q173 : (Jvm.Cond.fieldLinkNest "LatestCoat$Text" (114 : Nat) "LatestCoat$Town" "part" "I" "LatestCoat") ∈ lw_tbl := lw_at lw_m1 45 rfl
theorem q176 : (Jvm.Cond.fieldLinkNest "LatestCoat$Text" (117 : Nat) "LatestCoat$Town" "cost" "I" "LatestCoat") ∈ lw_tbl := lw_at lw_m1 48 rfl
theorem q180 : (Jvm.Cond.fieldLinkNest "LatestCoat$Text" (98 : Nat) "LatestCoat$Town" "thingMany" "I" "LatestCoat") ∈ lw_tbl := lw_at lw_m1 52 rfl
theorem q183 : (Jvm.Cond.fieldLinkNest "LatestCoat$Text" (124 : Nat) "LatestCoat$Town" "cellMany" "I" "LatestCoat") ∈ lw_tbl := lw_at lw_m1 55 rfl
theorem q186 : (Jvm.Cond.fieldLinkNest "LatestCoat$Text" (101 : Nat) "LatestCoat$Town" "painterMany" "I" "LatestCoat") ∈ lw_tbl := lw_at lw_m1 58 rfl
theorem q188 : (Jvm.Cond.fieldLinkNest "LatestCoat$Text" (104 : Nat) "LatestCoat$Town" "rainMany" "I" "LatestCoat") ∈ lw_tbl := lw_at lw_m1 60 rfl
theorem q190 : (Jvm.Cond.fieldLinkNest "LatestCoat$Text" (107 : Nat) "LatestCoat$Town" "suit" "I" "LatestCoat") ∈ lw_tbl := lw_at lw_m1 62 rfl
theorem q197 : (Jvm.Cond.fieldLinkNest "LatestCoat$Text" (168 : Nat) "LatestCoat$Town" "toldBare" "I" "LatestCoat") ∈ lw_tbl := lw_at lw_m1 69 rfl
theorem q203 : (Jvm.Cond.fieldLinkNest "LatestCoat$Text" (120 : Nat) "LatestCoat$Town" "first" "[I" "LatestCoat") ∈ lw_tbl := lw_at lw_m1 75 rfl
theorem q206 : (Jvm.Cond.fieldLinkNest "LatestCoat$Text" (127 : Nat) "LatestCoat$Town" "size" "[I" "LatestCoat") ∈ lw_tbl := lw_at lw_m1 78 rfl
theorem q209 : (Jvm.Cond.fieldLinkNest "LatestCoat$Text" (135 : Nat) "LatestCoat$Town" "rent" "[I" "LatestCoat") ∈ lw_tbl := lw_at lw_m1 81 rfl
theorem q213 : (Jvm.Cond.fieldLinkNest "LatestCoat$Text" (138 : Nat) "LatestCoat$Town" "thingOf" "[I" "LatestCoat") ∈ lw_tbl := lw_at lw_m1 85 rfl
theorem q216 : (Jvm.Cond.fieldLinkNest "LatestCoat$Text" (159 : Nat) "LatestCoat$Town" "colour" "[I" "LatestCoat") ∈ lw_tbl := lw_at lw_m1 88 rfl
theorem q218 : (Jvm.Cond.fieldLinkNest "LatestCoat$Text" (162 : Nat) "LatestCoat$Town" "toldPurse" "[I" "LatestCoat") ∈ lw_tbl := lw_at lw_m1 90 rfl
theorem q220 : (Jvm.Cond.fieldLinkNest "LatestCoat$Text" (141 : Nat) "LatestCoat$Town" "toldMany" "[I" "LatestCoat") ∈ lw_tbl := lw_at lw_m1 92 rfl
theorem q222 : (Jvm.Cond.fieldLinkNest "LatestCoat$Text" (144 : Nat) "LatestCoat$Town" "toldBy" "[I" "LatestCoat") ∈ lw_tbl := lw_at lw_m1 94 rfl
theorem q224 : (Jvm.Cond.fieldLinkNest "LatestCoat$Text" (171 : Nat) "LatestCoat$Town" "rains" "[I" "LatestCoat") ∈ lw_tbl := lw_at lw_m1 96 rfl
theorem q355 : (Jvm.Cond.fieldLinkNest "LatestCoat$Text" (33 : Nat) "LatestCoat$Fault" "kind" "I" "LatestCoat") ∈ lw_tbl := lw_at lw_m1 227 rfl
theorem q357 : (Jvm.Cond.fieldLinkNest "LatestCoat$Text" (39 : Nat) "LatestCoat$Fault" "place" "I" "LatestCoat") ∈ lw_tbl := lw_at lw_m1 229 rfl
theorem q405 : (Jvm.Cond.fieldLinkNest "LatestCoat$Text" (22 : Nat) "LatestCoat" "reading" "LLatestCoat$Town;" "LatestCoat") ∈ lw_tbl := lw_at lw_m2 37 rfl
theorem q408 : (Jvm.Cond.fieldLinkNest "LatestCoat$Text" (174 : Nat) "LatestCoat" "blank" "LLatestCoat$Town;" "LatestCoat") ∈ lw_tbl := lw_at lw_m2 40 rfl
theorem q412 : (Jvm.Cond.fieldLinkNest "LatestCoat$Text" (29 : Nat) "LatestCoat" "fault" "LLatestCoat$Fault;" "LatestCoat") ∈ lw_tbl := lw_at lw_m2 44 rfl
theorem q414 : (Jvm.Cond.fieldLinkNest "LatestCoat$Text" (48 : Nat) "LatestCoat" "tape" "[B" "LatestCoat") ∈ lw_tbl := lw_at lw_m2 46 rfl
theorem q416 : (Jvm.Cond.fieldLinkNest "LatestCoat$Text" (45 : Nat) "LatestCoat" "taped" "I" "LatestCoat") ∈ lw_tbl := lw_at lw_m2 48 rfl
theorem q419 : (Jvm.Cond.fieldLinkNest "LatestCoat$Text" (181 : Nat) "LatestCoat" "lineWords" "[Ljava/lang/String;" "LatestCoat") ∈ lw_tbl := lw_at lw_m2 51 rfl
theorem q421 : (Jvm.Cond.fieldLinkNest "LatestCoat$Text" (230 : Nat) "LatestCoat" "clauseWords" "[Ljava/lang/String;" "LatestCoat") ∈ lw_tbl := lw_at lw_m2 53 rfl
theorem q422 : (Jvm.Cond.fieldLinkNest "LatestCoat$Text" (15 : Nat) "LatestCoat" "wordNames" "[Ljava/lang/String;" "LatestCoat") ∈ lw_tbl := lw_at lw_m2 54 rfl
theorem q503 : (Jvm.Cond.instantiable "LatestCoat$Text" (7 : Nat)) ∈ lw_all := lw_g (lw_at lw_m2 135 rfl) rfl
theorem q505 : (Jvm.Cond.instanceMethod ({ cls := "LatestCoat$Text", name := "<init>", desc := "(LLatestCoat;)V" } : Jvm.MethodName)) ∈ lw_all := lw_g (lw_at lw_m2 137 rfl) rfl
theorem q506 : (Jvm.Cond.code ({ cls := "LatestCoat$Text", name := "<init>", desc := "(LLatestCoat;)V" } : Jvm.MethodName) prog_12_method_1_code (2 : Nat) (Option.none : Option Jvm.ClassFile.FieldType)) ∈ lw_all := lw_g (lw_at lw_m2 138 rfl) rfl
theorem q507 : (Jvm.Cond.methodLink "LatestCoat$Text" (9 : Nat) ({ cls := "java/lang/Object", name := "<init>", desc := "()V" } : Jvm.MethodName)) ∈ lw_all := lw_g (lw_at lw_m2 139 rfl) rfl
theorem q508 : (Jvm.Cond.fieldLink "LatestCoat$Text" (19 : Nat) "LatestCoat$Text" "words" "[Ljava/lang/String;") ∈ lw_all := lw_g (lw_at lw_m2 140 rfl) rfl
theorem q509 : (Jvm.Cond.fieldLink "LatestCoat$Text" (26 : Nat) "LatestCoat$Text" "read" "LLatestCoat$Town;") ∈ lw_all := lw_g (lw_at lw_m2 141 rfl) rfl
theorem q510 : (Jvm.Cond.fieldLink "LatestCoat$Text" (42 : Nat) "LatestCoat$Text" "next" "I") ∈ lw_all := lw_g (lw_at lw_m2 142 rfl) rfl
theorem q511 : (Jvm.Cond.fieldLink "LatestCoat$Text" (87 : Nat) "LatestCoat$Text" "deep" "I") ∈ lw_all := lw_g (lw_at lw_m2 143 rfl) rfl
theorem q512 : (Jvm.Cond.fieldLink "LatestCoat$Text" (84 : Nat) "LatestCoat$Text" "made" "I") ∈ lw_all := lw_g (lw_at lw_m2 144 rfl) rfl
theorem q513 : (Jvm.Cond.fieldLink "LatestCoat$Text" (90 : Nat) "LatestCoat$Text" "many" "I") ∈ lw_all := lw_g (lw_at lw_m2 145 rfl) rfl
theorem q514 : (Jvm.Cond.fieldLink "LatestCoat$Text" (3 : Nat) "LatestCoat$Text" "this$0" "LLatestCoat;") ∈ lw_all := lw_g (lw_at lw_m2 146 rfl) rfl
theorem q515 : (Jvm.Cond.laysFinal "LatestCoat$Text" "LatestCoat$Text" "words" "[Ljava/lang/String;") ∈ lw_all := lw_g (lw_at lw_m2 147 rfl) rfl
theorem q516 : (Jvm.Cond.soleField "LatestCoat$Text" "words") ∈ lw_all := lw_g (lw_at lw_m2 148 rfl) rfl
theorem q517 : (Jvm.Cond.laysFinal "LatestCoat$Text" "LatestCoat$Text" "read" "LLatestCoat$Town;") ∈ lw_all := lw_g (lw_at lw_m2 149 rfl) rfl
theorem q518 : (Jvm.Cond.soleField "LatestCoat$Text" "read") ∈ lw_all := lw_g (lw_at lw_m2 150 rfl) rfl
theorem q519 : (Jvm.Cond.lays "LatestCoat$Text" "LatestCoat$Text" "next" "I") ∈ lw_all := lw_g (lw_at lw_m2 151 rfl) rfl
theorem q520 : (Jvm.Cond.soleField "LatestCoat$Text" "next") ∈ lw_all := lw_g (lw_at lw_m2 152 rfl) rfl
theorem q521 : (Jvm.Cond.lays "LatestCoat$Text" "LatestCoat$Text" "deep" "I") ∈ lw_all := lw_g (lw_at lw_m2 153 rfl) rfl
theorem q522 : (Jvm.Cond.soleField "LatestCoat$Text" "deep") ∈ lw_all := lw_g (lw_at lw_m2 154 rfl) rfl
theorem q523 : (Jvm.Cond.lays "LatestCoat$Text" "LatestCoat$Text" "made" "I") ∈ lw_all := lw_g (lw_at lw_m2 155 rfl) rfl
theorem q524 : (Jvm.Cond.soleField "LatestCoat$Text" "made") ∈ lw_all := lw_g (lw_at lw_m2 156 rfl) rfl
theorem q525 : (Jvm.Cond.lays "LatestCoat$Text" "LatestCoat$Text" "many" "I") ∈ lw_all := lw_g (lw_at lw_m2 157 rfl) rfl
theorem q526 : (Jvm.Cond.soleField "LatestCoat$Text" "many") ∈ lw_all := lw_g (lw_at lw_m2 158 rfl) rfl
theorem q527 : (Jvm.Cond.laysFinal "LatestCoat$Text" "LatestCoat$Text" "this$0" "LLatestCoat;") ∈ lw_all := lw_g (lw_at lw_m2 159 rfl) rfl
theorem q528 : (Jvm.Cond.soleField "LatestCoat$Text" "this$0") ∈ lw_all := lw_g (lw_at lw_m2 160 rfl) rfl
theorem q529 : (Jvm.Cond.superclass "LatestCoat$Text" "java/lang/Object") ∈ lw_all := lw_g (lw_at lw_m2 161 rfl) rfl
theorem q531 : (Jvm.Cond.instanceMethod ({ cls := "LatestCoat$Text", name := "streetTold", desc := "()LLatestCoat$Town;" } : Jvm.MethodName)) ∈ lw_all := lw_g (lw_at lw_m2 163 rfl) rfl
theorem q532 : (Jvm.Cond.selects "LatestCoat$Text" ({ cls := "LatestCoat$Text", name := "streetTold", desc := "()LLatestCoat$Town;" } : Jvm.MethodName) ({ cls := "LatestCoat$Text", name := "streetTold", desc := "()LLatestCoat$Town;" } : Jvm.MethodName)) ∈ lw_all := lw_g (lw_at lw_m2 164 rfl) rfl
theorem q533 : (Jvm.Cond.code ({ cls := "LatestCoat$Text", name := "streetTold", desc := "()LLatestCoat$Town;" } : Jvm.MethodName) prog_12_method_19_code (3 : Nat) (Option.some (Jvm.ClassFile.FieldType.object "LatestCoat$Town"))) ∈ lw_all := lw_g (lw_at lw_m2 165 rfl) rfl
theorem q534 : (Jvm.Cond.methodLink "LatestCoat$Text" (177 : Nat) ({ cls := "LatestCoat$Town", name := "copies", desc := "(LLatestCoat$Town;)LLatestCoat$Town;" } : Jvm.MethodName)) ∈ lw_all := lw_g (lw_at lw_m2 166 rfl) rfl
theorem q545 : (Jvm.Cond.methodLink "LatestCoat$Text" (52 : Nat) ({ cls := "LatestCoat$Text", name := "see", desc := "()I" } : Jvm.MethodName)) ∈ lw_all := lw_g (lw_at lw_m2 177 rfl) rfl
theorem q546 : (Jvm.Cond.privateMethod ({ cls := "LatestCoat$Text", name := "see", desc := "()I" } : Jvm.MethodName)) ∈ lw_tbl := lw_at lw_m2 178 rfl
theorem q547 : (Jvm.Cond.instanceMethod ({ cls := "LatestCoat$Text", name := "see", desc := "()I" } : Jvm.MethodName)) ∈ lw_all := lw_g (lw_at lw_m2 179 rfl) rfl
theorem q548 : (Jvm.Cond.code ({ cls := "LatestCoat$Text", name := "see", desc := "()I" } : Jvm.MethodName) prog_12_method_3_code (1 : Nat) (Option.some Jvm.ClassFile.FieldType.int)) ∈ lw_all := lw_g (lw_at lw_m2 180 rfl) rfl
theorem q549 : (Jvm.Cond.methodLink "LatestCoat$Text" (184 : Nat) ({ cls := "LatestCoat$Text", name := "oneOf", desc := "([Ljava/lang/String;)I" } : Jvm.MethodName)) ∈ lw_all := lw_g (lw_at lw_m2 181 rfl) rfl
theorem q550 : (Jvm.Cond.privateMethod ({ cls := "LatestCoat$Text", name := "oneOf", desc := "([Ljava/lang/String;)I" } : Jvm.MethodName)) ∈ lw_tbl := lw_at lw_m2 182 rfl
theorem q551 : (Jvm.Cond.instanceMethod ({ cls := "LatestCoat$Text", name := "oneOf", desc := "([Ljava/lang/String;)I" } : Jvm.MethodName)) ∈ lw_all := lw_g (lw_at lw_m2 183 rfl) rfl
theorem q552 : (Jvm.Cond.code ({ cls := "LatestCoat$Text", name := "oneOf", desc := "([Ljava/lang/String;)I" } : Jvm.MethodName) prog_12_method_8_code (3 : Nat) (Option.some Jvm.ClassFile.FieldType.int)) ∈ lw_all := lw_g (lw_at lw_m2 184 rfl) rfl
theorem q553 : (Jvm.Cond.methodLink "LatestCoat$Text" (68 : Nat) ({ cls := "LatestCoat$Text", name := "isWord", desc := "(Ljava/lang/String;)Z" } : Jvm.MethodName)) ∈ lw_all := lw_g (lw_at lw_m2 185 rfl) rfl
theorem q554 : (Jvm.Cond.privateMethod ({ cls := "LatestCoat$Text", name := "isWord", desc := "(Ljava/lang/String;)Z" } : Jvm.MethodName)) ∈ lw_tbl := lw_at lw_m2 186 rfl
theorem q555 : (Jvm.Cond.instanceMethod ({ cls := "LatestCoat$Text", name := "isWord", desc := "(Ljava/lang/String;)Z" } : Jvm.MethodName)) ∈ lw_all := lw_g (lw_at lw_m2 187 rfl) rfl
theorem q556 : (Jvm.Cond.code ({ cls := "LatestCoat$Text", name := "isWord", desc := "(Ljava/lang/String;)Z" } : Jvm.MethodName) prog_12_method_6_code (5 : Nat) (Option.some Jvm.ClassFile.FieldType.boolean)) ∈ lw_all := lw_g (lw_at lw_m2 188 rfl) rfl
theorem q557 : (Jvm.Cond.methodLink "LatestCoat$Text" (56 : Nat) ({ cls := "LatestCoat$Text", name := "letters", desc := "()I" } : Jvm.MethodName)) ∈ lw_all := lw_g (lw_at lw_m2 189 rfl) rfl
theorem q558 : (Jvm.Cond.privateMethod ({ cls := "LatestCoat$Text", name := "letters", desc := "()I" } : Jvm.MethodName)) ∈ lw_tbl := lw_at lw_m2 190 rfl
theorem q559 : (Jvm.Cond.instanceMethod ({ cls := "LatestCoat$Text", name := "letters", desc := "()I" } : Jvm.MethodName)) ∈ lw_all := lw_g (lw_at lw_m2 191 rfl) rfl
theorem q560 : (Jvm.Cond.code ({ cls := "LatestCoat$Text", name := "letters", desc := "()I" } : Jvm.MethodName) prog_12_method_5_code (2 : Nat) (Option.some Jvm.ClassFile.FieldType.int)) ∈ lw_all := lw_g (lw_at lw_m2 192 rfl) rfl
theorem q561 : (Jvm.Cond.methodLink "LatestCoat$Text" (59 : Nat) ({ cls := "java/lang/String", name := "length", desc := "()I" } : Jvm.MethodName)) ∈ lw_all := lw_g (lw_at lw_m2 193 rfl) rfl
theorem q571 : (Jvm.Cond.methodLink "LatestCoat$Text" (64 : Nat) ({ cls := "java/lang/String", name := "charAt", desc := "(I)C" } : Jvm.MethodName)) ∈ lw_all := lw_g (lw_at lw_m2 203 rfl) rfl
theorem q609 : (Jvm.Cond.methodLink "LatestCoat$Text" (76 : Nat) ({ cls := "LatestCoat$Text", name := "demand", desc := "(ZII)V" } : Jvm.MethodName)) ∈ lw_all := lw_g (lw_at lw_m3 1 rfl) rfl
theorem q610 : (Jvm.Cond.privateMethod ({ cls := "LatestCoat$Text", name := "demand", desc := "(ZII)V" } : Jvm.MethodName)) ∈ lw_tbl := lw_at lw_m3 2 rfl
theorem q611 : (Jvm.Cond.instanceMethod ({ cls := "LatestCoat$Text", name := "demand", desc := "(ZII)V" } : Jvm.MethodName)) ∈ lw_all := lw_g (lw_at lw_m3 3 rfl) rfl
theorem q612 : (Jvm.Cond.code ({ cls := "LatestCoat$Text", name := "demand", desc := "(ZII)V" } : Jvm.MethodName) prog_12_method_2_code (4 : Nat) (Option.none : Option Jvm.ClassFile.FieldType)) ∈ lw_all := lw_g (lw_at lw_m3 4 rfl) rfl
theorem q613 : (Jvm.Cond.methodLink "LatestCoat$Text" (188 : Nat) ({ cls := "LatestCoat$Text", name := "canBe", desc := "(I)Z" } : Jvm.MethodName)) ∈ lw_all := lw_g (lw_at lw_m3 5 rfl) rfl
theorem q614 : (Jvm.Cond.privateMethod ({ cls := "LatestCoat$Text", name := "canBe", desc := "(I)Z" } : Jvm.MethodName)) ∈ lw_tbl := lw_at lw_m3 6 rfl
theorem q615 : (Jvm.Cond.instanceMethod ({ cls := "LatestCoat$Text", name := "canBe", desc := "(I)Z" } : Jvm.MethodName)) ∈ lw_all := lw_g (lw_at lw_m3 7 rfl) rfl
theorem q616 : (Jvm.Cond.code ({ cls := "LatestCoat$Text", name := "canBe", desc := "(I)Z" } : Jvm.MethodName) prog_12_method_14_code (2 : Nat) (Option.some Jvm.ClassFile.FieldType.boolean)) ∈ lw_all := lw_g (lw_at lw_m3 8 rfl) rfl
theorem q617 : (Jvm.Cond.methodLink "LatestCoat$Text" (191 : Nat) ({ cls := "LatestCoat$Text", name := "line", desc := "(I)V" } : Jvm.MethodName)) ∈ lw_all := lw_g (lw_at lw_m3 9 rfl) rfl
theorem q618 : (Jvm.Cond.privateMethod ({ cls := "LatestCoat$Text", name := "line", desc := "(I)V" } : Jvm.MethodName)) ∈ lw_tbl := lw_at lw_m3 10 rfl
theorem q619 : (Jvm.Cond.instanceMethod ({ cls := "LatestCoat$Text", name := "line", desc := "(I)V" } : Jvm.MethodName)) ∈ lw_all := lw_g (lw_at lw_m3 11 rfl) rfl
theorem q620 : (Jvm.Cond.code ({ cls := "LatestCoat$Text", name := "line", desc := "(I)V" } : Jvm.MethodName) prog_12_method_18_code (3 : Nat) (Option.none : Option Jvm.ClassFile.FieldType)) ∈ lw_all := lw_g (lw_at lw_m3 12 rfl) rfl
theorem q621 : (Jvm.Cond.methodLink "LatestCoat$Text" (153 : Nat) ({ cls := "LatestCoat$Text", name := "streetHere", desc := "()V" } : Jvm.MethodName)) ∈ lw_all := lw_g (lw_at lw_m3 13 rfl) rfl
theorem q622 : (Jvm.Cond.privateMethod ({ cls := "LatestCoat$Text", name := "streetHere", desc := "()V" } : Jvm.MethodName)) ∈ lw_tbl := lw_at lw_m3 14 rfl
theorem q623 : (Jvm.Cond.instanceMethod ({ cls := "LatestCoat$Text", name := "streetHere", desc := "()V" } : Jvm.MethodName)) ∈ lw_all := lw_g (lw_at lw_m3 15 rfl) rfl
theorem q624 : (Jvm.Cond.code ({ cls := "LatestCoat$Text", name := "streetHere", desc := "()V" } : Jvm.MethodName) prog_12_method_15_code (2 : Nat) (Option.none : Option Jvm.ClassFile.FieldType)) ∈ lw_all := lw_g (lw_at lw_m3 16 rfl) rfl
theorem q625 : (Jvm.Cond.methodLink "LatestCoat$Text" (110 : Nat) ({ cls := "LatestCoat$Text", name := "number", desc := "(II)I" } : Jvm.MethodName)) ∈ lw_all := lw_g (lw_at lw_m3 17 rfl) rfl
theorem q626 : (Jvm.Cond.privateMethod ({ cls := "LatestCoat$Text", name := "number", desc := "(II)I" } : Jvm.MethodName)) ∈ lw_tbl := lw_at lw_m3 18 rfl
theorem q627 : (Jvm.Cond.instanceMethod ({ cls := "LatestCoat$Text", name := "number", desc := "(II)I" } : Jvm.MethodName)) ∈ lw_all := lw_g (lw_at lw_m3 19 rfl) rfl
theorem q628 : (Jvm.Cond.code ({ cls := "LatestCoat$Text", name := "number", desc := "(II)I" } : Jvm.MethodName) prog_12_method_10_code (5 : Nat) (Option.some Jvm.ClassFile.FieldType.int)) ∈ lw_all := lw_g (lw_at lw_m3 20 rfl) rfl
theorem q629 : (Jvm.Cond.methodLink "LatestCoat$Text" (72 : Nat) ({ cls := "LatestCoat$Text", name := "isDigit", desc := "(I)Z" } : Jvm.MethodName)) ∈ lw_all := lw_g (lw_at lw_m3 21 rfl) rfl
theorem q630 : (Jvm.Cond.privateMethod ({ cls := "LatestCoat$Text", name := "isDigit", desc := "(I)Z" } : Jvm.MethodName)) ∈ lw_tbl := lw_at lw_m3 22 rfl
theorem q631 : (Jvm.Cond.instanceMethod ({ cls := "LatestCoat$Text", name := "isDigit", desc := "(I)Z" } : Jvm.MethodName)) ∈ lw_all := lw_g (lw_at lw_m3 23 rfl) rfl
theorem q632 : (Jvm.Cond.code ({ cls := "LatestCoat$Text", name := "isDigit", desc := "(I)Z" } : Jvm.MethodName) prog_12_method_9_code (2 : Nat) (Option.some Jvm.ClassFile.FieldType.boolean)) ∈ lw_all := lw_g (lw_at lw_m3 24 rfl) rfl
theorem q633 : (Jvm.Cond.methodLinkNest "LatestCoat$Text" (80 : Nat) ({ cls := "LatestCoat", name := "in", desc := "(JJJ)Z" } : Jvm.MethodName) "LatestCoat") ∈ lw_tbl := lw_at lw_m3 25 rfl
theorem q636 : (Jvm.Cond.methodLink "LatestCoat$Text" (156 : Nat) ({ cls := "LatestCoat$Text", name := "thingHere", desc := "()V" } : Jvm.MethodName)) ∈ lw_all := lw_g (lw_at lw_m3 28 rfl) rfl
theorem q637 : (Jvm.Cond.privateMethod ({ cls := "LatestCoat$Text", name := "thingHere", desc := "()V" } : Jvm.MethodName)) ∈ lw_tbl := lw_at lw_m3 29 rfl
theorem q638 : (Jvm.Cond.instanceMethod ({ cls := "LatestCoat$Text", name := "thingHere", desc := "()V" } : Jvm.MethodName)) ∈ lw_all := lw_g (lw_at lw_m3 30 rfl) rfl
theorem q639 : (Jvm.Cond.code ({ cls := "LatestCoat$Text", name := "thingHere", desc := "()V" } : Jvm.MethodName) prog_12_method_16_code (3 : Nat) (Option.none : Option Jvm.ClassFile.FieldType)) ∈ lw_all := lw_g (lw_at lw_m3 31 rfl) rfl
theorem q640 : (Jvm.Cond.methodLink "LatestCoat$Text" (130 : Nat) ({ cls := "java/lang/Math", name := "min", desc := "(II)I" } : Jvm.MethodName)) ∈ lw_all := lw_g (lw_at lw_m3 32 rfl) rfl
theorem q643 : (Jvm.Cond.methodLink "LatestCoat$Text" (165 : Nat) ({ cls := "LatestCoat$Text", name := "coatHere", desc := "()V" } : Jvm.MethodName)) ∈ lw_all := lw_g (lw_at lw_m3 35 rfl) rfl
theorem q644 : (Jvm.Cond.privateMethod ({ cls := "LatestCoat$Text", name := "coatHere", desc := "()V" } : Jvm.MethodName)) ∈ lw_tbl := lw_at lw_m3 36 rfl
theorem q645 : (Jvm.Cond.instanceMethod ({ cls := "LatestCoat$Text", name := "coatHere", desc := "()V" } : Jvm.MethodName)) ∈ lw_all := lw_g (lw_at lw_m3 37 rfl) rfl
theorem q646 : (Jvm.Cond.code ({ cls := "LatestCoat$Text", name := "coatHere", desc := "()V" } : Jvm.MethodName) prog_12_method_17_code (3 : Nat) (Option.none : Option Jvm.ClassFile.FieldType)) ∈ lw_all := lw_g (lw_at lw_m3 38 rfl) rfl
theorem q647 : (Jvm.Cond.methodLink "LatestCoat$Text" (147 : Nat) ({ cls := "java/lang/System", name := "arraycopy", desc := "(Ljava/lang/Object;ILjava/lang/Object;II)V" } : Jvm.MethodName)) ∈ lw_all := lw_g (lw_at lw_m3 39 rfl) rfl
theorem q648 : (Jvm.Cond.methodLink "LatestCoat$Text" (195 : Nat) ({ cls := "LatestCoat$Text", name := "takesSign", desc := "(I)Z" } : Jvm.MethodName)) ∈ lw_all := lw_g (lw_at lw_m3 40 rfl) rfl
theorem q649 : (Jvm.Cond.privateMethod ({ cls := "LatestCoat$Text", name := "takesSign", desc := "(I)Z" } : Jvm.MethodName)) ∈ lw_tbl := lw_at lw_m3 41 rfl
theorem q650 : (Jvm.Cond.instanceMethod ({ cls := "LatestCoat$Text", name := "takesSign", desc := "(I)Z" } : Jvm.MethodName)) ∈ lw_all := lw_g (lw_at lw_m3 42 rfl) rfl
theorem q651 : (Jvm.Cond.code ({ cls := "LatestCoat$Text", name := "takesSign", desc := "(I)Z" } : Jvm.MethodName) prog_12_method_4_code (2 : Nat) (Option.some Jvm.ClassFile.FieldType.boolean)) ∈ lw_all := lw_g (lw_at lw_m3 43 rfl) rfl
theorem q652 : (Jvm.Cond.methodLink "LatestCoat$Text" (198 : Nat) ({ cls := "LatestCoat$Text", name := "ends", desc := "()V" } : Jvm.MethodName)) ∈ lw_all := lw_g (lw_at lw_m3 44 rfl) rfl
theorem q653 : (Jvm.Cond.privateMethod ({ cls := "LatestCoat$Text", name := "ends", desc := "()V" } : Jvm.MethodName)) ∈ lw_tbl := lw_at lw_m3 45 rfl
theorem q654 : (Jvm.Cond.instanceMethod ({ cls := "LatestCoat$Text", name := "ends", desc := "()V" } : Jvm.MethodName)) ∈ lw_all := lw_g (lw_at lw_m3 46 rfl) rfl
theorem q655 : (Jvm.Cond.code ({ cls := "LatestCoat$Text", name := "ends", desc := "()V" } : Jvm.MethodName) prog_12_method_13_code (1 : Nat) (Option.none : Option Jvm.ClassFile.FieldType)) ∈ lw_all := lw_g (lw_at lw_m3 47 rfl) rfl
theorem q656 : (Jvm.Cond.methodLink "LatestCoat$Text" (201 : Nat) ({ cls := "LatestCoat$Town", name := "begins", desc := "()V" } : Jvm.MethodName)) ∈ lw_all := lw_g (lw_at lw_m3 48 rfl) rfl
theorem q673 : (Jvm.Cond.instanceMethod ({ cls := "LatestCoat$Text", name := "ruleTold", desc := "()LLatestCoat$Rule;" } : Jvm.MethodName)) ∈ lw_all := lw_g (lw_at lw_m3 65 rfl) rfl
theorem q674 : (Jvm.Cond.selects "LatestCoat$Text" ({ cls := "LatestCoat$Text", name := "ruleTold", desc := "()LLatestCoat$Rule;" } : Jvm.MethodName) ({ cls := "LatestCoat$Text", name := "ruleTold", desc := "()LLatestCoat$Rule;" } : Jvm.MethodName)) ∈ lw_all := lw_g (lw_at lw_m3 66 rfl) rfl
theorem q675 : (Jvm.Cond.code ({ cls := "LatestCoat$Text", name := "ruleTold", desc := "()LLatestCoat$Rule;" } : Jvm.MethodName) prog_12_method_21_code (3 : Nat) (Option.some (Jvm.ClassFile.FieldType.object "LatestCoat$Rule"))) ∈ lw_all := lw_g (lw_at lw_m3 67 rfl) rfl
theorem q676 : (Jvm.Cond.classLink "LatestCoat$Text" (227 : Nat) "LatestCoat$Rule") ∈ lw_all := lw_g (lw_at lw_m3 68 rfl) rfl
theorem q678 : (Jvm.Cond.methodLinkNest "LatestCoat$Text" (229 : Nat) ({ cls := "LatestCoat$Rule", name := "<init>", desc := "()V" } : Jvm.MethodName) "LatestCoat") ∈ lw_tbl := lw_at lw_m3 70 rfl
theorem q685 : (Jvm.Cond.fieldLinkNest "LatestCoat$Text" (233 : Nat) "LatestCoat$Rule" "clauses" "[LLatestCoat$Clause;" "LatestCoat") ∈ lw_tbl := lw_at lw_m3 77 rfl
theorem q687 : (Jvm.Cond.fieldLinkNest "LatestCoat$Text" (237 : Nat) "LatestCoat$Rule" "many" "I" "LatestCoat") ∈ lw_tbl := lw_at lw_m3 79 rfl
theorem q693 : (Jvm.Cond.methodLink "LatestCoat$Text" (238 : Nat) ({ cls := "LatestCoat$Text", name := "clauseHere", desc := "()LLatestCoat$Clause;" } : Jvm.MethodName)) ∈ lw_all := lw_g (lw_at lw_m3 85 rfl) rfl
theorem q694 : (Jvm.Cond.privateMethod ({ cls := "LatestCoat$Text", name := "clauseHere", desc := "()LLatestCoat$Clause;" } : Jvm.MethodName)) ∈ lw_tbl := lw_at lw_m3 86 rfl
theorem q695 : (Jvm.Cond.instanceMethod ({ cls := "LatestCoat$Text", name := "clauseHere", desc := "()LLatestCoat$Clause;" } : Jvm.MethodName)) ∈ lw_all := lw_g (lw_at lw_m3 87 rfl) rfl
theorem q696 : (Jvm.Cond.code ({ cls := "LatestCoat$Text", name := "clauseHere", desc := "()LLatestCoat$Clause;" } : Jvm.MethodName) prog_12_method_20_code (2 : Nat) (Option.some (Jvm.ClassFile.FieldType.object "LatestCoat$Clause"))) ∈ lw_all := lw_g (lw_at lw_m3 88 rfl) rfl
theorem q697 : (Jvm.Cond.classLink "LatestCoat$Text" (204 : Nat) "LatestCoat$Clause") ∈ lw_all := lw_g (lw_at lw_m3 89 rfl) rfl
theorem q699 : (Jvm.Cond.methodLinkNest "LatestCoat$Text" (206 : Nat) ({ cls := "LatestCoat$Clause", name := "<init>", desc := "()V" } : Jvm.MethodName) "LatestCoat") ∈ lw_tbl := lw_at lw_m3 91 rfl
theorem q704 : (Jvm.Cond.fieldLinkNest "LatestCoat$Text" (211 : Nat) "LatestCoat$Clause" "sum" "LLatestCoat$Value;" "LatestCoat") ∈ lw_tbl := lw_at lw_m3 96 rfl
theorem q706 : (Jvm.Cond.fieldLinkNest "LatestCoat$Text" (223 : Nat) "LatestCoat$Clause" "test" "LLatestCoat$Test;" "LatestCoat") ∈ lw_tbl := lw_at lw_m3 98 rfl
theorem q712 : (Jvm.Cond.methodLink "LatestCoat$Text" (207 : Nat) ({ cls := "LatestCoat$Text", name := "sum", desc := "()LLatestCoat$Value;" } : Jvm.MethodName)) ∈ lw_all := lw_g (lw_at lw_m3 104 rfl) rfl
theorem q713 : (Jvm.Cond.privateMethod ({ cls := "LatestCoat$Text", name := "sum", desc := "()LLatestCoat$Value;" } : Jvm.MethodName)) ∈ lw_tbl := lw_at lw_m3 105 rfl
theorem q714 : (Jvm.Cond.instanceMethod ({ cls := "LatestCoat$Text", name := "sum", desc := "()LLatestCoat$Value;" } : Jvm.MethodName)) ∈ lw_all := lw_g (lw_at lw_m3 106 rfl) rfl
theorem q715 : (Jvm.Cond.code ({ cls := "LatestCoat$Text", name := "sum", desc := "()LLatestCoat$Value;" } : Jvm.MethodName) prog_12_method_26_code (3 : Nat) (Option.some (Jvm.ClassFile.FieldType.object "LatestCoat$Value"))) ∈ lw_all := lw_g (lw_at lw_m3 107 rfl) rfl
theorem q716 : (Jvm.Cond.methodLink "LatestCoat$Text" (278 : Nat) ({ cls := "LatestCoat$Text", name := "term", desc := "()LLatestCoat$Value;" } : Jvm.MethodName)) ∈ lw_all := lw_g (lw_at lw_m3 108 rfl) rfl
theorem q717 : (Jvm.Cond.privateMethod ({ cls := "LatestCoat$Text", name := "term", desc := "()LLatestCoat$Value;" } : Jvm.MethodName)) ∈ lw_tbl := lw_at lw_m3 109 rfl
theorem q718 : (Jvm.Cond.instanceMethod ({ cls := "LatestCoat$Text", name := "term", desc := "()LLatestCoat$Value;" } : Jvm.MethodName)) ∈ lw_all := lw_g (lw_at lw_m3 110 rfl) rfl
theorem q719 : (Jvm.Cond.code ({ cls := "LatestCoat$Text", name := "term", desc := "()LLatestCoat$Value;" } : Jvm.MethodName) prog_12_method_27_code (3 : Nat) (Option.some (Jvm.ClassFile.FieldType.object "LatestCoat$Value"))) ∈ lw_all := lw_g (lw_at lw_m3 111 rfl) rfl
theorem q720 : (Jvm.Cond.methodLink "LatestCoat$Text" (284 : Nat) ({ cls := "LatestCoat$Text", name := "value", desc := "()LLatestCoat$Value;" } : Jvm.MethodName)) ∈ lw_all := lw_g (lw_at lw_m3 112 rfl) rfl
theorem q721 : (Jvm.Cond.privateMethod ({ cls := "LatestCoat$Text", name := "value", desc := "()LLatestCoat$Value;" } : Jvm.MethodName)) ∈ lw_tbl := lw_at lw_m3 113 rfl
theorem q722 : (Jvm.Cond.instanceMethod ({ cls := "LatestCoat$Text", name := "value", desc := "()LLatestCoat$Value;" } : Jvm.MethodName)) ∈ lw_all := lw_g (lw_at lw_m3 114 rfl) rfl
theorem q723 : (Jvm.Cond.code ({ cls := "LatestCoat$Text", name := "value", desc := "()LLatestCoat$Value;" } : Jvm.MethodName) prog_12_method_28_code (3 : Nat) (Option.some (Jvm.ClassFile.FieldType.object "LatestCoat$Value"))) ∈ lw_all := lw_g (lw_at lw_m3 115 rfl) rfl
theorem q724 : (Jvm.Cond.constant "LatestCoat$Text" (287 : Nat) (99999 : Int32)) ∈ lw_all := lw_g (lw_at lw_m3 116 rfl) rfl
theorem q725 : (Jvm.Cond.methodLink "LatestCoat$Text" (270 : Nat) ({ cls := "LatestCoat$Text", name := "makes", desc := "(I)V" } : Jvm.MethodName)) ∈ lw_all := lw_g (lw_at lw_m3 117 rfl) rfl
theorem q726 : (Jvm.Cond.privateMethod ({ cls := "LatestCoat$Text", name := "makes", desc := "(I)V" } : Jvm.MethodName)) ∈ lw_tbl := lw_at lw_m3 118 rfl
theorem q727 : (Jvm.Cond.instanceMethod ({ cls := "LatestCoat$Text", name := "makes", desc := "(I)V" } : Jvm.MethodName)) ∈ lw_all := lw_g (lw_at lw_m3 119 rfl) rfl
theorem q728 : (Jvm.Cond.code ({ cls := "LatestCoat$Text", name := "makes", desc := "(I)V" } : Jvm.MethodName) prog_12_method_11_code (2 : Nat) (Option.none : Option Jvm.ClassFile.FieldType)) ∈ lw_all := lw_g (lw_at lw_m3 120 rfl) rfl
theorem q729 : (Jvm.Cond.classLink "LatestCoat$Text" (288 : Nat) "LatestCoat$Number") ∈ lw_all := lw_g (lw_at lw_m3 121 rfl) rfl
theorem q731 : (Jvm.Cond.methodLink "LatestCoat$Text" (290 : Nat) ({ cls := "LatestCoat$Number", name := "<init>", desc := "(J)V" } : Jvm.MethodName)) ∈ lw_all := lw_g (lw_at lw_m3 123 rfl) rfl
theorem q742 : (Jvm.Cond.classLink "LatestCoat$Text" (293 : Nat) "LatestCoat$Word") ∈ lw_all := lw_g (lw_at lw_m3 134 rfl) rfl
theorem q744 : (Jvm.Cond.methodLink "LatestCoat$Text" (295 : Nat) ({ cls := "LatestCoat$Word", name := "<init>", desc := "(I)V" } : Jvm.MethodName)) ∈ lw_all := lw_g (lw_at lw_m3 136 rfl) rfl
theorem q752 : (Jvm.Cond.classLink "LatestCoat$Text" (281 : Nat) "LatestCoat$Pair") ∈ lw_all := lw_g (lw_at lw_m3 144 rfl) rfl
theorem q754 : (Jvm.Cond.methodLink "LatestCoat$Text" (283 : Nat) ({ cls := "LatestCoat$Pair", name := "<init>", desc := "(LLatestCoat$Value;ILLatestCoat$Value;)V" } : Jvm.MethodName)) ∈ lw_all := lw_g (lw_at lw_m3 146 rfl) rfl
theorem q768 : (Jvm.Cond.stringRef "LatestCoat$Text" (214 : Nat) "if") ∈ lw_tbl := lw_at lw_m3 160 rfl
theorem q769 : (Jvm.Cond.methodLink "LatestCoat$Text" (216 : Nat) ({ cls := "LatestCoat$Text", name := "takesWord", desc := "(Ljava/lang/String;)Z" } : Jvm.MethodName)) ∈ lw_all := lw_g (lw_at lw_m3 161 rfl) rfl
theorem q770 : (Jvm.Cond.privateMethod ({ cls := "LatestCoat$Text", name := "takesWord", desc := "(Ljava/lang/String;)Z" } : Jvm.MethodName)) ∈ lw_tbl := lw_at lw_m3 162 rfl
theorem q771 : (Jvm.Cond.instanceMethod ({ cls := "LatestCoat$Text", name := "takesWord", desc := "(Ljava/lang/String;)Z" } : Jvm.MethodName)) ∈ lw_all := lw_g (lw_at lw_m3 163 rfl) rfl
theorem q772 : (Jvm.Cond.code ({ cls := "LatestCoat$Text", name := "takesWord", desc := "(Ljava/lang/String;)Z" } : Jvm.MethodName) prog_12_method_7_code (2 : Nat) (Option.some Jvm.ClassFile.FieldType.boolean)) ∈ lw_all := lw_g (lw_at lw_m3 164 rfl) rfl
theorem q773 : (Jvm.Cond.methodLink "LatestCoat$Text" (219 : Nat) ({ cls := "LatestCoat$Text", name := "tested", desc := "()LLatestCoat$Test;" } : Jvm.MethodName)) ∈ lw_all := lw_g (lw_at lw_m3 165 rfl) rfl
theorem q774 : (Jvm.Cond.privateMethod ({ cls := "LatestCoat$Text", name := "tested", desc := "()LLatestCoat$Test;" } : Jvm.MethodName)) ∈ lw_tbl := lw_at lw_m3 166 rfl
theorem q775 : (Jvm.Cond.instanceMethod ({ cls := "LatestCoat$Text", name := "tested", desc := "()LLatestCoat$Test;" } : Jvm.MethodName)) ∈ lw_all := lw_g (lw_at lw_m3 167 rfl) rfl
theorem q776 : (Jvm.Cond.code ({ cls := "LatestCoat$Text", name := "tested", desc := "()LLatestCoat$Test;" } : Jvm.MethodName) prog_12_method_22_code (2 : Nat) (Option.some (Jvm.ClassFile.FieldType.object "LatestCoat$Test"))) ∈ lw_all := lw_g (lw_at lw_m3 168 rfl) rfl
theorem q777 : (Jvm.Cond.methodLink "LatestCoat$Text" (242 : Nat) ({ cls := "LatestCoat$Text", name := "parted", desc := "()LLatestCoat$Test;" } : Jvm.MethodName)) ∈ lw_all := lw_g (lw_at lw_m3 169 rfl) rfl
theorem q778 : (Jvm.Cond.privateMethod ({ cls := "LatestCoat$Text", name := "parted", desc := "()LLatestCoat$Test;" } : Jvm.MethodName)) ∈ lw_tbl := lw_at lw_m3 170 rfl
theorem q779 : (Jvm.Cond.instanceMethod ({ cls := "LatestCoat$Text", name := "parted", desc := "()LLatestCoat$Test;" } : Jvm.MethodName)) ∈ lw_all := lw_g (lw_at lw_m3 171 rfl) rfl
theorem q780 : (Jvm.Cond.code ({ cls := "LatestCoat$Text", name := "parted", desc := "()LLatestCoat$Test;" } : Jvm.MethodName) prog_12_method_23_code (2 : Nat) (Option.some (Jvm.ClassFile.FieldType.object "LatestCoat$Test"))) ∈ lw_all := lw_g (lw_at lw_m3 172 rfl) rfl
theorem q781 : (Jvm.Cond.methodLink "LatestCoat$Text" (252 : Nat) ({ cls := "LatestCoat$Text", name := "fact", desc := "()LLatestCoat$Test;" } : Jvm.MethodName)) ∈ lw_all := lw_g (lw_at lw_m3 173 rfl) rfl
theorem q782 : (Jvm.Cond.privateMethod ({ cls := "LatestCoat$Text", name := "fact", desc := "()LLatestCoat$Test;" } : Jvm.MethodName)) ∈ lw_tbl := lw_at lw_m3 174 rfl
theorem q783 : (Jvm.Cond.instanceMethod ({ cls := "LatestCoat$Text", name := "fact", desc := "()LLatestCoat$Test;" } : Jvm.MethodName)) ∈ lw_all := lw_g (lw_at lw_m3 175 rfl) rfl
theorem q784 : (Jvm.Cond.code ({ cls := "LatestCoat$Text", name := "fact", desc := "()LLatestCoat$Test;" } : Jvm.MethodName) prog_12_method_24_code (6 : Nat) (Option.some (Jvm.ClassFile.FieldType.object "LatestCoat$Test"))) ∈ lw_all := lw_g (lw_at lw_m3 176 rfl) rfl
theorem q785 : (Jvm.Cond.stringRef "LatestCoat$Text" (257 : Nat) "not") ∈ lw_tbl := lw_at lw_m3 177 rfl
theorem q786 : (Jvm.Cond.methodLink "LatestCoat$Text" (259 : Nat) ({ cls := "LatestCoat$Text", name := "opens", desc := "(I)V" } : Jvm.MethodName)) ∈ lw_all := lw_g (lw_at lw_m3 178 rfl) rfl
theorem q787 : (Jvm.Cond.privateMethod ({ cls := "LatestCoat$Text", name := "opens", desc := "(I)V" } : Jvm.MethodName)) ∈ lw_tbl := lw_at lw_m3 179 rfl
theorem q788 : (Jvm.Cond.instanceMethod ({ cls := "LatestCoat$Text", name := "opens", desc := "(I)V" } : Jvm.MethodName)) ∈ lw_all := lw_g (lw_at lw_m3 180 rfl) rfl
theorem q789 : (Jvm.Cond.code ({ cls := "LatestCoat$Text", name := "opens", desc := "(I)V" } : Jvm.MethodName) prog_12_method_12_code (2 : Nat) (Option.none : Option Jvm.ClassFile.FieldType)) ∈ lw_all := lw_g (lw_at lw_m3 181 rfl) rfl
theorem q790 : (Jvm.Cond.classLink "LatestCoat$Text" (262 : Nat) "LatestCoat$Not") ∈ lw_all := lw_g (lw_at lw_m3 182 rfl) rfl
theorem q792 : (Jvm.Cond.methodLink "LatestCoat$Text" (264 : Nat) ({ cls := "LatestCoat$Not", name := "<init>", desc := "(LLatestCoat$Test;)V" } : Jvm.MethodName)) ∈ lw_all := lw_g (lw_at lw_m3 184 rfl) rfl
theorem q803 : (Jvm.Cond.methodLink "LatestCoat$Text" (267 : Nat) ({ cls := "LatestCoat$Text", name := "sign", desc := "()I" } : Jvm.MethodName)) ∈ lw_all := lw_g (lw_at lw_m3 195 rfl) rfl
theorem q804 : (Jvm.Cond.privateMethod ({ cls := "LatestCoat$Text", name := "sign", desc := "()I" } : Jvm.MethodName)) ∈ lw_tbl := lw_at lw_m3 196 rfl
theorem q805 : (Jvm.Cond.instanceMethod ({ cls := "LatestCoat$Text", name := "sign", desc := "()I" } : Jvm.MethodName)) ∈ lw_all := lw_g (lw_at lw_m3 197 rfl) rfl
theorem q806 : (Jvm.Cond.code ({ cls := "LatestCoat$Text", name := "sign", desc := "()I" } : Jvm.MethodName) prog_12_method_25_code (3 : Nat) (Option.some Jvm.ClassFile.FieldType.int)) ∈ lw_all := lw_g (lw_at lw_m3 198 rfl) rfl
theorem q807 : (Jvm.Cond.classLink "LatestCoat$Text" (273 : Nat) "LatestCoat$Compare") ∈ lw_all := lw_g (lw_at lw_m3 199 rfl) rfl
theorem q809 : (Jvm.Cond.methodLink "LatestCoat$Text" (275 : Nat) ({ cls := "LatestCoat$Compare", name := "<init>", desc := "(LLatestCoat$Value;ILLatestCoat$Value;)V" } : Jvm.MethodName)) ∈ lw_all := lw_g (lw_at lw_m3 201 rfl) rfl
theorem q823 : (Jvm.Cond.stringRef "LatestCoat$Text" (255 : Nat) "and") ∈ lw_tbl := lw_at lw_m3 215 rfl
theorem q824 : (Jvm.Cond.classLink "LatestCoat$Text" (247 : Nat) "LatestCoat$Both") ∈ lw_all := lw_g (lw_at lw_m3 216 rfl) rfl
theorem q826 : (Jvm.Cond.methodLink "LatestCoat$Text" (249 : Nat) ({ cls := "LatestCoat$Both", name := "<init>", desc := "(LLatestCoat$Test;ZLLatestCoat$Test;)V" } : Jvm.MethodName)) ∈ lw_all := lw_g (lw_at lw_m3 218 rfl) rfl
theorem q840 : (Jvm.Cond.stringRef "LatestCoat$Text" (245 : Nat) "or") ∈ lw_tbl := lw_at lw_m3 232 rfl
theorem in_X4 : ∀ w ∈ wsX40, w ∈ lw_all := lw_in wsX40 [515, 517, 519, 521, 523, 525, 527] (by decide +kernel) (by decide +kernel)
/-! LatestCoat$Rule -/
set_option maxRecDepth 100000
def RX5 : String := "LatestCoat$Rule"
def TX5 : u_T := fun k => match k with
  | 0 => ("LatestCoat$Rule", "clauses", "[LLatestCoat$Clause;", true)
  | _ => ("LatestCoat$Rule", "many", "I", false)
def tyX5 : Nat → FieldType := fun k => match k with
  | 0 => .array (.object "LatestCoat$Clause")
  | _ => .int
abbrev wsX50 : List Cond := u_ws RX5 TX5 2
theorem nmX5 : ∀ a, a < 2 → ∀ b, b < 2 → a ≠ b → (TX5 a).2.1 ≠ (TX5 b).2.1 := by decide +kernel
theorem tyX5_ok : ∀ k, k < 2 → parseFieldDescriptor (TX5 k).2.2.1 = some (tyX5 k) := by decide +kernel
abbrev cX5_init : ByteArray := prog_10_method_1_code
def yX5_init : MethodName := ⟨RX5, "<init>", "()V"⟩
def dkwX5_init_0 : List UInt8 := [42, 183, 0, 3, 42, 16, 12, 189, 0, 9, 181, 0, 11, 177]
abbrev dktX5_init_0 : List UInt8 := dkwX5_init_0 ++ []
theorem dksX5_init_0 : cX5_init.data.toList.drop 0 = dktX5_init_0 := by decide +kernel
theorem dX5_init_0 : decode cX5_init 0 = .ok (.aload_n 0, 1) := dk_42 (dk_at dksX5_init_0 0 rfl rfl)
theorem dX5_init_1 : decode cX5_init 1 = .ok (.invokespecial 3, 3) := dk_183 0 3 (dk_at dksX5_init_0 1 rfl rfl)
theorem dX5_init_4 : decode cX5_init 4 = .ok (.aload_n 0, 1) := dk_42 (dk_at dksX5_init_0 4 rfl rfl)
theorem dX5_init_5 : decode cX5_init 5 = .ok (.bipush 12, 2) := dk_16 12 (dk_at dksX5_init_0 5 rfl rfl)
theorem dX5_init_7 : decode cX5_init 7 = .ok (.anewarray 9, 3) := dk_189 0 9 (dk_at dksX5_init_0 7 rfl rfl)
theorem dX5_init_10 : decode cX5_init 10 = .ok (.putfield 11, 3) := dk_181 0 11 (dk_at dksX5_init_0 10 rfl rfl)
theorem dX5_init_13 : decode cX5_init 13 = .ok (.return_, 1) := dk_177 (dk_at dksX5_init_0 13 rfl rfl)
abbrev cX5_summed : ByteArray := prog_10_method_2_code
def yX5_summed : MethodName := ⟨RX5, "summed", "([J)J"⟩
def dkwX5_summed_1 : List UInt8 := [180, 0, 11, 28, 50, 180, 0, 25, 43, 182, 0, 29, 173, 132, 2, 1, 167, 255, 218, 9, 173]
abbrev dktX5_summed_1 : List UInt8 := dkwX5_summed_1 ++ []
def dkwX5_summed_0 : List UInt8 := [3, 61, 28, 42, 180, 0, 17, 162, 0, 36, 42, 180, 0, 11, 28, 50, 43, 182, 0, 21, 153, 0, 17, 42]
abbrev dktX5_summed_0 : List UInt8 := dkwX5_summed_0 ++ dktX5_summed_1
theorem dksX5_summed_0 : cX5_summed.data.toList.drop 0 = dktX5_summed_0 := by decide +kernel
theorem dksX5_summed_1 : cX5_summed.data.toList.drop 24 = dktX5_summed_1 := dk_seg dksX5_summed_0 24 rfl rfl
theorem dX5_summed_0 : decode cX5_summed 0 = .ok (.iconst 0, 1) := dk_3 (dk_at dksX5_summed_0 0 rfl rfl)
theorem dX5_summed_1 : decode cX5_summed 1 = .ok (.istore_n 2, 1) := dk_61 (dk_at dksX5_summed_0 1 rfl rfl)
theorem dX5_summed_2 : decode cX5_summed 2 = .ok (.iload_n 2, 1) := dk_28 (dk_at dksX5_summed_0 2 rfl rfl)
theorem dX5_summed_3 : decode cX5_summed 3 = .ok (.aload_n 0, 1) := dk_42 (dk_at dksX5_summed_0 3 rfl rfl)
theorem dX5_summed_4 : decode cX5_summed 4 = .ok (.getfield 17, 3) := dk_180 0 17 (dk_at dksX5_summed_0 4 rfl rfl)
theorem dX5_summed_7 : decode cX5_summed 7 = .ok (.if_icmp .ge 36, 3) := dk_162 0 36 (dk_at dksX5_summed_0 7 rfl rfl)
theorem dX5_summed_10 : decode cX5_summed 10 = .ok (.aload_n 0, 1) := dk_42 (dk_at dksX5_summed_0 10 rfl rfl)
theorem dX5_summed_11 : decode cX5_summed 11 = .ok (.getfield 11, 3) := dk_180 0 11 (dk_at dksX5_summed_0 11 rfl rfl)
theorem dX5_summed_14 : decode cX5_summed 14 = .ok (.iload_n 2, 1) := dk_28 (dk_at dksX5_summed_0 14 rfl rfl)
theorem dX5_summed_15 : decode cX5_summed 15 = .ok (.aaload, 1) := dk_50 (dk_at dksX5_summed_0 15 rfl rfl)
theorem dX5_summed_16 : decode cX5_summed 16 = .ok (.aload_n 1, 1) := dk_43 (dk_at dksX5_summed_0 16 rfl rfl)
theorem dX5_summed_17 : decode cX5_summed 17 = .ok (.invokevirtual 21, 3) := dk_182 0 21 (dk_at dksX5_summed_0 17 rfl rfl)
theorem dX5_summed_20 : decode cX5_summed 20 = .ok (.ifCond .eq 17, 3) := dk_153 0 17 (dk_at dksX5_summed_0 20 rfl rfl)
theorem dX5_summed_23 : decode cX5_summed 23 = .ok (.aload_n 0, 1) := dk_42 (dk_at dksX5_summed_0 23 rfl rfl)
theorem dX5_summed_24 : decode cX5_summed 24 = .ok (.getfield 11, 3) := dk_180 0 11 (dk_at dksX5_summed_1 0 rfl rfl)
theorem dX5_summed_27 : decode cX5_summed 27 = .ok (.iload_n 2, 1) := dk_28 (dk_at dksX5_summed_1 3 rfl rfl)
theorem dX5_summed_28 : decode cX5_summed 28 = .ok (.aaload, 1) := dk_50 (dk_at dksX5_summed_1 4 rfl rfl)
theorem dX5_summed_29 : decode cX5_summed 29 = .ok (.getfield 25, 3) := dk_180 0 25 (dk_at dksX5_summed_1 5 rfl rfl)
theorem dX5_summed_32 : decode cX5_summed 32 = .ok (.aload_n 1, 1) := dk_43 (dk_at dksX5_summed_1 8 rfl rfl)
theorem dX5_summed_33 : decode cX5_summed 33 = .ok (.invokevirtual 29, 3) := dk_182 0 29 (dk_at dksX5_summed_1 9 rfl rfl)
theorem dX5_summed_36 : decode cX5_summed 36 = .ok (.lreturn, 1) := dk_173 (dk_at dksX5_summed_1 12 rfl rfl)
theorem dX5_summed_37 : decode cX5_summed 37 = .ok (.iinc 2 1, 3) := dk_132 2 1 (dk_at dksX5_summed_1 13 rfl rfl)
theorem dX5_summed_40 : decode cX5_summed 40 = .ok (.goto (-38), 3) := dk_167 255 218 (dk_at dksX5_summed_1 16 rfl rfl)
theorem dX5_summed_43 : decode cX5_summed 43 = .ok (.lconst 0, 1) := dk_9 (dk_at dksX5_summed_1 19 rfl rfl)
theorem dX5_summed_44 : decode cX5_summed 44 = .ok (.lreturn, 1) := dk_173 (dk_at dksX5_summed_1 20 rfl rfl)
theorem q143 : (Jvm.Cond.initialized "LatestCoat$Rule") ∈ lw_all := lw_g (lw_at lw_m1 15 rfl) rfl
theorem q677 : (Jvm.Cond.instantiable "LatestCoat$Rule" (2 : Nat)) ∈ lw_all := lw_g (lw_at lw_m3 69 rfl) rfl
theorem q679 : (Jvm.Cond.instanceMethod ({ cls := "LatestCoat$Rule", name := "<init>", desc := "()V" } : Jvm.MethodName)) ∈ lw_all := lw_g (lw_at lw_m3 71 rfl) rfl
theorem q680 : (Jvm.Cond.code ({ cls := "LatestCoat$Rule", name := "<init>", desc := "()V" } : Jvm.MethodName) prog_10_method_1_code (1 : Nat) (Option.none : Option Jvm.ClassFile.FieldType)) ∈ lw_all := lw_g (lw_at lw_m3 72 rfl) rfl
theorem q681 : (Jvm.Cond.methodLink "LatestCoat$Rule" (3 : Nat) ({ cls := "java/lang/Object", name := "<init>", desc := "()V" } : Jvm.MethodName)) ∈ lw_all := lw_g (lw_at lw_m3 73 rfl) rfl
theorem q682 : (Jvm.Cond.classLink "LatestCoat$Rule" (9 : Nat) "LatestCoat$Clause") ∈ lw_all := lw_g (lw_at lw_m3 74 rfl) rfl
theorem q684 : (Jvm.Cond.fieldLink "LatestCoat$Rule" (11 : Nat) "LatestCoat$Rule" "clauses" "[LLatestCoat$Clause;") ∈ lw_all := lw_g (lw_at lw_m3 76 rfl) rfl
theorem q686 : (Jvm.Cond.fieldLink "LatestCoat$Rule" (17 : Nat) "LatestCoat$Rule" "many" "I") ∈ lw_all := lw_g (lw_at lw_m3 78 rfl) rfl
theorem q688 : (Jvm.Cond.laysFinal "LatestCoat$Rule" "LatestCoat$Rule" "clauses" "[LLatestCoat$Clause;") ∈ lw_all := lw_g (lw_at lw_m3 80 rfl) rfl
theorem q689 : (Jvm.Cond.soleField "LatestCoat$Rule" "clauses") ∈ lw_all := lw_g (lw_at lw_m3 81 rfl) rfl
theorem q690 : (Jvm.Cond.lays "LatestCoat$Rule" "LatestCoat$Rule" "many" "I") ∈ lw_all := lw_g (lw_at lw_m3 82 rfl) rfl
theorem q691 : (Jvm.Cond.soleField "LatestCoat$Rule" "many") ∈ lw_all := lw_g (lw_at lw_m3 83 rfl) rfl
theorem q692 : (Jvm.Cond.superclass "LatestCoat$Rule" "java/lang/Object") ∈ lw_all := lw_g (lw_at lw_m3 84 rfl) rfl
theorem q703 : (Jvm.Cond.fieldLinkNest "LatestCoat$Rule" (25 : Nat) "LatestCoat$Clause" "sum" "LLatestCoat$Value;" "LatestCoat") ∈ lw_tbl := lw_at lw_m3 95 rfl
theorem q971 : (Jvm.Cond.instanceMethod ({ cls := "LatestCoat$Rule", name := "summed", desc := "([J)J" } : Jvm.MethodName)) ∈ lw_all := lw_g (lw_at lw_m4 123 rfl) rfl
theorem q972 : (Jvm.Cond.selects "LatestCoat$Rule" ({ cls := "LatestCoat$Rule", name := "summed", desc := "([J)J" } : Jvm.MethodName) ({ cls := "LatestCoat$Rule", name := "summed", desc := "([J)J" } : Jvm.MethodName)) ∈ lw_all := lw_g (lw_at lw_m4 124 rfl) rfl
theorem q973 : (Jvm.Cond.code ({ cls := "LatestCoat$Rule", name := "summed", desc := "([J)J" } : Jvm.MethodName) prog_10_method_2_code (3 : Nat) (Option.some Jvm.ClassFile.FieldType.long)) ∈ lw_all := lw_g (lw_at lw_m4 125 rfl) rfl
theorem q974 : (Jvm.Cond.methodLink "LatestCoat$Rule" (21 : Nat) ({ cls := "LatestCoat$Clause", name := "fits", desc := "([J)Z" } : Jvm.MethodName)) ∈ lw_all := lw_g (lw_at lw_m4 126 rfl) rfl
theorem q1005 : (Jvm.Cond.methodLink "LatestCoat$Rule" (29 : Nat) ({ cls := "LatestCoat$Value", name := "of", desc := "([J)J" } : Jvm.MethodName)) ∈ lw_all := lw_g (lw_at lw_m4 157 rfl) rfl
theorem in_X5 : ∀ w ∈ wsX50, w ∈ lw_all := lw_in wsX50 [688, 690] (by decide +kernel) (by decide +kernel)
/-! LatestCoat$Clause -/
set_option maxRecDepth 100000
def RX6 : String := "LatestCoat$Clause"
def TX6 : u_T := fun k => match k with
  | 0 => ("LatestCoat$Clause", "sum", "LLatestCoat$Value;", false)
  | _ => ("LatestCoat$Clause", "test", "LLatestCoat$Test;", false)
def tyX6 : Nat → FieldType := fun k => match k with
  | 0 => .object "LatestCoat$Value"
  | _ => .object "LatestCoat$Test"
abbrev wsX60 : List Cond := u_ws RX6 TX6 2
theorem nmX6 : ∀ a, a < 2 → ∀ b, b < 2 → a ≠ b → (TX6 a).2.1 ≠ (TX6 b).2.1 := by decide +kernel
theorem tyX6_ok : ∀ k, k < 2 → parseFieldDescriptor (TX6 k).2.2.1 = some (tyX6 k) := by decide +kernel
abbrev cX6_init : ByteArray := prog_3_method_1_code
def yX6_init : MethodName := ⟨RX6, "<init>", "()V"⟩
theorem dX6_init_0 : decode cX6_init 0 = .ok (.aload_n 0, 1) := by decide +kernel
theorem dX6_init_1 : decode cX6_init 1 = .ok (.invokespecial 1, 3) := by decide +kernel
theorem dX6_init_4 : decode cX6_init 4 = .ok (.return_, 1) := by decide +kernel
abbrev cX6_fits : ByteArray := prog_3_method_2_code
def yX6_fits : MethodName := ⟨RX6, "fits", "([J)Z"⟩
def dkwX6_fits_0 : List UInt8 := [42, 180, 0, 7, 198, 0, 14, 42, 180, 0, 7, 43, 182, 0, 13, 153, 0, 7, 4, 167, 0, 4, 3, 172]
abbrev dktX6_fits_0 : List UInt8 := dkwX6_fits_0 ++ []
theorem dksX6_fits_0 : cX6_fits.data.toList.drop 0 = dktX6_fits_0 := by decide +kernel
theorem dX6_fits_0 : decode cX6_fits 0 = .ok (.aload_n 0, 1) := dk_42 (dk_at dksX6_fits_0 0 rfl rfl)
theorem dX6_fits_1 : decode cX6_fits 1 = .ok (.getfield 7, 3) := dk_180 0 7 (dk_at dksX6_fits_0 1 rfl rfl)
theorem dX6_fits_4 : decode cX6_fits 4 = .ok (.ifnull 14, 3) := dk_198 0 14 (dk_at dksX6_fits_0 4 rfl rfl)
theorem dX6_fits_7 : decode cX6_fits 7 = .ok (.aload_n 0, 1) := dk_42 (dk_at dksX6_fits_0 7 rfl rfl)
theorem dX6_fits_8 : decode cX6_fits 8 = .ok (.getfield 7, 3) := dk_180 0 7 (dk_at dksX6_fits_0 8 rfl rfl)
theorem dX6_fits_11 : decode cX6_fits 11 = .ok (.aload_n 1, 1) := dk_43 (dk_at dksX6_fits_0 11 rfl rfl)
theorem dX6_fits_12 : decode cX6_fits 12 = .ok (.invokevirtual 13, 3) := dk_182 0 13 (dk_at dksX6_fits_0 12 rfl rfl)
theorem dX6_fits_15 : decode cX6_fits 15 = .ok (.ifCond .eq 7, 3) := dk_153 0 7 (dk_at dksX6_fits_0 15 rfl rfl)
theorem dX6_fits_18 : decode cX6_fits 18 = .ok (.iconst 1, 1) := dk_4 (dk_at dksX6_fits_0 18 rfl rfl)
theorem dX6_fits_19 : decode cX6_fits 19 = .ok (.goto 4, 3) := dk_167 0 4 (dk_at dksX6_fits_0 19 rfl rfl)
theorem dX6_fits_22 : decode cX6_fits 22 = .ok (.iconst 0, 1) := dk_3 (dk_at dksX6_fits_0 22 rfl rfl)
theorem dX6_fits_23 : decode cX6_fits 23 = .ok (.ireturn, 1) := dk_172 (dk_at dksX6_fits_0 23 rfl rfl)
theorem q144 : (Jvm.Cond.initialized "LatestCoat$Clause") ∈ lw_all := lw_g (lw_at lw_m1 16 rfl) rfl
theorem q698 : (Jvm.Cond.instantiable "LatestCoat$Clause" (2 : Nat)) ∈ lw_all := lw_g (lw_at lw_m3 90 rfl) rfl
theorem q700 : (Jvm.Cond.instanceMethod ({ cls := "LatestCoat$Clause", name := "<init>", desc := "()V" } : Jvm.MethodName)) ∈ lw_all := lw_g (lw_at lw_m3 92 rfl) rfl
theorem q701 : (Jvm.Cond.code ({ cls := "LatestCoat$Clause", name := "<init>", desc := "()V" } : Jvm.MethodName) prog_3_method_1_code (1 : Nat) (Option.none : Option Jvm.ClassFile.FieldType)) ∈ lw_all := lw_g (lw_at lw_m3 93 rfl) rfl
theorem q702 : (Jvm.Cond.methodLink "LatestCoat$Clause" (1 : Nat) ({ cls := "java/lang/Object", name := "<init>", desc := "()V" } : Jvm.MethodName)) ∈ lw_all := lw_g (lw_at lw_m3 94 rfl) rfl
theorem q705 : (Jvm.Cond.fieldLink "LatestCoat$Clause" (7 : Nat) "LatestCoat$Clause" "test" "LLatestCoat$Test;") ∈ lw_all := lw_g (lw_at lw_m3 97 rfl) rfl
theorem q707 : (Jvm.Cond.lays "LatestCoat$Clause" "LatestCoat$Clause" "sum" "LLatestCoat$Value;") ∈ lw_all := lw_g (lw_at lw_m3 99 rfl) rfl
theorem q708 : (Jvm.Cond.soleField "LatestCoat$Clause" "sum") ∈ lw_all := lw_g (lw_at lw_m3 100 rfl) rfl
theorem q709 : (Jvm.Cond.lays "LatestCoat$Clause" "LatestCoat$Clause" "test" "LLatestCoat$Test;") ∈ lw_all := lw_g (lw_at lw_m3 101 rfl) rfl
theorem q710 : (Jvm.Cond.soleField "LatestCoat$Clause" "test") ∈ lw_all := lw_g (lw_at lw_m3 102 rfl) rfl
theorem q711 : (Jvm.Cond.superclass "LatestCoat$Clause" "java/lang/Object") ∈ lw_all := lw_g (lw_at lw_m3 103 rfl) rfl
theorem q975 : (Jvm.Cond.instanceMethod ({ cls := "LatestCoat$Clause", name := "fits", desc := "([J)Z" } : Jvm.MethodName)) ∈ lw_all := lw_g (lw_at lw_m4 127 rfl) rfl
theorem q976 : (Jvm.Cond.selects "LatestCoat$Clause" ({ cls := "LatestCoat$Clause", name := "fits", desc := "([J)Z" } : Jvm.MethodName) ({ cls := "LatestCoat$Clause", name := "fits", desc := "([J)Z" } : Jvm.MethodName)) ∈ lw_all := lw_g (lw_at lw_m4 128 rfl) rfl
theorem q977 : (Jvm.Cond.code ({ cls := "LatestCoat$Clause", name := "fits", desc := "([J)Z" } : Jvm.MethodName) prog_3_method_2_code (2 : Nat) (Option.some Jvm.ClassFile.FieldType.boolean)) ∈ lw_all := lw_g (lw_at lw_m4 129 rfl) rfl
theorem q978 : (Jvm.Cond.methodLink "LatestCoat$Clause" (13 : Nat) ({ cls := "LatestCoat$Test", name := "is", desc := "([J)Z" } : Jvm.MethodName)) ∈ lw_all := lw_g (lw_at lw_m4 130 rfl) rfl
theorem in_X6 : ∀ w ∈ wsX60, w ∈ lw_all := lw_in wsX60 [707, 709] (by decide +kernel) (by decide +kernel)
/-! LatestCoat$Value -/
set_option maxRecDepth 100000
def RX7 : String := "LatestCoat$Value"
abbrev cX7_init : ByteArray := prog_14_method_1_code
def yX7_init : MethodName := ⟨RX7, "<init>", "()V"⟩
theorem dX7_init_0 : decode cX7_init 0 = .ok (.aload_n 0, 1) := by decide +kernel
theorem dX7_init_1 : decode cX7_init 1 = .ok (.invokespecial 1, 3) := by decide +kernel
theorem dX7_init_4 : decode cX7_init 4 = .ok (.return_, 1) := by decide +kernel
theorem q145 : (Jvm.Cond.initialized "LatestCoat$Value") ∈ lw_all := lw_g (lw_at lw_m1 17 rfl) rfl
theorem q735 : (Jvm.Cond.instanceMethod ({ cls := "LatestCoat$Value", name := "<init>", desc := "()V" } : Jvm.MethodName)) ∈ lw_all := lw_g (lw_at lw_m3 127 rfl) rfl
theorem q736 : (Jvm.Cond.code ({ cls := "LatestCoat$Value", name := "<init>", desc := "()V" } : Jvm.MethodName) prog_14_method_1_code (1 : Nat) (Option.none : Option Jvm.ClassFile.FieldType)) ∈ lw_all := lw_g (lw_at lw_m3 128 rfl) rfl
theorem q737 : (Jvm.Cond.methodLink "LatestCoat$Value" (1 : Nat) ({ cls := "java/lang/Object", name := "<init>", desc := "()V" } : Jvm.MethodName)) ∈ lw_all := lw_g (lw_at lw_m3 129 rfl) rfl
theorem q988 : (Jvm.Cond.declares ({ cls := "LatestCoat$Value", name := "of", desc := "([J)J" } : Jvm.MethodName)) ∈ lw_tbl := lw_at lw_m4 140 rfl
theorem q989 : (Jvm.Cond.sameMethod "LatestCoat$Value" "LatestCoat$Value" "of" "([J)J") ∈ lw_all := lw_g (lw_at lw_m4 141 rfl) rfl
/-! LatestCoat$Number -/
set_option maxRecDepth 100000
def RX8 : String := "LatestCoat$Number"
def TX8 : u_T := fun k => match k with
  | _ => ("LatestCoat$Number", "number", "J", true)
def tyX8 : Nat → FieldType := fun k => match k with
  | _ => .long
abbrev wsX80 : List Cond := u_ws RX8 TX8 1
theorem nmX8 : ∀ a, a < 1 → ∀ b, b < 1 → a ≠ b → (TX8 a).2.1 ≠ (TX8 b).2.1 := by decide +kernel
theorem tyX8_ok : ∀ k, k < 1 → parseFieldDescriptor (TX8 k).2.2.1 = some (tyX8 k) := by decide +kernel
abbrev cX8_init : ByteArray := prog_8_method_1_code
def yX8_init : MethodName := ⟨RX8, "<init>", "(J)V"⟩
def dkwX8_init_0 : List UInt8 := [42, 183, 0, 1, 42, 31, 181, 0, 7, 177]
abbrev dktX8_init_0 : List UInt8 := dkwX8_init_0 ++ []
theorem dksX8_init_0 : cX8_init.data.toList.drop 0 = dktX8_init_0 := by decide +kernel
theorem dX8_init_0 : decode cX8_init 0 = .ok (.aload_n 0, 1) := dk_42 (dk_at dksX8_init_0 0 rfl rfl)
theorem dX8_init_1 : decode cX8_init 1 = .ok (.invokespecial 1, 3) := dk_183 0 1 (dk_at dksX8_init_0 1 rfl rfl)
theorem dX8_init_4 : decode cX8_init 4 = .ok (.aload_n 0, 1) := dk_42 (dk_at dksX8_init_0 4 rfl rfl)
theorem dX8_init_5 : decode cX8_init 5 = .ok (.lload_n 1, 1) := dk_31 (dk_at dksX8_init_0 5 rfl rfl)
theorem dX8_init_6 : decode cX8_init 6 = .ok (.putfield 7, 3) := dk_181 0 7 (dk_at dksX8_init_0 6 rfl rfl)
theorem dX8_init_9 : decode cX8_init 9 = .ok (.return_, 1) := dk_177 (dk_at dksX8_init_0 9 rfl rfl)
abbrev cX8_of : ByteArray := prog_8_method_2_code
def yX8_of : MethodName := ⟨RX8, "of", "([J)J"⟩
theorem dX8_of_0 : decode cX8_of 0 = .ok (.aload_n 0, 1) := by decide +kernel
theorem dX8_of_1 : decode cX8_of 1 = .ok (.getfield 7, 3) := by decide +kernel
theorem dX8_of_4 : decode cX8_of 4 = .ok (.lreturn, 1) := by decide +kernel
theorem q146 : (Jvm.Cond.initialized "LatestCoat$Number") ∈ lw_all := lw_g (lw_at lw_m1 18 rfl) rfl
theorem q730 : (Jvm.Cond.instantiable "LatestCoat$Number" (1 : Nat)) ∈ lw_all := lw_g (lw_at lw_m3 122 rfl) rfl
theorem q732 : (Jvm.Cond.instanceMethod ({ cls := "LatestCoat$Number", name := "<init>", desc := "(J)V" } : Jvm.MethodName)) ∈ lw_all := lw_g (lw_at lw_m3 124 rfl) rfl
theorem q733 : (Jvm.Cond.code ({ cls := "LatestCoat$Number", name := "<init>", desc := "(J)V" } : Jvm.MethodName) prog_8_method_1_code (3 : Nat) (Option.none : Option Jvm.ClassFile.FieldType)) ∈ lw_all := lw_g (lw_at lw_m3 125 rfl) rfl
theorem q734 : (Jvm.Cond.methodLinkNest "LatestCoat$Number" (1 : Nat) ({ cls := "LatestCoat$Value", name := "<init>", desc := "()V" } : Jvm.MethodName) "LatestCoat") ∈ lw_tbl := lw_at lw_m3 126 rfl
theorem q738 : (Jvm.Cond.fieldLink "LatestCoat$Number" (7 : Nat) "LatestCoat$Number" "number" "J") ∈ lw_all := lw_g (lw_at lw_m3 130 rfl) rfl
theorem q739 : (Jvm.Cond.laysFinal "LatestCoat$Number" "LatestCoat$Number" "number" "J") ∈ lw_all := lw_g (lw_at lw_m3 131 rfl) rfl
theorem q740 : (Jvm.Cond.soleField "LatestCoat$Number" "number") ∈ lw_all := lw_g (lw_at lw_m3 132 rfl) rfl
theorem q741 : (Jvm.Cond.superclass "LatestCoat$Number" "LatestCoat$Value") ∈ lw_all := lw_g (lw_at lw_m3 133 rfl) rfl
theorem q990 : (Jvm.Cond.selects "LatestCoat$Number" ({ cls := "LatestCoat$Value", name := "of", desc := "([J)J" } : Jvm.MethodName) ({ cls := "LatestCoat$Number", name := "of", desc := "([J)J" } : Jvm.MethodName)) ∈ lw_all := lw_g (lw_at lw_m4 142 rfl) rfl
theorem q991 : (Jvm.Cond.instanceMethod ({ cls := "LatestCoat$Number", name := "of", desc := "([J)J" } : Jvm.MethodName)) ∈ lw_all := lw_g (lw_at lw_m4 143 rfl) rfl
theorem q992 : (Jvm.Cond.code ({ cls := "LatestCoat$Number", name := "of", desc := "([J)J" } : Jvm.MethodName) prog_8_method_2_code (2 : Nat) (Option.some Jvm.ClassFile.FieldType.long)) ∈ lw_all := lw_g (lw_at lw_m4 144 rfl) rfl
theorem in_X8 : ∀ w ∈ wsX80, w ∈ lw_all := lw_in wsX80 [739] (by decide +kernel) (by decide +kernel)
/-! LatestCoat$Word -/
set_option maxRecDepth 100000
def RX9 : String := "LatestCoat$Word"
def TX9 : u_T := fun k => match k with
  | _ => ("LatestCoat$Word", "word", "I", true)
def tyX9 : Nat → FieldType := fun k => match k with
  | _ => .int
abbrev wsX90 : List Cond := u_ws RX9 TX9 1
theorem nmX9 : ∀ a, a < 1 → ∀ b, b < 1 → a ≠ b → (TX9 a).2.1 ≠ (TX9 b).2.1 := by decide +kernel
theorem tyX9_ok : ∀ k, k < 1 → parseFieldDescriptor (TX9 k).2.2.1 = some (tyX9 k) := by decide +kernel
abbrev cX9_init : ByteArray := prog_15_method_1_code
def yX9_init : MethodName := ⟨RX9, "<init>", "(I)V"⟩
def dkwX9_init_0 : List UInt8 := [42, 183, 0, 1, 42, 27, 181, 0, 7, 177]
abbrev dktX9_init_0 : List UInt8 := dkwX9_init_0 ++ []
theorem dksX9_init_0 : cX9_init.data.toList.drop 0 = dktX9_init_0 := by decide +kernel
theorem dX9_init_0 : decode cX9_init 0 = .ok (.aload_n 0, 1) := dk_42 (dk_at dksX9_init_0 0 rfl rfl)
theorem dX9_init_1 : decode cX9_init 1 = .ok (.invokespecial 1, 3) := dk_183 0 1 (dk_at dksX9_init_0 1 rfl rfl)
theorem dX9_init_4 : decode cX9_init 4 = .ok (.aload_n 0, 1) := dk_42 (dk_at dksX9_init_0 4 rfl rfl)
theorem dX9_init_5 : decode cX9_init 5 = .ok (.iload_n 1, 1) := dk_27 (dk_at dksX9_init_0 5 rfl rfl)
theorem dX9_init_6 : decode cX9_init 6 = .ok (.putfield 7, 3) := dk_181 0 7 (dk_at dksX9_init_0 6 rfl rfl)
theorem dX9_init_9 : decode cX9_init 9 = .ok (.return_, 1) := dk_177 (dk_at dksX9_init_0 9 rfl rfl)
abbrev cX9_of : ByteArray := prog_15_method_2_code
def yX9_of : MethodName := ⟨RX9, "of", "([J)J"⟩
def dkwX9_of_0 : List UInt8 := [43, 42, 180, 0, 7, 47, 173]
abbrev dktX9_of_0 : List UInt8 := dkwX9_of_0 ++ []
theorem dksX9_of_0 : cX9_of.data.toList.drop 0 = dktX9_of_0 := by decide +kernel
theorem dX9_of_0 : decode cX9_of 0 = .ok (.aload_n 1, 1) := dk_43 (dk_at dksX9_of_0 0 rfl rfl)
theorem dX9_of_1 : decode cX9_of 1 = .ok (.aload_n 0, 1) := dk_42 (dk_at dksX9_of_0 1 rfl rfl)
theorem dX9_of_2 : decode cX9_of 2 = .ok (.getfield 7, 3) := dk_180 0 7 (dk_at dksX9_of_0 2 rfl rfl)
theorem dX9_of_5 : decode cX9_of 5 = .ok (.laload, 1) := dk_47 (dk_at dksX9_of_0 5 rfl rfl)
theorem dX9_of_6 : decode cX9_of 6 = .ok (.lreturn, 1) := dk_173 (dk_at dksX9_of_0 6 rfl rfl)
theorem q147 : (Jvm.Cond.initialized "LatestCoat$Word") ∈ lw_all := lw_g (lw_at lw_m1 19 rfl) rfl
theorem q743 : (Jvm.Cond.instantiable "LatestCoat$Word" (1 : Nat)) ∈ lw_all := lw_g (lw_at lw_m3 135 rfl) rfl
theorem q745 : (Jvm.Cond.instanceMethod ({ cls := "LatestCoat$Word", name := "<init>", desc := "(I)V" } : Jvm.MethodName)) ∈ lw_all := lw_g (lw_at lw_m3 137 rfl) rfl
theorem q746 : (Jvm.Cond.code ({ cls := "LatestCoat$Word", name := "<init>", desc := "(I)V" } : Jvm.MethodName) prog_15_method_1_code (2 : Nat) (Option.none : Option Jvm.ClassFile.FieldType)) ∈ lw_all := lw_g (lw_at lw_m3 138 rfl) rfl
theorem q747 : (Jvm.Cond.methodLinkNest "LatestCoat$Word" (1 : Nat) ({ cls := "LatestCoat$Value", name := "<init>", desc := "()V" } : Jvm.MethodName) "LatestCoat") ∈ lw_tbl := lw_at lw_m3 139 rfl
theorem q748 : (Jvm.Cond.fieldLink "LatestCoat$Word" (7 : Nat) "LatestCoat$Word" "word" "I") ∈ lw_all := lw_g (lw_at lw_m3 140 rfl) rfl
theorem q749 : (Jvm.Cond.laysFinal "LatestCoat$Word" "LatestCoat$Word" "word" "I") ∈ lw_all := lw_g (lw_at lw_m3 141 rfl) rfl
theorem q750 : (Jvm.Cond.soleField "LatestCoat$Word" "word") ∈ lw_all := lw_g (lw_at lw_m3 142 rfl) rfl
theorem q751 : (Jvm.Cond.superclass "LatestCoat$Word" "LatestCoat$Value") ∈ lw_all := lw_g (lw_at lw_m3 143 rfl) rfl
theorem q997 : (Jvm.Cond.instanceMethod ({ cls := "LatestCoat$Word", name := "of", desc := "([J)J" } : Jvm.MethodName)) ∈ lw_all := lw_g (lw_at lw_m4 149 rfl) rfl
theorem q998 : (Jvm.Cond.code ({ cls := "LatestCoat$Word", name := "of", desc := "([J)J" } : Jvm.MethodName) prog_15_method_2_code (2 : Nat) (Option.some Jvm.ClassFile.FieldType.long)) ∈ lw_all := lw_g (lw_at lw_m4 150 rfl) rfl
theorem q999 : (Jvm.Cond.selects "LatestCoat$Word" ({ cls := "LatestCoat$Value", name := "of", desc := "([J)J" } : Jvm.MethodName) ({ cls := "LatestCoat$Word", name := "of", desc := "([J)J" } : Jvm.MethodName)) ∈ lw_all := lw_g (lw_at lw_m4 151 rfl) rfl
theorem in_X9 : ∀ w ∈ wsX90, w ∈ lw_all := lw_in wsX90 [749] (by decide +kernel) (by decide +kernel)
/-! LatestCoat$Pair -/
set_option maxRecDepth 100000
def RX10 : String := "LatestCoat$Pair"
def TX10 : u_T := fun k => match k with
  | 0 => ("LatestCoat$Pair", "first", "LLatestCoat$Value;", true)
  | 1 => ("LatestCoat$Pair", "second", "LLatestCoat$Value;", true)
  | _ => ("LatestCoat$Pair", "sign", "I", true)
def tyX10 : Nat → FieldType := fun k => match k with
  | 0 => .object "LatestCoat$Value"
  | 1 => .object "LatestCoat$Value"
  | _ => .int
abbrev wsX100 : List Cond := u_ws RX10 TX10 3
theorem nmX10 : ∀ a, a < 3 → ∀ b, b < 3 → a ≠ b → (TX10 a).2.1 ≠ (TX10 b).2.1 := by decide +kernel
theorem tyX10_ok : ∀ k, k < 3 → parseFieldDescriptor (TX10 k).2.2.1 = some (tyX10 k) := by decide +kernel
abbrev cX10_init : ByteArray := prog_9_method_1_code
def yX10_init : MethodName := ⟨RX10, "<init>", "(LLatestCoat$Value;ILLatestCoat$Value;)V"⟩
def dkwX10_init_0 : List UInt8 := [42, 183, 0, 1, 42, 43, 181, 0, 7, 42, 28, 181, 0, 13, 42, 45, 181, 0, 17, 177]
abbrev dktX10_init_0 : List UInt8 := dkwX10_init_0 ++ []
theorem dksX10_init_0 : cX10_init.data.toList.drop 0 = dktX10_init_0 := by decide +kernel
theorem dX10_init_0 : decode cX10_init 0 = .ok (.aload_n 0, 1) := dk_42 (dk_at dksX10_init_0 0 rfl rfl)
theorem dX10_init_1 : decode cX10_init 1 = .ok (.invokespecial 1, 3) := dk_183 0 1 (dk_at dksX10_init_0 1 rfl rfl)
theorem dX10_init_4 : decode cX10_init 4 = .ok (.aload_n 0, 1) := dk_42 (dk_at dksX10_init_0 4 rfl rfl)
theorem dX10_init_5 : decode cX10_init 5 = .ok (.aload_n 1, 1) := dk_43 (dk_at dksX10_init_0 5 rfl rfl)
theorem dX10_init_6 : decode cX10_init 6 = .ok (.putfield 7, 3) := dk_181 0 7 (dk_at dksX10_init_0 6 rfl rfl)
theorem dX10_init_9 : decode cX10_init 9 = .ok (.aload_n 0, 1) := dk_42 (dk_at dksX10_init_0 9 rfl rfl)
theorem dX10_init_10 : decode cX10_init 10 = .ok (.iload_n 2, 1) := dk_28 (dk_at dksX10_init_0 10 rfl rfl)
theorem dX10_init_11 : decode cX10_init 11 = .ok (.putfield 13, 3) := dk_181 0 13 (dk_at dksX10_init_0 11 rfl rfl)
theorem dX10_init_14 : decode cX10_init 14 = .ok (.aload_n 0, 1) := dk_42 (dk_at dksX10_init_0 14 rfl rfl)
theorem dX10_init_15 : decode cX10_init 15 = .ok (.aload_n 3, 1) := dk_45 (dk_at dksX10_init_0 15 rfl rfl)
theorem dX10_init_16 : decode cX10_init 16 = .ok (.putfield 17, 3) := dk_181 0 17 (dk_at dksX10_init_0 16 rfl rfl)
theorem dX10_init_19 : decode cX10_init 19 = .ok (.return_, 1) := dk_177 (dk_at dksX10_init_0 19 rfl rfl)
abbrev cX10_of : ByteArray := prog_9_method_2_code
def yX10_of : MethodName := ⟨RX10, "of", "([J)J"⟩
def dkwX10_of_3 : List UInt8 := [167, 0, 7, 32, 22, 4, 113, 173, 22, 4, 9, 148, 154, 0, 7, 9, 167, 0, 7, 32, 22, 4, 109, 173]
abbrev dktX10_of_3 : List UInt8 := dkwX10_of_3 ++ []
def dkwX10_of_2 : List UInt8 := [32, 22, 4, 97, 173, 32, 22, 4, 101, 173, 32, 22, 4, 105, 173, 22, 4, 9, 148, 154, 0, 7, 9]
abbrev dktX10_of_2 : List UInt8 := dkwX10_of_2 ++ dktX10_of_3
def dkwX10_of_1 : List UInt8 := [170, 0, 0, 0, 80, 0, 0, 0, 37, 0, 0, 0, 45, 0, 0, 0, 64, 0, 0, 0, 80, 0, 0, 0, 80, 0, 0, 0, 80, 0, 0, 0, 80, 0, 0, 0, 59, 0, 0, 0, 49, 0, 0, 0, 80, 0, 0, 0, 54]
abbrev dktX10_of_1 : List UInt8 := dkwX10_of_1 ++ dktX10_of_2
def dkwX10_of_0 : List UInt8 := [42, 180, 0, 7, 43, 182, 0, 20, 65, 42, 180, 0, 17, 43, 182, 0, 20, 55, 4, 42, 180, 0, 13]
abbrev dktX10_of_0 : List UInt8 := dkwX10_of_0 ++ dktX10_of_1
theorem dksX10_of_0 : cX10_of.data.toList.drop 0 = dktX10_of_0 := by decide +kernel
theorem dksX10_of_1 : cX10_of.data.toList.drop 23 = dktX10_of_1 := dk_seg dksX10_of_0 23 rfl rfl
theorem dksX10_of_2 : cX10_of.data.toList.drop 72 = dktX10_of_2 := dk_seg dksX10_of_1 49 rfl rfl
theorem dksX10_of_3 : cX10_of.data.toList.drop 95 = dktX10_of_3 := dk_seg dksX10_of_2 23 rfl rfl
theorem dX10_of_0 : decode cX10_of 0 = .ok (.aload_n 0, 1) := dk_42 (dk_at dksX10_of_0 0 rfl rfl)
theorem dX10_of_1 : decode cX10_of 1 = .ok (.getfield 7, 3) := dk_180 0 7 (dk_at dksX10_of_0 1 rfl rfl)
theorem dX10_of_4 : decode cX10_of 4 = .ok (.aload_n 1, 1) := dk_43 (dk_at dksX10_of_0 4 rfl rfl)
theorem dX10_of_5 : decode cX10_of 5 = .ok (.invokevirtual 20, 3) := dk_182 0 20 (dk_at dksX10_of_0 5 rfl rfl)
theorem dX10_of_8 : decode cX10_of 8 = .ok (.lstore_n 2, 1) := dk_65 (dk_at dksX10_of_0 8 rfl rfl)
theorem dX10_of_9 : decode cX10_of 9 = .ok (.aload_n 0, 1) := dk_42 (dk_at dksX10_of_0 9 rfl rfl)
theorem dX10_of_10 : decode cX10_of 10 = .ok (.getfield 17, 3) := dk_180 0 17 (dk_at dksX10_of_0 10 rfl rfl)
theorem dX10_of_13 : decode cX10_of 13 = .ok (.aload_n 1, 1) := dk_43 (dk_at dksX10_of_0 13 rfl rfl)
theorem dX10_of_14 : decode cX10_of 14 = .ok (.invokevirtual 20, 3) := dk_182 0 20 (dk_at dksX10_of_0 14 rfl rfl)
theorem dX10_of_17 : decode cX10_of 17 = .ok (.lstore 4, 2) := dk_55 4 (dk_at dksX10_of_0 17 rfl rfl)
theorem dX10_of_19 : decode cX10_of 19 = .ok (.aload_n 0, 1) := dk_42 (dk_at dksX10_of_0 19 rfl rfl)
theorem dX10_of_20 : decode cX10_of 20 = .ok (.getfield 13, 3) := dk_180 0 13 (dk_at dksX10_of_0 20 rfl rfl)
theorem dX10_of_23 : decode cX10_of 23 = .ok (.tableswitch 80 37 45 #[64, 80, 80, 80, 80, 59, 49, 80, 54], 49) := by decide +kernel
theorem dX10_of_72 : decode cX10_of 72 = .ok (.lload_n 2, 1) := dk_32 (dk_at dksX10_of_2 0 rfl rfl)
theorem dX10_of_73 : decode cX10_of 73 = .ok (.lload 4, 2) := dk_22 4 (dk_at dksX10_of_2 1 rfl rfl)
theorem dX10_of_75 : decode cX10_of 75 = .ok (.ladd, 1) := dk_97 (dk_at dksX10_of_2 3 rfl rfl)
theorem dX10_of_76 : decode cX10_of 76 = .ok (.lreturn, 1) := dk_173 (dk_at dksX10_of_2 4 rfl rfl)
theorem dX10_of_77 : decode cX10_of 77 = .ok (.lload_n 2, 1) := dk_32 (dk_at dksX10_of_2 5 rfl rfl)
theorem dX10_of_78 : decode cX10_of 78 = .ok (.lload 4, 2) := dk_22 4 (dk_at dksX10_of_2 6 rfl rfl)
theorem dX10_of_80 : decode cX10_of 80 = .ok (.lsub, 1) := dk_101 (dk_at dksX10_of_2 8 rfl rfl)
theorem dX10_of_81 : decode cX10_of 81 = .ok (.lreturn, 1) := dk_173 (dk_at dksX10_of_2 9 rfl rfl)
theorem dX10_of_82 : decode cX10_of 82 = .ok (.lload_n 2, 1) := dk_32 (dk_at dksX10_of_2 10 rfl rfl)
theorem dX10_of_83 : decode cX10_of 83 = .ok (.lload 4, 2) := dk_22 4 (dk_at dksX10_of_2 11 rfl rfl)
theorem dX10_of_85 : decode cX10_of 85 = .ok (.lmul, 1) := dk_105 (dk_at dksX10_of_2 13 rfl rfl)
theorem dX10_of_86 : decode cX10_of 86 = .ok (.lreturn, 1) := dk_173 (dk_at dksX10_of_2 14 rfl rfl)
theorem dX10_of_87 : decode cX10_of 87 = .ok (.lload 4, 2) := dk_22 4 (dk_at dksX10_of_2 15 rfl rfl)
theorem dX10_of_89 : decode cX10_of 89 = .ok (.lconst 0, 1) := dk_9 (dk_at dksX10_of_2 17 rfl rfl)
theorem dX10_of_90 : decode cX10_of 90 = .ok (.lcmp, 1) := dk_148 (dk_at dksX10_of_2 18 rfl rfl)
theorem dX10_of_91 : decode cX10_of 91 = .ok (.ifCond .ne 7, 3) := dk_154 0 7 (dk_at dksX10_of_2 19 rfl rfl)
theorem dX10_of_94 : decode cX10_of 94 = .ok (.lconst 0, 1) := dk_9 (dk_at dksX10_of_2 22 rfl rfl)
theorem dX10_of_95 : decode cX10_of 95 = .ok (.goto 7, 3) := dk_167 0 7 (dk_at dksX10_of_3 0 rfl rfl)
theorem dX10_of_98 : decode cX10_of 98 = .ok (.lload_n 2, 1) := dk_32 (dk_at dksX10_of_3 3 rfl rfl)
theorem dX10_of_99 : decode cX10_of 99 = .ok (.lload 4, 2) := dk_22 4 (dk_at dksX10_of_3 4 rfl rfl)
theorem dX10_of_101 : decode cX10_of 101 = .ok (.lrem, 1) := dk_113 (dk_at dksX10_of_3 6 rfl rfl)
theorem dX10_of_102 : decode cX10_of 102 = .ok (.lreturn, 1) := dk_173 (dk_at dksX10_of_3 7 rfl rfl)
theorem dX10_of_103 : decode cX10_of 103 = .ok (.lload 4, 2) := dk_22 4 (dk_at dksX10_of_3 8 rfl rfl)
theorem dX10_of_105 : decode cX10_of 105 = .ok (.lconst 0, 1) := dk_9 (dk_at dksX10_of_3 10 rfl rfl)
theorem dX10_of_106 : decode cX10_of 106 = .ok (.lcmp, 1) := dk_148 (dk_at dksX10_of_3 11 rfl rfl)
theorem dX10_of_107 : decode cX10_of 107 = .ok (.ifCond .ne 7, 3) := dk_154 0 7 (dk_at dksX10_of_3 12 rfl rfl)
theorem dX10_of_110 : decode cX10_of 110 = .ok (.lconst 0, 1) := dk_9 (dk_at dksX10_of_3 15 rfl rfl)
theorem dX10_of_111 : decode cX10_of 111 = .ok (.goto 7, 3) := dk_167 0 7 (dk_at dksX10_of_3 16 rfl rfl)
theorem dX10_of_114 : decode cX10_of 114 = .ok (.lload_n 2, 1) := dk_32 (dk_at dksX10_of_3 19 rfl rfl)
theorem dX10_of_115 : decode cX10_of 115 = .ok (.lload 4, 2) := dk_22 4 (dk_at dksX10_of_3 20 rfl rfl)
theorem dX10_of_117 : decode cX10_of 117 = .ok (.ldiv, 1) := dk_109 (dk_at dksX10_of_3 22 rfl rfl)
theorem dX10_of_118 : decode cX10_of 118 = .ok (.lreturn, 1) := dk_173 (dk_at dksX10_of_3 23 rfl rfl)
theorem q148 : (Jvm.Cond.initialized "LatestCoat$Pair") ∈ lw_all := lw_g (lw_at lw_m1 20 rfl) rfl
theorem q753 : (Jvm.Cond.instantiable "LatestCoat$Pair" (3 : Nat)) ∈ lw_all := lw_g (lw_at lw_m3 145 rfl) rfl
theorem q755 : (Jvm.Cond.instanceMethod ({ cls := "LatestCoat$Pair", name := "<init>", desc := "(LLatestCoat$Value;ILLatestCoat$Value;)V" } : Jvm.MethodName)) ∈ lw_all := lw_g (lw_at lw_m3 147 rfl) rfl
theorem q756 : (Jvm.Cond.code ({ cls := "LatestCoat$Pair", name := "<init>", desc := "(LLatestCoat$Value;ILLatestCoat$Value;)V" } : Jvm.MethodName) prog_9_method_1_code (4 : Nat) (Option.none : Option Jvm.ClassFile.FieldType)) ∈ lw_all := lw_g (lw_at lw_m3 148 rfl) rfl
theorem q757 : (Jvm.Cond.methodLinkNest "LatestCoat$Pair" (1 : Nat) ({ cls := "LatestCoat$Value", name := "<init>", desc := "()V" } : Jvm.MethodName) "LatestCoat") ∈ lw_tbl := lw_at lw_m3 149 rfl
theorem q758 : (Jvm.Cond.fieldLink "LatestCoat$Pair" (7 : Nat) "LatestCoat$Pair" "first" "LLatestCoat$Value;") ∈ lw_all := lw_g (lw_at lw_m3 150 rfl) rfl
theorem q759 : (Jvm.Cond.fieldLink "LatestCoat$Pair" (17 : Nat) "LatestCoat$Pair" "second" "LLatestCoat$Value;") ∈ lw_all := lw_g (lw_at lw_m3 151 rfl) rfl
theorem q760 : (Jvm.Cond.fieldLink "LatestCoat$Pair" (13 : Nat) "LatestCoat$Pair" "sign" "I") ∈ lw_all := lw_g (lw_at lw_m3 152 rfl) rfl
theorem q761 : (Jvm.Cond.laysFinal "LatestCoat$Pair" "LatestCoat$Pair" "first" "LLatestCoat$Value;") ∈ lw_all := lw_g (lw_at lw_m3 153 rfl) rfl
theorem q762 : (Jvm.Cond.soleField "LatestCoat$Pair" "first") ∈ lw_all := lw_g (lw_at lw_m3 154 rfl) rfl
theorem q763 : (Jvm.Cond.laysFinal "LatestCoat$Pair" "LatestCoat$Pair" "second" "LLatestCoat$Value;") ∈ lw_all := lw_g (lw_at lw_m3 155 rfl) rfl
theorem q764 : (Jvm.Cond.soleField "LatestCoat$Pair" "second") ∈ lw_all := lw_g (lw_at lw_m3 156 rfl) rfl
theorem q765 : (Jvm.Cond.laysFinal "LatestCoat$Pair" "LatestCoat$Pair" "sign" "I") ∈ lw_all := lw_g (lw_at lw_m3 157 rfl) rfl
theorem q766 : (Jvm.Cond.soleField "LatestCoat$Pair" "sign") ∈ lw_all := lw_g (lw_at lw_m3 158 rfl) rfl
theorem q767 : (Jvm.Cond.superclass "LatestCoat$Pair" "LatestCoat$Value") ∈ lw_all := lw_g (lw_at lw_m3 159 rfl) rfl
theorem q993 : (Jvm.Cond.selects "LatestCoat$Pair" ({ cls := "LatestCoat$Value", name := "of", desc := "([J)J" } : Jvm.MethodName) ({ cls := "LatestCoat$Pair", name := "of", desc := "([J)J" } : Jvm.MethodName)) ∈ lw_all := lw_g (lw_at lw_m4 145 rfl) rfl
theorem q994 : (Jvm.Cond.instanceMethod ({ cls := "LatestCoat$Pair", name := "of", desc := "([J)J" } : Jvm.MethodName)) ∈ lw_all := lw_g (lw_at lw_m4 146 rfl) rfl
theorem q995 : (Jvm.Cond.code ({ cls := "LatestCoat$Pair", name := "of", desc := "([J)J" } : Jvm.MethodName) prog_9_method_2_code (6 : Nat) (Option.some Jvm.ClassFile.FieldType.long)) ∈ lw_all := lw_g (lw_at lw_m4 147 rfl) rfl
theorem q996 : (Jvm.Cond.methodLink "LatestCoat$Pair" (20 : Nat) ({ cls := "LatestCoat$Value", name := "of", desc := "([J)J" } : Jvm.MethodName)) ∈ lw_all := lw_g (lw_at lw_m4 148 rfl) rfl
theorem in_X10 : ∀ w ∈ wsX100, w ∈ lw_all := lw_in wsX100 [761, 763, 765] (by decide +kernel) (by decide +kernel)
/-! LatestCoat$Test -/
set_option maxRecDepth 100000
def RX11 : String := "LatestCoat$Test"
abbrev cX11_init : ByteArray := prog_11_method_1_code
def yX11_init : MethodName := ⟨RX11, "<init>", "()V"⟩
theorem dX11_init_0 : decode cX11_init 0 = .ok (.aload_n 0, 1) := by decide +kernel
theorem dX11_init_1 : decode cX11_init 1 = .ok (.invokespecial 1, 3) := by decide +kernel
theorem dX11_init_4 : decode cX11_init 4 = .ok (.return_, 1) := by decide +kernel
theorem q149 : (Jvm.Cond.initialized "LatestCoat$Test") ∈ lw_all := lw_g (lw_at lw_m1 21 rfl) rfl
theorem q796 : (Jvm.Cond.instanceMethod ({ cls := "LatestCoat$Test", name := "<init>", desc := "()V" } : Jvm.MethodName)) ∈ lw_all := lw_g (lw_at lw_m3 188 rfl) rfl
theorem q797 : (Jvm.Cond.code ({ cls := "LatestCoat$Test", name := "<init>", desc := "()V" } : Jvm.MethodName) prog_11_method_1_code (1 : Nat) (Option.none : Option Jvm.ClassFile.FieldType)) ∈ lw_all := lw_g (lw_at lw_m3 189 rfl) rfl
theorem q798 : (Jvm.Cond.methodLink "LatestCoat$Test" (1 : Nat) ({ cls := "java/lang/Object", name := "<init>", desc := "()V" } : Jvm.MethodName)) ∈ lw_all := lw_g (lw_at lw_m3 190 rfl) rfl
theorem q979 : (Jvm.Cond.declares ({ cls := "LatestCoat$Test", name := "is", desc := "([J)Z" } : Jvm.MethodName)) ∈ lw_tbl := lw_at lw_m4 131 rfl
theorem q980 : (Jvm.Cond.sameMethod "LatestCoat$Test" "LatestCoat$Test" "is" "([J)Z") ∈ lw_all := lw_g (lw_at lw_m4 132 rfl) rfl
/-! LatestCoat$Not -/
set_option maxRecDepth 100000
def RX12 : String := "LatestCoat$Not"
def TX12 : u_T := fun k => match k with
  | _ => ("LatestCoat$Not", "test", "LLatestCoat$Test;", true)
def tyX12 : Nat → FieldType := fun k => match k with
  | _ => .object "LatestCoat$Test"
abbrev wsX120 : List Cond := u_ws RX12 TX12 1
theorem nmX12 : ∀ a, a < 1 → ∀ b, b < 1 → a ≠ b → (TX12 a).2.1 ≠ (TX12 b).2.1 := by decide +kernel
theorem tyX12_ok : ∀ k, k < 1 → parseFieldDescriptor (TX12 k).2.2.1 = some (tyX12 k) := by decide +kernel
abbrev cX12_init : ByteArray := prog_7_method_1_code
def yX12_init : MethodName := ⟨RX12, "<init>", "(LLatestCoat$Test;)V"⟩
def dkwX12_init_0 : List UInt8 := [42, 183, 0, 1, 42, 43, 181, 0, 7, 177]
abbrev dktX12_init_0 : List UInt8 := dkwX12_init_0 ++ []
theorem dksX12_init_0 : cX12_init.data.toList.drop 0 = dktX12_init_0 := by decide +kernel
theorem dX12_init_0 : decode cX12_init 0 = .ok (.aload_n 0, 1) := dk_42 (dk_at dksX12_init_0 0 rfl rfl)
theorem dX12_init_1 : decode cX12_init 1 = .ok (.invokespecial 1, 3) := dk_183 0 1 (dk_at dksX12_init_0 1 rfl rfl)
theorem dX12_init_4 : decode cX12_init 4 = .ok (.aload_n 0, 1) := dk_42 (dk_at dksX12_init_0 4 rfl rfl)
theorem dX12_init_5 : decode cX12_init 5 = .ok (.aload_n 1, 1) := dk_43 (dk_at dksX12_init_0 5 rfl rfl)
theorem dX12_init_6 : decode cX12_init 6 = .ok (.putfield 7, 3) := dk_181 0 7 (dk_at dksX12_init_0 6 rfl rfl)
theorem dX12_init_9 : decode cX12_init 9 = .ok (.return_, 1) := dk_177 (dk_at dksX12_init_0 9 rfl rfl)
abbrev cX12_is : ByteArray := prog_7_method_2_code
def yX12_is : MethodName := ⟨RX12, "is", "([J)Z"⟩
def dkwX12_is_0 : List UInt8 := [42, 180, 0, 7, 43, 182, 0, 13, 154, 0, 7, 4, 167, 0, 4, 3, 172]
abbrev dktX12_is_0 : List UInt8 := dkwX12_is_0 ++ []
theorem dksX12_is_0 : cX12_is.data.toList.drop 0 = dktX12_is_0 := by decide +kernel
theorem dX12_is_0 : decode cX12_is 0 = .ok (.aload_n 0, 1) := dk_42 (dk_at dksX12_is_0 0 rfl rfl)
theorem dX12_is_1 : decode cX12_is 1 = .ok (.getfield 7, 3) := dk_180 0 7 (dk_at dksX12_is_0 1 rfl rfl)
theorem dX12_is_4 : decode cX12_is 4 = .ok (.aload_n 1, 1) := dk_43 (dk_at dksX12_is_0 4 rfl rfl)
theorem dX12_is_5 : decode cX12_is 5 = .ok (.invokevirtual 13, 3) := dk_182 0 13 (dk_at dksX12_is_0 5 rfl rfl)
theorem dX12_is_8 : decode cX12_is 8 = .ok (.ifCond .ne 7, 3) := dk_154 0 7 (dk_at dksX12_is_0 8 rfl rfl)
theorem dX12_is_11 : decode cX12_is 11 = .ok (.iconst 1, 1) := dk_4 (dk_at dksX12_is_0 11 rfl rfl)
theorem dX12_is_12 : decode cX12_is 12 = .ok (.goto 4, 3) := dk_167 0 4 (dk_at dksX12_is_0 12 rfl rfl)
theorem dX12_is_15 : decode cX12_is 15 = .ok (.iconst 0, 1) := dk_3 (dk_at dksX12_is_0 15 rfl rfl)
theorem dX12_is_16 : decode cX12_is 16 = .ok (.ireturn, 1) := dk_172 (dk_at dksX12_is_0 16 rfl rfl)
theorem q150 : (Jvm.Cond.initialized "LatestCoat$Not") ∈ lw_all := lw_g (lw_at lw_m1 22 rfl) rfl
theorem q791 : (Jvm.Cond.instantiable "LatestCoat$Not" (1 : Nat)) ∈ lw_all := lw_g (lw_at lw_m3 183 rfl) rfl
theorem q793 : (Jvm.Cond.instanceMethod ({ cls := "LatestCoat$Not", name := "<init>", desc := "(LLatestCoat$Test;)V" } : Jvm.MethodName)) ∈ lw_all := lw_g (lw_at lw_m3 185 rfl) rfl
theorem q794 : (Jvm.Cond.code ({ cls := "LatestCoat$Not", name := "<init>", desc := "(LLatestCoat$Test;)V" } : Jvm.MethodName) prog_7_method_1_code (2 : Nat) (Option.none : Option Jvm.ClassFile.FieldType)) ∈ lw_all := lw_g (lw_at lw_m3 186 rfl) rfl
theorem q795 : (Jvm.Cond.methodLinkNest "LatestCoat$Not" (1 : Nat) ({ cls := "LatestCoat$Test", name := "<init>", desc := "()V" } : Jvm.MethodName) "LatestCoat") ∈ lw_tbl := lw_at lw_m3 187 rfl
theorem q799 : (Jvm.Cond.fieldLink "LatestCoat$Not" (7 : Nat) "LatestCoat$Not" "test" "LLatestCoat$Test;") ∈ lw_all := lw_g (lw_at lw_m3 191 rfl) rfl
theorem q800 : (Jvm.Cond.laysFinal "LatestCoat$Not" "LatestCoat$Not" "test" "LLatestCoat$Test;") ∈ lw_all := lw_g (lw_at lw_m3 192 rfl) rfl
theorem q801 : (Jvm.Cond.soleField "LatestCoat$Not" "test") ∈ lw_all := lw_g (lw_at lw_m3 193 rfl) rfl
theorem q802 : (Jvm.Cond.superclass "LatestCoat$Not" "LatestCoat$Test") ∈ lw_all := lw_g (lw_at lw_m3 194 rfl) rfl
theorem q1000 : (Jvm.Cond.instanceMethod ({ cls := "LatestCoat$Not", name := "is", desc := "([J)Z" } : Jvm.MethodName)) ∈ lw_all := lw_g (lw_at lw_m4 152 rfl) rfl
theorem q1001 : (Jvm.Cond.code ({ cls := "LatestCoat$Not", name := "is", desc := "([J)Z" } : Jvm.MethodName) prog_7_method_2_code (2 : Nat) (Option.some Jvm.ClassFile.FieldType.boolean)) ∈ lw_all := lw_g (lw_at lw_m4 153 rfl) rfl
theorem q1002 : (Jvm.Cond.methodLink "LatestCoat$Not" (13 : Nat) ({ cls := "LatestCoat$Test", name := "is", desc := "([J)Z" } : Jvm.MethodName)) ∈ lw_all := lw_g (lw_at lw_m4 154 rfl) rfl
theorem q1004 : (Jvm.Cond.selects "LatestCoat$Not" ({ cls := "LatestCoat$Test", name := "is", desc := "([J)Z" } : Jvm.MethodName) ({ cls := "LatestCoat$Not", name := "is", desc := "([J)Z" } : Jvm.MethodName)) ∈ lw_all := lw_g (lw_at lw_m4 156 rfl) rfl
theorem in_X12 : ∀ w ∈ wsX120, w ∈ lw_all := lw_in wsX120 [800] (by decide +kernel) (by decide +kernel)
/-! LatestCoat$Compare -/
set_option maxRecDepth 100000
def RX13 : String := "LatestCoat$Compare"
def TX13 : u_T := fun k => match k with
  | 0 => ("LatestCoat$Compare", "first", "LLatestCoat$Value;", true)
  | 1 => ("LatestCoat$Compare", "second", "LLatestCoat$Value;", true)
  | _ => ("LatestCoat$Compare", "sign", "I", true)
def tyX13 : Nat → FieldType := fun k => match k with
  | 0 => .object "LatestCoat$Value"
  | 1 => .object "LatestCoat$Value"
  | _ => .int
abbrev wsX130 : List Cond := u_ws RX13 TX13 3
theorem nmX13 : ∀ a, a < 3 → ∀ b, b < 3 → a ≠ b → (TX13 a).2.1 ≠ (TX13 b).2.1 := by decide +kernel
theorem tyX13_ok : ∀ k, k < 3 → parseFieldDescriptor (TX13 k).2.2.1 = some (tyX13 k) := by decide +kernel
abbrev cX13_init : ByteArray := prog_4_method_1_code
def yX13_init : MethodName := ⟨RX13, "<init>", "(LLatestCoat$Value;ILLatestCoat$Value;)V"⟩
def dkwX13_init_0 : List UInt8 := [42, 183, 0, 1, 42, 43, 181, 0, 7, 42, 28, 181, 0, 13, 42, 45, 181, 0, 17, 177]
abbrev dktX13_init_0 : List UInt8 := dkwX13_init_0 ++ []
theorem dksX13_init_0 : cX13_init.data.toList.drop 0 = dktX13_init_0 := by decide +kernel
theorem dX13_init_0 : decode cX13_init 0 = .ok (.aload_n 0, 1) := dk_42 (dk_at dksX13_init_0 0 rfl rfl)
theorem dX13_init_1 : decode cX13_init 1 = .ok (.invokespecial 1, 3) := dk_183 0 1 (dk_at dksX13_init_0 1 rfl rfl)
theorem dX13_init_4 : decode cX13_init 4 = .ok (.aload_n 0, 1) := dk_42 (dk_at dksX13_init_0 4 rfl rfl)
theorem dX13_init_5 : decode cX13_init 5 = .ok (.aload_n 1, 1) := dk_43 (dk_at dksX13_init_0 5 rfl rfl)
theorem dX13_init_6 : decode cX13_init 6 = .ok (.putfield 7, 3) := dk_181 0 7 (dk_at dksX13_init_0 6 rfl rfl)
theorem dX13_init_9 : decode cX13_init 9 = .ok (.aload_n 0, 1) := dk_42 (dk_at dksX13_init_0 9 rfl rfl)
theorem dX13_init_10 : decode cX13_init 10 = .ok (.iload_n 2, 1) := dk_28 (dk_at dksX13_init_0 10 rfl rfl)
theorem dX13_init_11 : decode cX13_init 11 = .ok (.putfield 13, 3) := dk_181 0 13 (dk_at dksX13_init_0 11 rfl rfl)
theorem dX13_init_14 : decode cX13_init 14 = .ok (.aload_n 0, 1) := dk_42 (dk_at dksX13_init_0 14 rfl rfl)
theorem dX13_init_15 : decode cX13_init 15 = .ok (.aload_n 3, 1) := dk_45 (dk_at dksX13_init_0 15 rfl rfl)
theorem dX13_init_16 : decode cX13_init 16 = .ok (.putfield 17, 3) := dk_181 0 17 (dk_at dksX13_init_0 16 rfl rfl)
theorem dX13_init_19 : decode cX13_init 19 = .ok (.return_, 1) := dk_177 (dk_at dksX13_init_0 19 rfl rfl)
abbrev cX13_is : ByteArray := prog_4_method_2_code
def yX13_is : MethodName := ⟨RX13, "is", "([J)Z"⟩
def dkwX13_is_4 : List UInt8 := [167, 0, 4, 3, 172, 32, 22, 4, 148, 158, 0, 7, 4, 167, 0, 4, 3, 172]
abbrev dktX13_is_4 : List UInt8 := dkwX13_is_4 ++ []
def dkwX13_is_3 : List UInt8 := [3, 172, 32, 22, 4, 148, 154, 0, 7, 4, 167, 0, 4, 3, 172, 32, 22, 4, 148, 155, 0, 7, 4]
abbrev dktX13_is_3 : List UInt8 := dkwX13_is_3 ++ dktX13_is_4
def dkwX13_is_2 : List UInt8 := [32, 22, 4, 148, 156, 0, 7, 4, 167, 0, 4, 3, 172, 32, 22, 4, 148, 157, 0, 7, 4, 167, 0, 4]
abbrev dktX13_is_2 : List UInt8 := dkwX13_is_2 ++ dktX13_is_3
def dkwX13_is_1 : List UInt8 := [170, 0, 0, 0, 81, 0, 0, 0, 0, 0, 0, 0, 3, 0, 0, 0, 29, 0, 0, 0, 42, 0, 0, 0, 55, 0, 0, 0, 68]
abbrev dktX13_is_1 : List UInt8 := dkwX13_is_1 ++ dktX13_is_2
def dkwX13_is_0 : List UInt8 := [42, 180, 0, 7, 43, 182, 0, 20, 65, 42, 180, 0, 17, 43, 182, 0, 20, 55, 4, 42, 180, 0, 13]
abbrev dktX13_is_0 : List UInt8 := dkwX13_is_0 ++ dktX13_is_1
theorem dksX13_is_0 : cX13_is.data.toList.drop 0 = dktX13_is_0 := by decide +kernel
theorem dksX13_is_1 : cX13_is.data.toList.drop 23 = dktX13_is_1 := dk_seg dksX13_is_0 23 rfl rfl
theorem dksX13_is_2 : cX13_is.data.toList.drop 52 = dktX13_is_2 := dk_seg dksX13_is_1 29 rfl rfl
theorem dksX13_is_3 : cX13_is.data.toList.drop 76 = dktX13_is_3 := dk_seg dksX13_is_2 24 rfl rfl
theorem dksX13_is_4 : cX13_is.data.toList.drop 99 = dktX13_is_4 := dk_seg dksX13_is_3 23 rfl rfl
theorem dX13_is_0 : decode cX13_is 0 = .ok (.aload_n 0, 1) := dk_42 (dk_at dksX13_is_0 0 rfl rfl)
theorem dX13_is_1 : decode cX13_is 1 = .ok (.getfield 7, 3) := dk_180 0 7 (dk_at dksX13_is_0 1 rfl rfl)
theorem dX13_is_4 : decode cX13_is 4 = .ok (.aload_n 1, 1) := dk_43 (dk_at dksX13_is_0 4 rfl rfl)
theorem dX13_is_5 : decode cX13_is 5 = .ok (.invokevirtual 20, 3) := dk_182 0 20 (dk_at dksX13_is_0 5 rfl rfl)
theorem dX13_is_8 : decode cX13_is 8 = .ok (.lstore_n 2, 1) := dk_65 (dk_at dksX13_is_0 8 rfl rfl)
theorem dX13_is_9 : decode cX13_is 9 = .ok (.aload_n 0, 1) := dk_42 (dk_at dksX13_is_0 9 rfl rfl)
theorem dX13_is_10 : decode cX13_is 10 = .ok (.getfield 17, 3) := dk_180 0 17 (dk_at dksX13_is_0 10 rfl rfl)
theorem dX13_is_13 : decode cX13_is 13 = .ok (.aload_n 1, 1) := dk_43 (dk_at dksX13_is_0 13 rfl rfl)
theorem dX13_is_14 : decode cX13_is 14 = .ok (.invokevirtual 20, 3) := dk_182 0 20 (dk_at dksX13_is_0 14 rfl rfl)
theorem dX13_is_17 : decode cX13_is 17 = .ok (.lstore 4, 2) := dk_55 4 (dk_at dksX13_is_0 17 rfl rfl)
theorem dX13_is_19 : decode cX13_is 19 = .ok (.aload_n 0, 1) := dk_42 (dk_at dksX13_is_0 19 rfl rfl)
theorem dX13_is_20 : decode cX13_is 20 = .ok (.getfield 13, 3) := dk_180 0 13 (dk_at dksX13_is_0 20 rfl rfl)
theorem dX13_is_23 : decode cX13_is 23 = .ok (.tableswitch 81 0 3 #[29, 42, 55, 68], 29) := by decide +kernel
theorem dX13_is_52 : decode cX13_is 52 = .ok (.lload_n 2, 1) := dk_32 (dk_at dksX13_is_2 0 rfl rfl)
theorem dX13_is_53 : decode cX13_is 53 = .ok (.lload 4, 2) := dk_22 4 (dk_at dksX13_is_2 1 rfl rfl)
theorem dX13_is_55 : decode cX13_is 55 = .ok (.lcmp, 1) := dk_148 (dk_at dksX13_is_2 3 rfl rfl)
theorem dX13_is_56 : decode cX13_is 56 = .ok (.ifCond .ge 7, 3) := dk_156 0 7 (dk_at dksX13_is_2 4 rfl rfl)
theorem dX13_is_59 : decode cX13_is 59 = .ok (.iconst 1, 1) := dk_4 (dk_at dksX13_is_2 7 rfl rfl)
theorem dX13_is_60 : decode cX13_is 60 = .ok (.goto 4, 3) := dk_167 0 4 (dk_at dksX13_is_2 8 rfl rfl)
theorem dX13_is_63 : decode cX13_is 63 = .ok (.iconst 0, 1) := dk_3 (dk_at dksX13_is_2 11 rfl rfl)
theorem dX13_is_64 : decode cX13_is 64 = .ok (.ireturn, 1) := dk_172 (dk_at dksX13_is_2 12 rfl rfl)
theorem dX13_is_65 : decode cX13_is 65 = .ok (.lload_n 2, 1) := dk_32 (dk_at dksX13_is_2 13 rfl rfl)
theorem dX13_is_66 : decode cX13_is 66 = .ok (.lload 4, 2) := dk_22 4 (dk_at dksX13_is_2 14 rfl rfl)
theorem dX13_is_68 : decode cX13_is 68 = .ok (.lcmp, 1) := dk_148 (dk_at dksX13_is_2 16 rfl rfl)
theorem dX13_is_69 : decode cX13_is 69 = .ok (.ifCond .gt 7, 3) := dk_157 0 7 (dk_at dksX13_is_2 17 rfl rfl)
theorem dX13_is_72 : decode cX13_is 72 = .ok (.iconst 1, 1) := dk_4 (dk_at dksX13_is_2 20 rfl rfl)
theorem dX13_is_73 : decode cX13_is 73 = .ok (.goto 4, 3) := dk_167 0 4 (dk_at dksX13_is_2 21 rfl rfl)
theorem dX13_is_76 : decode cX13_is 76 = .ok (.iconst 0, 1) := dk_3 (dk_at dksX13_is_3 0 rfl rfl)
theorem dX13_is_77 : decode cX13_is 77 = .ok (.ireturn, 1) := dk_172 (dk_at dksX13_is_3 1 rfl rfl)
theorem dX13_is_78 : decode cX13_is 78 = .ok (.lload_n 2, 1) := dk_32 (dk_at dksX13_is_3 2 rfl rfl)
theorem dX13_is_79 : decode cX13_is 79 = .ok (.lload 4, 2) := dk_22 4 (dk_at dksX13_is_3 3 rfl rfl)
theorem dX13_is_81 : decode cX13_is 81 = .ok (.lcmp, 1) := dk_148 (dk_at dksX13_is_3 5 rfl rfl)
theorem dX13_is_82 : decode cX13_is 82 = .ok (.ifCond .ne 7, 3) := dk_154 0 7 (dk_at dksX13_is_3 6 rfl rfl)
theorem dX13_is_85 : decode cX13_is 85 = .ok (.iconst 1, 1) := dk_4 (dk_at dksX13_is_3 9 rfl rfl)
theorem dX13_is_86 : decode cX13_is 86 = .ok (.goto 4, 3) := dk_167 0 4 (dk_at dksX13_is_3 10 rfl rfl)
theorem dX13_is_89 : decode cX13_is 89 = .ok (.iconst 0, 1) := dk_3 (dk_at dksX13_is_3 13 rfl rfl)
theorem dX13_is_90 : decode cX13_is 90 = .ok (.ireturn, 1) := dk_172 (dk_at dksX13_is_3 14 rfl rfl)
theorem dX13_is_91 : decode cX13_is 91 = .ok (.lload_n 2, 1) := dk_32 (dk_at dksX13_is_3 15 rfl rfl)
theorem dX13_is_92 : decode cX13_is 92 = .ok (.lload 4, 2) := dk_22 4 (dk_at dksX13_is_3 16 rfl rfl)
theorem dX13_is_94 : decode cX13_is 94 = .ok (.lcmp, 1) := dk_148 (dk_at dksX13_is_3 18 rfl rfl)
theorem dX13_is_95 : decode cX13_is 95 = .ok (.ifCond .lt 7, 3) := dk_155 0 7 (dk_at dksX13_is_3 19 rfl rfl)
theorem dX13_is_98 : decode cX13_is 98 = .ok (.iconst 1, 1) := dk_4 (dk_at dksX13_is_3 22 rfl rfl)
theorem dX13_is_99 : decode cX13_is 99 = .ok (.goto 4, 3) := dk_167 0 4 (dk_at dksX13_is_4 0 rfl rfl)
theorem dX13_is_102 : decode cX13_is 102 = .ok (.iconst 0, 1) := dk_3 (dk_at dksX13_is_4 3 rfl rfl)
theorem dX13_is_103 : decode cX13_is 103 = .ok (.ireturn, 1) := dk_172 (dk_at dksX13_is_4 4 rfl rfl)
theorem dX13_is_104 : decode cX13_is 104 = .ok (.lload_n 2, 1) := dk_32 (dk_at dksX13_is_4 5 rfl rfl)
theorem dX13_is_105 : decode cX13_is 105 = .ok (.lload 4, 2) := dk_22 4 (dk_at dksX13_is_4 6 rfl rfl)
theorem dX13_is_107 : decode cX13_is 107 = .ok (.lcmp, 1) := dk_148 (dk_at dksX13_is_4 8 rfl rfl)
theorem dX13_is_108 : decode cX13_is 108 = .ok (.ifCond .le 7, 3) := dk_158 0 7 (dk_at dksX13_is_4 9 rfl rfl)
theorem dX13_is_111 : decode cX13_is 111 = .ok (.iconst 1, 1) := dk_4 (dk_at dksX13_is_4 12 rfl rfl)
theorem dX13_is_112 : decode cX13_is 112 = .ok (.goto 4, 3) := dk_167 0 4 (dk_at dksX13_is_4 13 rfl rfl)
theorem dX13_is_115 : decode cX13_is 115 = .ok (.iconst 0, 1) := dk_3 (dk_at dksX13_is_4 16 rfl rfl)
theorem dX13_is_116 : decode cX13_is 116 = .ok (.ireturn, 1) := dk_172 (dk_at dksX13_is_4 17 rfl rfl)
theorem q151 : (Jvm.Cond.initialized "LatestCoat$Compare") ∈ lw_all := lw_g (lw_at lw_m1 23 rfl) rfl
theorem q808 : (Jvm.Cond.instantiable "LatestCoat$Compare" (3 : Nat)) ∈ lw_all := lw_g (lw_at lw_m3 200 rfl) rfl
theorem q810 : (Jvm.Cond.instanceMethod ({ cls := "LatestCoat$Compare", name := "<init>", desc := "(LLatestCoat$Value;ILLatestCoat$Value;)V" } : Jvm.MethodName)) ∈ lw_all := lw_g (lw_at lw_m3 202 rfl) rfl
theorem q811 : (Jvm.Cond.code ({ cls := "LatestCoat$Compare", name := "<init>", desc := "(LLatestCoat$Value;ILLatestCoat$Value;)V" } : Jvm.MethodName) prog_4_method_1_code (4 : Nat) (Option.none : Option Jvm.ClassFile.FieldType)) ∈ lw_all := lw_g (lw_at lw_m3 203 rfl) rfl
theorem q812 : (Jvm.Cond.methodLinkNest "LatestCoat$Compare" (1 : Nat) ({ cls := "LatestCoat$Test", name := "<init>", desc := "()V" } : Jvm.MethodName) "LatestCoat") ∈ lw_tbl := lw_at lw_m3 204 rfl
theorem q813 : (Jvm.Cond.fieldLink "LatestCoat$Compare" (7 : Nat) "LatestCoat$Compare" "first" "LLatestCoat$Value;") ∈ lw_all := lw_g (lw_at lw_m3 205 rfl) rfl
theorem q814 : (Jvm.Cond.fieldLink "LatestCoat$Compare" (17 : Nat) "LatestCoat$Compare" "second" "LLatestCoat$Value;") ∈ lw_all := lw_g (lw_at lw_m3 206 rfl) rfl
theorem q815 : (Jvm.Cond.fieldLink "LatestCoat$Compare" (13 : Nat) "LatestCoat$Compare" "sign" "I") ∈ lw_all := lw_g (lw_at lw_m3 207 rfl) rfl
theorem q816 : (Jvm.Cond.laysFinal "LatestCoat$Compare" "LatestCoat$Compare" "first" "LLatestCoat$Value;") ∈ lw_all := lw_g (lw_at lw_m3 208 rfl) rfl
theorem q817 : (Jvm.Cond.soleField "LatestCoat$Compare" "first") ∈ lw_all := lw_g (lw_at lw_m3 209 rfl) rfl
theorem q818 : (Jvm.Cond.laysFinal "LatestCoat$Compare" "LatestCoat$Compare" "second" "LLatestCoat$Value;") ∈ lw_all := lw_g (lw_at lw_m3 210 rfl) rfl
theorem q819 : (Jvm.Cond.soleField "LatestCoat$Compare" "second") ∈ lw_all := lw_g (lw_at lw_m3 211 rfl) rfl
theorem q820 : (Jvm.Cond.laysFinal "LatestCoat$Compare" "LatestCoat$Compare" "sign" "I") ∈ lw_all := lw_g (lw_at lw_m3 212 rfl) rfl
theorem q821 : (Jvm.Cond.soleField "LatestCoat$Compare" "sign") ∈ lw_all := lw_g (lw_at lw_m3 213 rfl) rfl
theorem q822 : (Jvm.Cond.superclass "LatestCoat$Compare" "LatestCoat$Test") ∈ lw_all := lw_g (lw_at lw_m3 214 rfl) rfl
theorem q985 : (Jvm.Cond.instanceMethod ({ cls := "LatestCoat$Compare", name := "is", desc := "([J)Z" } : Jvm.MethodName)) ∈ lw_all := lw_g (lw_at lw_m4 137 rfl) rfl
theorem q986 : (Jvm.Cond.code ({ cls := "LatestCoat$Compare", name := "is", desc := "([J)Z" } : Jvm.MethodName) prog_4_method_2_code (6 : Nat) (Option.some Jvm.ClassFile.FieldType.boolean)) ∈ lw_all := lw_g (lw_at lw_m4 138 rfl) rfl
theorem q987 : (Jvm.Cond.methodLink "LatestCoat$Compare" (20 : Nat) ({ cls := "LatestCoat$Value", name := "of", desc := "([J)J" } : Jvm.MethodName)) ∈ lw_all := lw_g (lw_at lw_m4 139 rfl) rfl
theorem q1003 : (Jvm.Cond.selects "LatestCoat$Compare" ({ cls := "LatestCoat$Test", name := "is", desc := "([J)Z" } : Jvm.MethodName) ({ cls := "LatestCoat$Compare", name := "is", desc := "([J)Z" } : Jvm.MethodName)) ∈ lw_all := lw_g (lw_at lw_m4 155 rfl) rfl
theorem in_X13 : ∀ w ∈ wsX130, w ∈ lw_all := lw_in wsX130 [816, 818, 820] (by decide +kernel) (by decide +kernel)
/-! LatestCoat$Both -/
set_option maxRecDepth 100000
def RX14 : String := "LatestCoat$Both"
def TX14 : u_T := fun k => match k with
  | 0 => ("LatestCoat$Both", "first", "LLatestCoat$Test;", true)
  | 1 => ("LatestCoat$Both", "second", "LLatestCoat$Test;", true)
  | _ => ("LatestCoat$Both", "isAnd", "Z", true)
def tyX14 : Nat → FieldType := fun k => match k with
  | 0 => .object "LatestCoat$Test"
  | 1 => .object "LatestCoat$Test"
  | _ => .boolean
abbrev wsX140 : List Cond := u_ws RX14 TX14 3
theorem nmX14 : ∀ a, a < 3 → ∀ b, b < 3 → a ≠ b → (TX14 a).2.1 ≠ (TX14 b).2.1 := by decide +kernel
theorem tyX14_ok : ∀ k, k < 3 → parseFieldDescriptor (TX14 k).2.2.1 = some (tyX14 k) := by decide +kernel
abbrev cX14_init : ByteArray := prog_2_method_1_code
def yX14_init : MethodName := ⟨RX14, "<init>", "(LLatestCoat$Test;ZLLatestCoat$Test;)V"⟩
def dkwX14_init_0 : List UInt8 := [42, 183, 0, 1, 42, 43, 181, 0, 7, 42, 28, 181, 0, 13, 42, 45, 181, 0, 17, 177]
abbrev dktX14_init_0 : List UInt8 := dkwX14_init_0 ++ []
theorem dksX14_init_0 : cX14_init.data.toList.drop 0 = dktX14_init_0 := by decide +kernel
theorem dX14_init_0 : decode cX14_init 0 = .ok (.aload_n 0, 1) := dk_42 (dk_at dksX14_init_0 0 rfl rfl)
theorem dX14_init_1 : decode cX14_init 1 = .ok (.invokespecial 1, 3) := dk_183 0 1 (dk_at dksX14_init_0 1 rfl rfl)
theorem dX14_init_4 : decode cX14_init 4 = .ok (.aload_n 0, 1) := dk_42 (dk_at dksX14_init_0 4 rfl rfl)
theorem dX14_init_5 : decode cX14_init 5 = .ok (.aload_n 1, 1) := dk_43 (dk_at dksX14_init_0 5 rfl rfl)
theorem dX14_init_6 : decode cX14_init 6 = .ok (.putfield 7, 3) := dk_181 0 7 (dk_at dksX14_init_0 6 rfl rfl)
theorem dX14_init_9 : decode cX14_init 9 = .ok (.aload_n 0, 1) := dk_42 (dk_at dksX14_init_0 9 rfl rfl)
theorem dX14_init_10 : decode cX14_init 10 = .ok (.iload_n 2, 1) := dk_28 (dk_at dksX14_init_0 10 rfl rfl)
theorem dX14_init_11 : decode cX14_init 11 = .ok (.putfield 13, 3) := dk_181 0 13 (dk_at dksX14_init_0 11 rfl rfl)
theorem dX14_init_14 : decode cX14_init 14 = .ok (.aload_n 0, 1) := dk_42 (dk_at dksX14_init_0 14 rfl rfl)
theorem dX14_init_15 : decode cX14_init 15 = .ok (.aload_n 3, 1) := dk_45 (dk_at dksX14_init_0 15 rfl rfl)
theorem dX14_init_16 : decode cX14_init 16 = .ok (.putfield 17, 3) := dk_181 0 17 (dk_at dksX14_init_0 16 rfl rfl)
theorem dX14_init_19 : decode cX14_init 19 = .ok (.return_, 1) := dk_177 (dk_at dksX14_init_0 19 rfl rfl)
abbrev cX14_is : ByteArray := prog_2_method_2_code
def yX14_is : MethodName := ⟨RX14, "is", "([J)Z"⟩
def dkwX14_is_2 : List UInt8 := [154, 0, 14, 42, 180, 0, 17, 43, 182, 0, 20, 153, 0, 7, 4, 167, 0, 4, 3, 172]
abbrev dktX14_is_2 : List UInt8 := dkwX14_is_2 ++ []
def dkwX14_is_1 : List UInt8 := [182, 0, 20, 153, 0, 7, 4, 167, 0, 34, 3, 167, 0, 30, 42, 180, 0, 7, 43, 182, 0, 20]
abbrev dktX14_is_1 : List UInt8 := dkwX14_is_1 ++ dktX14_is_2
def dkwX14_is_0 : List UInt8 := [42, 180, 0, 13, 153, 0, 33, 42, 180, 0, 7, 43, 182, 0, 20, 153, 0, 18, 42, 180, 0, 17, 43]
abbrev dktX14_is_0 : List UInt8 := dkwX14_is_0 ++ dktX14_is_1
theorem dksX14_is_0 : cX14_is.data.toList.drop 0 = dktX14_is_0 := by decide +kernel
theorem dksX14_is_1 : cX14_is.data.toList.drop 23 = dktX14_is_1 := dk_seg dksX14_is_0 23 rfl rfl
theorem dksX14_is_2 : cX14_is.data.toList.drop 45 = dktX14_is_2 := dk_seg dksX14_is_1 22 rfl rfl
theorem dX14_is_0 : decode cX14_is 0 = .ok (.aload_n 0, 1) := dk_42 (dk_at dksX14_is_0 0 rfl rfl)
theorem dX14_is_1 : decode cX14_is 1 = .ok (.getfield 13, 3) := dk_180 0 13 (dk_at dksX14_is_0 1 rfl rfl)
theorem dX14_is_4 : decode cX14_is 4 = .ok (.ifCond .eq 33, 3) := dk_153 0 33 (dk_at dksX14_is_0 4 rfl rfl)
theorem dX14_is_7 : decode cX14_is 7 = .ok (.aload_n 0, 1) := dk_42 (dk_at dksX14_is_0 7 rfl rfl)
theorem dX14_is_8 : decode cX14_is 8 = .ok (.getfield 7, 3) := dk_180 0 7 (dk_at dksX14_is_0 8 rfl rfl)
theorem dX14_is_11 : decode cX14_is 11 = .ok (.aload_n 1, 1) := dk_43 (dk_at dksX14_is_0 11 rfl rfl)
theorem dX14_is_12 : decode cX14_is 12 = .ok (.invokevirtual 20, 3) := dk_182 0 20 (dk_at dksX14_is_0 12 rfl rfl)
theorem dX14_is_15 : decode cX14_is 15 = .ok (.ifCond .eq 18, 3) := dk_153 0 18 (dk_at dksX14_is_0 15 rfl rfl)
theorem dX14_is_18 : decode cX14_is 18 = .ok (.aload_n 0, 1) := dk_42 (dk_at dksX14_is_0 18 rfl rfl)
theorem dX14_is_19 : decode cX14_is 19 = .ok (.getfield 17, 3) := dk_180 0 17 (dk_at dksX14_is_0 19 rfl rfl)
theorem dX14_is_22 : decode cX14_is 22 = .ok (.aload_n 1, 1) := dk_43 (dk_at dksX14_is_0 22 rfl rfl)
theorem dX14_is_23 : decode cX14_is 23 = .ok (.invokevirtual 20, 3) := dk_182 0 20 (dk_at dksX14_is_1 0 rfl rfl)
theorem dX14_is_26 : decode cX14_is 26 = .ok (.ifCond .eq 7, 3) := dk_153 0 7 (dk_at dksX14_is_1 3 rfl rfl)
theorem dX14_is_29 : decode cX14_is 29 = .ok (.iconst 1, 1) := dk_4 (dk_at dksX14_is_1 6 rfl rfl)
theorem dX14_is_30 : decode cX14_is 30 = .ok (.goto 34, 3) := dk_167 0 34 (dk_at dksX14_is_1 7 rfl rfl)
theorem dX14_is_33 : decode cX14_is 33 = .ok (.iconst 0, 1) := dk_3 (dk_at dksX14_is_1 10 rfl rfl)
theorem dX14_is_34 : decode cX14_is 34 = .ok (.goto 30, 3) := dk_167 0 30 (dk_at dksX14_is_1 11 rfl rfl)
theorem dX14_is_37 : decode cX14_is 37 = .ok (.aload_n 0, 1) := dk_42 (dk_at dksX14_is_1 14 rfl rfl)
theorem dX14_is_38 : decode cX14_is 38 = .ok (.getfield 7, 3) := dk_180 0 7 (dk_at dksX14_is_1 15 rfl rfl)
theorem dX14_is_41 : decode cX14_is 41 = .ok (.aload_n 1, 1) := dk_43 (dk_at dksX14_is_1 18 rfl rfl)
theorem dX14_is_42 : decode cX14_is 42 = .ok (.invokevirtual 20, 3) := dk_182 0 20 (dk_at dksX14_is_1 19 rfl rfl)
theorem dX14_is_45 : decode cX14_is 45 = .ok (.ifCond .ne 14, 3) := dk_154 0 14 (dk_at dksX14_is_2 0 rfl rfl)
theorem dX14_is_48 : decode cX14_is 48 = .ok (.aload_n 0, 1) := dk_42 (dk_at dksX14_is_2 3 rfl rfl)
theorem dX14_is_49 : decode cX14_is 49 = .ok (.getfield 17, 3) := dk_180 0 17 (dk_at dksX14_is_2 4 rfl rfl)
theorem dX14_is_52 : decode cX14_is 52 = .ok (.aload_n 1, 1) := dk_43 (dk_at dksX14_is_2 7 rfl rfl)
theorem dX14_is_53 : decode cX14_is 53 = .ok (.invokevirtual 20, 3) := dk_182 0 20 (dk_at dksX14_is_2 8 rfl rfl)
theorem dX14_is_56 : decode cX14_is 56 = .ok (.ifCond .eq 7, 3) := dk_153 0 7 (dk_at dksX14_is_2 11 rfl rfl)
theorem dX14_is_59 : decode cX14_is 59 = .ok (.iconst 1, 1) := dk_4 (dk_at dksX14_is_2 14 rfl rfl)
theorem dX14_is_60 : decode cX14_is 60 = .ok (.goto 4, 3) := dk_167 0 4 (dk_at dksX14_is_2 15 rfl rfl)
theorem dX14_is_63 : decode cX14_is 63 = .ok (.iconst 0, 1) := dk_3 (dk_at dksX14_is_2 18 rfl rfl)
theorem dX14_is_64 : decode cX14_is 64 = .ok (.ireturn, 1) := dk_172 (dk_at dksX14_is_2 19 rfl rfl)
theorem q152 : (Jvm.Cond.initialized "LatestCoat$Both") ∈ lw_all := lw_g (lw_at lw_m1 24 rfl) rfl
theorem q825 : (Jvm.Cond.instantiable "LatestCoat$Both" (3 : Nat)) ∈ lw_all := lw_g (lw_at lw_m3 217 rfl) rfl
theorem q827 : (Jvm.Cond.instanceMethod ({ cls := "LatestCoat$Both", name := "<init>", desc := "(LLatestCoat$Test;ZLLatestCoat$Test;)V" } : Jvm.MethodName)) ∈ lw_all := lw_g (lw_at lw_m3 219 rfl) rfl
theorem q828 : (Jvm.Cond.code ({ cls := "LatestCoat$Both", name := "<init>", desc := "(LLatestCoat$Test;ZLLatestCoat$Test;)V" } : Jvm.MethodName) prog_2_method_1_code (4 : Nat) (Option.none : Option Jvm.ClassFile.FieldType)) ∈ lw_all := lw_g (lw_at lw_m3 220 rfl) rfl
theorem q829 : (Jvm.Cond.methodLinkNest "LatestCoat$Both" (1 : Nat) ({ cls := "LatestCoat$Test", name := "<init>", desc := "()V" } : Jvm.MethodName) "LatestCoat") ∈ lw_tbl := lw_at lw_m3 221 rfl
theorem q830 : (Jvm.Cond.fieldLink "LatestCoat$Both" (7 : Nat) "LatestCoat$Both" "first" "LLatestCoat$Test;") ∈ lw_all := lw_g (lw_at lw_m3 222 rfl) rfl
theorem q831 : (Jvm.Cond.fieldLink "LatestCoat$Both" (17 : Nat) "LatestCoat$Both" "second" "LLatestCoat$Test;") ∈ lw_all := lw_g (lw_at lw_m3 223 rfl) rfl
theorem q832 : (Jvm.Cond.fieldLink "LatestCoat$Both" (13 : Nat) "LatestCoat$Both" "isAnd" "Z") ∈ lw_all := lw_g (lw_at lw_m3 224 rfl) rfl
theorem q833 : (Jvm.Cond.laysFinal "LatestCoat$Both" "LatestCoat$Both" "first" "LLatestCoat$Test;") ∈ lw_all := lw_g (lw_at lw_m3 225 rfl) rfl
theorem q834 : (Jvm.Cond.soleField "LatestCoat$Both" "first") ∈ lw_all := lw_g (lw_at lw_m3 226 rfl) rfl
theorem q835 : (Jvm.Cond.laysFinal "LatestCoat$Both" "LatestCoat$Both" "second" "LLatestCoat$Test;") ∈ lw_all := lw_g (lw_at lw_m3 227 rfl) rfl
theorem q836 : (Jvm.Cond.soleField "LatestCoat$Both" "second") ∈ lw_all := lw_g (lw_at lw_m3 228 rfl) rfl
theorem q837 : (Jvm.Cond.laysFinal "LatestCoat$Both" "LatestCoat$Both" "isAnd" "Z") ∈ lw_all := lw_g (lw_at lw_m3 229 rfl) rfl
theorem q838 : (Jvm.Cond.soleField "LatestCoat$Both" "isAnd") ∈ lw_all := lw_g (lw_at lw_m3 230 rfl) rfl
theorem q839 : (Jvm.Cond.superclass "LatestCoat$Both" "LatestCoat$Test") ∈ lw_all := lw_g (lw_at lw_m3 231 rfl) rfl
theorem q981 : (Jvm.Cond.selects "LatestCoat$Both" ({ cls := "LatestCoat$Test", name := "is", desc := "([J)Z" } : Jvm.MethodName) ({ cls := "LatestCoat$Both", name := "is", desc := "([J)Z" } : Jvm.MethodName)) ∈ lw_all := lw_g (lw_at lw_m4 133 rfl) rfl
theorem q982 : (Jvm.Cond.instanceMethod ({ cls := "LatestCoat$Both", name := "is", desc := "([J)Z" } : Jvm.MethodName)) ∈ lw_all := lw_g (lw_at lw_m4 134 rfl) rfl
theorem q983 : (Jvm.Cond.code ({ cls := "LatestCoat$Both", name := "is", desc := "([J)Z" } : Jvm.MethodName) prog_2_method_2_code (2 : Nat) (Option.some Jvm.ClassFile.FieldType.boolean)) ∈ lw_all := lw_g (lw_at lw_m4 135 rfl) rfl
theorem q984 : (Jvm.Cond.methodLink "LatestCoat$Both" (20 : Nat) ({ cls := "LatestCoat$Test", name := "is", desc := "([J)Z" } : Jvm.MethodName)) ∈ lw_all := lw_g (lw_at lw_m4 136 rfl) rfl
theorem in_X14 : ∀ w ∈ wsX140, w ∈ lw_all := lw_in wsX140 [833, 835, 837] (by decide +kernel) (by decide +kernel)
/-! LatestCoat$Image -/
set_option maxRecDepth 100000
def RX15 : String := "LatestCoat$Image"
def TX15 : u_T := fun k => match k with
  | 0 => ("LatestCoat$Image", "town", "LLatestCoat$Town;", true)
  | 1 => ("LatestCoat$Image", "isTold", "Z", false)
  | 2 => ("LatestCoat$Image", "x", "I", false)
  | _ => ("LatestCoat$Image", "inForce", "I", false)
def tyX15 : Nat → FieldType := fun k => match k with
  | 0 => .object "LatestCoat$Town"
  | 1 => .boolean
  | 2 => .int
  | _ => .int
abbrev wsX150 : List Cond := u_ws RX15 TX15 4
theorem nmX15 : ∀ a, a < 4 → ∀ b, b < 4 → a ≠ b → (TX15 a).2.1 ≠ (TX15 b).2.1 := by decide +kernel
theorem tyX15_ok : ∀ k, k < 4 → parseFieldDescriptor (TX15 k).2.2.1 = some (tyX15 k) := by decide +kernel
abbrev cX15_init : ByteArray := prog_6_method_1_code
def yX15_init : MethodName := ⟨RX15, "<init>", "()V"⟩
def dkwX15_init_0 : List UInt8 := [42, 183, 0, 1, 42, 187, 0, 7, 89, 183, 0, 9, 181, 0, 10, 177]
abbrev dktX15_init_0 : List UInt8 := dkwX15_init_0 ++ []
theorem dksX15_init_0 : cX15_init.data.toList.drop 0 = dktX15_init_0 := by decide +kernel
theorem dX15_init_0 : decode cX15_init 0 = .ok (.aload_n 0, 1) := dk_42 (dk_at dksX15_init_0 0 rfl rfl)
theorem dX15_init_1 : decode cX15_init 1 = .ok (.invokespecial 1, 3) := dk_183 0 1 (dk_at dksX15_init_0 1 rfl rfl)
theorem dX15_init_4 : decode cX15_init 4 = .ok (.aload_n 0, 1) := dk_42 (dk_at dksX15_init_0 4 rfl rfl)
theorem dX15_init_5 : decode cX15_init 5 = .ok (.new 7, 3) := dk_187 0 7 (dk_at dksX15_init_0 5 rfl rfl)
theorem dX15_init_8 : decode cX15_init 8 = .ok (.dup, 1) := dk_89 (dk_at dksX15_init_0 8 rfl rfl)
theorem dX15_init_9 : decode cX15_init 9 = .ok (.invokespecial 9, 3) := dk_183 0 9 (dk_at dksX15_init_0 9 rfl rfl)
theorem dX15_init_12 : decode cX15_init 12 = .ok (.putfield 10, 3) := dk_181 0 10 (dk_at dksX15_init_0 12 rfl rfl)
theorem dX15_init_15 : decode cX15_init 15 = .ok (.return_, 1) := dk_177 (dk_at dksX15_init_0 15 rfl rfl)
theorem q154 : (Jvm.Cond.initialized "LatestCoat$Image") ∈ lw_all := lw_g (lw_at lw_m1 26 rfl) rfl
theorem q1191 : (Jvm.Cond.instantiable "LatestCoat$Image" (4 : Nat)) ∈ lw_all := lw_g (lw_at lw_m5 103 rfl) rfl
theorem q1193 : (Jvm.Cond.instanceMethod ({ cls := "LatestCoat$Image", name := "<init>", desc := "()V" } : Jvm.MethodName)) ∈ lw_all := lw_g (lw_at lw_m5 105 rfl) rfl
theorem q1194 : (Jvm.Cond.code ({ cls := "LatestCoat$Image", name := "<init>", desc := "()V" } : Jvm.MethodName) prog_6_method_1_code (1 : Nat) (Option.none : Option Jvm.ClassFile.FieldType)) ∈ lw_all := lw_g (lw_at lw_m5 106 rfl) rfl
theorem q1195 : (Jvm.Cond.methodLink "LatestCoat$Image" (1 : Nat) ({ cls := "java/lang/Object", name := "<init>", desc := "()V" } : Jvm.MethodName)) ∈ lw_all := lw_g (lw_at lw_m5 107 rfl) rfl
theorem q1196 : (Jvm.Cond.classLink "LatestCoat$Image" (7 : Nat) "LatestCoat$Town") ∈ lw_all := lw_g (lw_at lw_m5 108 rfl) rfl
theorem q1197 : (Jvm.Cond.methodLinkNest "LatestCoat$Image" (9 : Nat) ({ cls := "LatestCoat$Town", name := "<init>", desc := "()V" } : Jvm.MethodName) "LatestCoat") ∈ lw_tbl := lw_at lw_m5 109 rfl
theorem q1198 : (Jvm.Cond.fieldLink "LatestCoat$Image" (10 : Nat) "LatestCoat$Image" "town" "LLatestCoat$Town;") ∈ lw_all := lw_g (lw_at lw_m5 110 rfl) rfl
theorem q1203 : (Jvm.Cond.laysFinal "LatestCoat$Image" "LatestCoat$Image" "town" "LLatestCoat$Town;") ∈ lw_all := lw_g (lw_at lw_m5 115 rfl) rfl
theorem q1204 : (Jvm.Cond.soleField "LatestCoat$Image" "town") ∈ lw_all := lw_g (lw_at lw_m5 116 rfl) rfl
theorem q1205 : (Jvm.Cond.lays "LatestCoat$Image" "LatestCoat$Image" "isTold" "Z") ∈ lw_all := lw_g (lw_at lw_m5 117 rfl) rfl
theorem q1206 : (Jvm.Cond.soleField "LatestCoat$Image" "isTold") ∈ lw_all := lw_g (lw_at lw_m5 118 rfl) rfl
theorem q1207 : (Jvm.Cond.lays "LatestCoat$Image" "LatestCoat$Image" "x" "I") ∈ lw_all := lw_g (lw_at lw_m5 119 rfl) rfl
theorem q1208 : (Jvm.Cond.soleField "LatestCoat$Image" "x") ∈ lw_all := lw_g (lw_at lw_m5 120 rfl) rfl
theorem q1209 : (Jvm.Cond.lays "LatestCoat$Image" "LatestCoat$Image" "inForce" "I") ∈ lw_all := lw_g (lw_at lw_m5 121 rfl) rfl
theorem q1210 : (Jvm.Cond.soleField "LatestCoat$Image" "inForce") ∈ lw_all := lw_g (lw_at lw_m5 122 rfl) rfl
theorem q1211 : (Jvm.Cond.superclass "LatestCoat$Image" "java/lang/Object") ∈ lw_all := lw_g (lw_at lw_m5 123 rfl) rfl
theorem in_X15 : ∀ w ∈ wsX150, w ∈ lw_all := lw_in wsX150 [1203, 1205, 1207, 1209] (by decide +kernel) (by decide +kernel)
