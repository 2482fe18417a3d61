/-! NailedOrders$Order -/
set_option maxRecDepth 100000
def RX3 : String := "NailedOrders$Order"
def TX3 : u_T := fun k => match k with
  | 0 => ("NailedOrders$Order", "number", "I", true)
  | 1 => ("NailedOrders$Order", "person", "I", true)
  | 2 => ("NailedOrders$Order", "word", "I", true)
  | 3 => ("NailedOrders$Order", "real", "F", true)
  | 4 => ("NailedOrders$Order", "strength", "F", false)
  | _ => ("NailedOrders$Order", "fate", "I", false)
def tyX3 : Nat → FieldType := fun k => match k with
  | 0 => .int
  | 1 => .int
  | 2 => .int
  | 3 => .float
  | 4 => .float
  | _ => .int
abbrev wsX30 : List Cond := u_ws RX3 TX3 6
theorem nmX3 : ∀ a, a < 6 → ∀ b, b < 6 → a ≠ b → (TX3 a).2.1 ≠ (TX3 b).2.1 := by decide +kernel
theorem tyX3_ok : ∀ k, k < 6 → parseFieldDescriptor (TX3 k).2.2.1 = some (tyX3 k) := by decide +kernel
abbrev cX3_init : ByteArray := prog_3_method_1_code
def yX3_init : MethodName := ⟨RX3, "<init>", "(IIIFF)V"⟩
def dkwX3_init_1 : List UInt8 := [42, 23, 4, 181, 0, 24, 42, 23, 5, 181, 0, 28, 177]
abbrev dktX3_init_1 : List UInt8 := dkwX3_init_1 ++ []
def dkwX3_init_0 : List UInt8 := [42, 183, 0, 3, 42, 3, 181, 0, 9, 42, 27, 181, 0, 15, 42, 28, 181, 0, 18, 42, 29, 181, 0, 21]
abbrev dktX3_init_0 : List UInt8 := dkwX3_init_0 ++ dktX3_init_1
theorem dksX3_init_0 : cX3_init.data.toList.drop 0 = dktX3_init_0 := by decide +kernel
theorem dksX3_init_1 : cX3_init.data.toList.drop 24 = dktX3_init_1 := dk_seg dksX3_init_0 24 rfl rfl
theorem dX3_init_0 : decode cX3_init 0 = .ok (.aload_n 0, 1) := dk_42 (dk_at dksX3_init_0 0 rfl rfl)
theorem dX3_init_1 : decode cX3_init 1 = .ok (.invokespecial 3, 3) := dk_183 0 3 (dk_at dksX3_init_0 1 rfl rfl)
theorem dX3_init_4 : decode cX3_init 4 = .ok (.aload_n 0, 1) := dk_42 (dk_at dksX3_init_0 4 rfl rfl)
theorem dX3_init_5 : decode cX3_init 5 = .ok (.iconst 0, 1) := dk_3 (dk_at dksX3_init_0 5 rfl rfl)
theorem dX3_init_6 : decode cX3_init 6 = .ok (.putfield 9, 3) := dk_181 0 9 (dk_at dksX3_init_0 6 rfl rfl)
theorem dX3_init_9 : decode cX3_init 9 = .ok (.aload_n 0, 1) := dk_42 (dk_at dksX3_init_0 9 rfl rfl)
theorem dX3_init_10 : decode cX3_init 10 = .ok (.iload_n 1, 1) := dk_27 (dk_at dksX3_init_0 10 rfl rfl)
theorem dX3_init_11 : decode cX3_init 11 = .ok (.putfield 15, 3) := dk_181 0 15 (dk_at dksX3_init_0 11 rfl rfl)
theorem dX3_init_14 : decode cX3_init 14 = .ok (.aload_n 0, 1) := dk_42 (dk_at dksX3_init_0 14 rfl rfl)
theorem dX3_init_15 : decode cX3_init 15 = .ok (.iload_n 2, 1) := dk_28 (dk_at dksX3_init_0 15 rfl rfl)
theorem dX3_init_16 : decode cX3_init 16 = .ok (.putfield 18, 3) := dk_181 0 18 (dk_at dksX3_init_0 16 rfl rfl)
theorem dX3_init_19 : decode cX3_init 19 = .ok (.aload_n 0, 1) := dk_42 (dk_at dksX3_init_0 19 rfl rfl)
theorem dX3_init_20 : decode cX3_init 20 = .ok (.iload_n 3, 1) := dk_29 (dk_at dksX3_init_0 20 rfl rfl)
theorem dX3_init_21 : decode cX3_init 21 = .ok (.putfield 21, 3) := dk_181 0 21 (dk_at dksX3_init_0 21 rfl rfl)
theorem dX3_init_24 : decode cX3_init 24 = .ok (.aload_n 0, 1) := dk_42 (dk_at dksX3_init_1 0 rfl rfl)
theorem dX3_init_25 : decode cX3_init 25 = .ok (.fload 4, 2) := dk_23 4 (dk_at dksX3_init_1 1 rfl rfl)
theorem dX3_init_27 : decode cX3_init 27 = .ok (.putfield 24, 3) := dk_181 0 24 (dk_at dksX3_init_1 3 rfl rfl)
theorem dX3_init_30 : decode cX3_init 30 = .ok (.aload_n 0, 1) := dk_42 (dk_at dksX3_init_1 6 rfl rfl)
theorem dX3_init_31 : decode cX3_init 31 = .ok (.fload 5, 2) := dk_23 5 (dk_at dksX3_init_1 7 rfl rfl)
theorem dX3_init_33 : decode cX3_init 33 = .ok (.putfield 28, 3) := dk_181 0 28 (dk_at dksX3_init_1 9 rfl rfl)
theorem dX3_init_36 : decode cX3_init 36 = .ok (.return_, 1) := dk_177 (dk_at dksX3_init_1 12 rfl rfl)
abbrev cX3_alike : ByteArray := prog_3_method_5_code
def yX3_alike : MethodName := ⟨RX3, "alike", "(LNailedOrders$Order;)LNailedOrders$Order;"⟩
def dkwX3_alike_0 : List UInt8 := [43, 42, 180, 0, 9, 181, 0, 9, 43, 176]
abbrev dktX3_alike_0 : List UInt8 := dkwX3_alike_0 ++ []
theorem dksX3_alike_0 : cX3_alike.data.toList.drop 0 = dktX3_alike_0 := by decide +kernel
theorem dX3_alike_0 : decode cX3_alike 0 = .ok (.aload_n 1, 1) := dk_43 (dk_at dksX3_alike_0 0 rfl rfl)
theorem dX3_alike_1 : decode cX3_alike 1 = .ok (.aload_n 0, 1) := dk_42 (dk_at dksX3_alike_0 1 rfl rfl)
theorem dX3_alike_2 : decode cX3_alike 2 = .ok (.getfield 9, 3) := dk_180 0 9 (dk_at dksX3_alike_0 2 rfl rfl)
theorem dX3_alike_5 : decode cX3_alike 5 = .ok (.putfield 9, 3) := dk_181 0 9 (dk_at dksX3_alike_0 5 rfl rfl)
theorem dX3_alike_8 : decode cX3_alike 8 = .ok (.aload_n 1, 1) := dk_43 (dk_at dksX3_alike_0 8 rfl rfl)
theorem dX3_alike_9 : decode cX3_alike 9 = .ok (.areturn, 1) := dk_176 (dk_at dksX3_alike_0 9 rfl rfl)
abbrev cX3_copy : ByteArray := prog_3_method_4_code
def yX3_copy : MethodName := ⟨RX3, "copy", "()LNailedOrders$Order;"⟩
def dkwX3_copy_1 : List UInt8 := [180, 0, 28, 183, 0, 31, 182, 0, 34, 176]
abbrev dktX3_copy_1 : List UInt8 := dkwX3_copy_1 ++ []
def dkwX3_copy_0 : List UInt8 := [42, 187, 0, 10, 89, 42, 180, 0, 15, 42, 180, 0, 18, 42, 180, 0, 21, 42, 180, 0, 24, 42]
abbrev dktX3_copy_0 : List UInt8 := dkwX3_copy_0 ++ dktX3_copy_1
theorem dksX3_copy_0 : cX3_copy.data.toList.drop 0 = dktX3_copy_0 := by decide +kernel
theorem dksX3_copy_1 : cX3_copy.data.toList.drop 22 = dktX3_copy_1 := dk_seg dksX3_copy_0 22 rfl rfl
theorem dX3_copy_0 : decode cX3_copy 0 = .ok (.aload_n 0, 1) := dk_42 (dk_at dksX3_copy_0 0 rfl rfl)
theorem dX3_copy_1 : decode cX3_copy 1 = .ok (.new 10, 3) := dk_187 0 10 (dk_at dksX3_copy_0 1 rfl rfl)
theorem dX3_copy_4 : decode cX3_copy 4 = .ok (.dup, 1) := dk_89 (dk_at dksX3_copy_0 4 rfl rfl)
theorem dX3_copy_5 : decode cX3_copy 5 = .ok (.aload_n 0, 1) := dk_42 (dk_at dksX3_copy_0 5 rfl rfl)
theorem dX3_copy_6 : decode cX3_copy 6 = .ok (.getfield 15, 3) := dk_180 0 15 (dk_at dksX3_copy_0 6 rfl rfl)
theorem dX3_copy_9 : decode cX3_copy 9 = .ok (.aload_n 0, 1) := dk_42 (dk_at dksX3_copy_0 9 rfl rfl)
theorem dX3_copy_10 : decode cX3_copy 10 = .ok (.getfield 18, 3) := dk_180 0 18 (dk_at dksX3_copy_0 10 rfl rfl)
theorem dX3_copy_13 : decode cX3_copy 13 = .ok (.aload_n 0, 1) := dk_42 (dk_at dksX3_copy_0 13 rfl rfl)
theorem dX3_copy_14 : decode cX3_copy 14 = .ok (.getfield 21, 3) := dk_180 0 21 (dk_at dksX3_copy_0 14 rfl rfl)
theorem dX3_copy_17 : decode cX3_copy 17 = .ok (.aload_n 0, 1) := dk_42 (dk_at dksX3_copy_0 17 rfl rfl)
theorem dX3_copy_18 : decode cX3_copy 18 = .ok (.getfield 24, 3) := dk_180 0 24 (dk_at dksX3_copy_0 18 rfl rfl)
theorem dX3_copy_21 : decode cX3_copy 21 = .ok (.aload_n 0, 1) := dk_42 (dk_at dksX3_copy_0 21 rfl rfl)
theorem dX3_copy_22 : decode cX3_copy 22 = .ok (.getfield 28, 3) := dk_180 0 28 (dk_at dksX3_copy_1 0 rfl rfl)
theorem dX3_copy_25 : decode cX3_copy 25 = .ok (.invokespecial 31, 3) := dk_183 0 31 (dk_at dksX3_copy_1 3 rfl rfl)
theorem dX3_copy_28 : decode cX3_copy 28 = .ok (.invokevirtual 34, 3) := dk_182 0 34 (dk_at dksX3_copy_1 6 rfl rfl)
theorem dX3_copy_31 : decode cX3_copy 31 = .ok (.areturn, 1) := dk_176 (dk_at dksX3_copy_1 9 rfl rfl)
abbrev cX3_hangs : ByteArray := prog_3_method_6_code
def yX3_hangs : MethodName := ⟨RX3, "hangs", "()Z"⟩
def dkwX3_hangs_0 : List UInt8 := [42, 180, 0, 9, 154, 0, 7, 4, 167, 0, 4, 3, 172]
abbrev dktX3_hangs_0 : List UInt8 := dkwX3_hangs_0 ++ []
theorem dksX3_hangs_0 : cX3_hangs.data.toList.drop 0 = dktX3_hangs_0 := by decide +kernel
theorem dX3_hangs_0 : decode cX3_hangs 0 = .ok (.aload_n 0, 1) := dk_42 (dk_at dksX3_hangs_0 0 rfl rfl)
theorem dX3_hangs_1 : decode cX3_hangs 1 = .ok (.getfield 9, 3) := dk_180 0 9 (dk_at dksX3_hangs_0 1 rfl rfl)
theorem dX3_hangs_4 : decode cX3_hangs 4 = .ok (.ifCond .ne 7, 3) := dk_154 0 7 (dk_at dksX3_hangs_0 4 rfl rfl)
theorem dX3_hangs_7 : decode cX3_hangs 7 = .ok (.iconst 1, 1) := dk_4 (dk_at dksX3_hangs_0 7 rfl rfl)
theorem dX3_hangs_8 : decode cX3_hangs 8 = .ok (.goto 4, 3) := dk_167 0 4 (dk_at dksX3_hangs_0 8 rfl rfl)
theorem dX3_hangs_11 : decode cX3_hangs 11 = .ok (.iconst 0, 1) := dk_3 (dk_at dksX3_hangs_0 11 rfl rfl)
theorem dX3_hangs_12 : decode cX3_hangs 12 = .ok (.ireturn, 1) := dk_172 (dk_at dksX3_hangs_0 12 rfl rfl)
abbrev cX3_hundredths : ByteArray := prog_3_method_7_code
def yX3_hundredths : MethodName := ⟨RX3, "hundredths", "()I"⟩
def dkwX3_hundredths_0 : List UInt8 := [42, 180, 0, 28, 18, 38, 106, 139, 172]
abbrev dktX3_hundredths_0 : List UInt8 := dkwX3_hundredths_0 ++ []
theorem dksX3_hundredths_0 : cX3_hundredths.data.toList.drop 0 = dktX3_hundredths_0 := by decide +kernel
theorem dX3_hundredths_0 : decode cX3_hundredths 0 = .ok (.aload_n 0, 1) := dk_42 (dk_at dksX3_hundredths_0 0 rfl rfl)
theorem dX3_hundredths_1 : decode cX3_hundredths 1 = .ok (.getfield 28, 3) := dk_180 0 28 (dk_at dksX3_hundredths_0 1 rfl rfl)
theorem dX3_hundredths_4 : decode cX3_hundredths 4 = .ok (.ldc 38, 2) := dk_18 38 (dk_at dksX3_hundredths_0 4 rfl rfl)
theorem dX3_hundredths_6 : decode cX3_hundredths 6 = .ok (.fmul, 1) := dk_106 (dk_at dksX3_hundredths_0 6 rfl rfl)
theorem dX3_hundredths_7 : decode cX3_hundredths 7 = .ok (.f2i, 1) := dk_139 (dk_at dksX3_hundredths_0 7 rfl rfl)
theorem dX3_hundredths_8 : decode cX3_hundredths 8 = .ok (.ireturn, 1) := dk_172 (dk_at dksX3_hundredths_0 8 rfl rfl)
abbrev cX3_other : ByteArray := prog_3_method_2_code
def yX3_other : MethodName := ⟨RX3, "other", "()I"⟩
theorem dX3_other_0 : decode cX3_other 0 = .ok (.bipush (-5), 2) := by decide +kernel
theorem dX3_other_2 : decode cX3_other 2 = .ok (.ireturn, 1) := by decide +kernel
abbrev cX3_factor : ByteArray := prog_3_method_3_code
def yX3_factor : MethodName := ⟨RX3, "factor", "()F"⟩
theorem dX3_factor_0 : decode cX3_factor 0 = .ok (.fconst 1, 1) := by decide +kernel
theorem dX3_factor_1 : decode cX3_factor 1 = .ok (.freturn, 1) := by decide +kernel
theorem q76 : (Jvm.Cond.initialized "NailedOrders$Order") ∈ lw_all := lw_g (lw_at lw_m1 17 rfl) rfl
theorem q166 : (Jvm.Cond.selects "NailedOrders$Order" ({ cls := "java/lang/Object", name := "getClass", desc := "()Ljava/lang/Class;" } : Jvm.MethodName) ({ cls := "java/lang/Object", name := "getClass", desc := "()Ljava/lang/Class;" } : Jvm.MethodName)) ∈ lw_all := lw_g (lw_at lw_m1 107 rfl) rfl
theorem q305 : (Jvm.Cond.instanceMethod ({ cls := "NailedOrders$Order", name := "copy", desc := "()LNailedOrders$Order;" } : Jvm.MethodName)) ∈ lw_all := lw_g (lw_at lw_m2 6 rfl) rfl
theorem q306 : (Jvm.Cond.selects "NailedOrders$Order" ({ cls := "NailedOrders$Order", name := "copy", desc := "()LNailedOrders$Order;" } : Jvm.MethodName) ({ cls := "NailedOrders$Order", name := "copy", desc := "()LNailedOrders$Order;" } : Jvm.MethodName)) ∈ lw_all := lw_g (lw_at lw_m2 7 rfl) rfl
theorem q307 : (Jvm.Cond.sameMethod "NailedOrders$Order" "NailedOrders$Order" "copy" "()LNailedOrders$Order;") ∈ lw_all := lw_g (lw_at lw_m2 8 rfl) rfl
theorem q317 : (Jvm.Cond.instanceMethod ({ cls := "NailedOrders$Order", name := "<init>", desc := "(IIIFF)V" } : Jvm.MethodName)) ∈ lw_all := lw_g (lw_at lw_m2 18 rfl) rfl
theorem q318 : (Jvm.Cond.code ({ cls := "NailedOrders$Order", name := "<init>", desc := "(IIIFF)V" } : Jvm.MethodName) prog_3_method_1_code (6 : Nat) (Option.none : Option Jvm.ClassFile.FieldType)) ∈ lw_all := lw_g (lw_at lw_m2 19 rfl) rfl
theorem q319 : (Jvm.Cond.methodLink "NailedOrders$Order" (3 : Nat) ({ cls := "java/lang/Object", name := "<init>", desc := "()V" } : Jvm.MethodName)) ∈ lw_all := lw_g (lw_at lw_m2 20 rfl) rfl
theorem q322 : (Jvm.Cond.fieldLink "NailedOrders$Order" (15 : Nat) "NailedOrders$Order" "number" "I") ∈ lw_all := lw_g (lw_at lw_m2 23 rfl) rfl
theorem q327 : (Jvm.Cond.fieldLink "NailedOrders$Order" (18 : Nat) "NailedOrders$Order" "person" "I") ∈ lw_all := lw_g (lw_at lw_m2 28 rfl) rfl
theorem q332 : (Jvm.Cond.fieldLink "NailedOrders$Order" (21 : Nat) "NailedOrders$Order" "word" "I") ∈ lw_all := lw_g (lw_at lw_m2 33 rfl) rfl
theorem q337 : (Jvm.Cond.fieldLink "NailedOrders$Order" (24 : Nat) "NailedOrders$Order" "real" "F") ∈ lw_all := lw_g (lw_at lw_m2 38 rfl) rfl
theorem q342 : (Jvm.Cond.fieldLink "NailedOrders$Order" (28 : Nat) "NailedOrders$Order" "strength" "F") ∈ lw_all := lw_g (lw_at lw_m2 43 rfl) rfl
theorem q347 : (Jvm.Cond.fieldLink "NailedOrders$Order" (9 : Nat) "NailedOrders$Order" "fate" "I") ∈ lw_all := lw_g (lw_at lw_m2 48 rfl) rfl
theorem q355 : (Jvm.Cond.soleField "NailedOrders$Order" "number") ∈ lw_all := lw_g (lw_at lw_m2 56 rfl) rfl
theorem q357 : (Jvm.Cond.soleField "NailedOrders$Order" "person") ∈ lw_all := lw_g (lw_at lw_m2 58 rfl) rfl
theorem q359 : (Jvm.Cond.soleField "NailedOrders$Order" "word") ∈ lw_all := lw_g (lw_at lw_m2 60 rfl) rfl
theorem q361 : (Jvm.Cond.soleField "NailedOrders$Order" "real") ∈ lw_all := lw_g (lw_at lw_m2 62 rfl) rfl
theorem q363 : (Jvm.Cond.soleField "NailedOrders$Order" "strength") ∈ lw_all := lw_g (lw_at lw_m2 64 rfl) rfl
theorem q365 : (Jvm.Cond.soleField "NailedOrders$Order" "fate") ∈ lw_all := lw_g (lw_at lw_m2 66 rfl) rfl
theorem q369 : (Jvm.Cond.declares ({ cls := "NailedOrders$Order", name := "alike", desc := "(LNailedOrders$Order;)LNailedOrders$Order;" } : Jvm.MethodName)) ∈ lw_tbl := lw_at lw_m2 70 rfl
theorem q371 : (Jvm.Cond.instanceMethod ({ cls := "NailedOrders$Order", name := "alike", desc := "(LNailedOrders$Order;)LNailedOrders$Order;" } : Jvm.MethodName)) ∈ lw_all := lw_g (lw_at lw_m2 72 rfl) rfl
theorem q372 : (Jvm.Cond.code ({ cls := "NailedOrders$Order", name := "alike", desc := "(LNailedOrders$Order;)LNailedOrders$Order;" } : Jvm.MethodName) prog_3_method_5_code (2 : Nat) (Option.some (Jvm.ClassFile.FieldType.object "NailedOrders$Order"))) ∈ lw_all := lw_g (lw_at lw_m2 73 rfl) rfl
theorem q373 : (Jvm.Cond.code ({ cls := "NailedOrders$Order", name := "copy", desc := "()LNailedOrders$Order;" } : Jvm.MethodName) prog_3_method_4_code (1 : Nat) (Option.some (Jvm.ClassFile.FieldType.object "NailedOrders$Order"))) ∈ lw_all := lw_g (lw_at lw_m2 74 rfl) rfl
theorem q374 : (Jvm.Cond.classLink "NailedOrders$Order" (10 : Nat) "NailedOrders$Order") ∈ lw_all := lw_g (lw_at lw_m2 75 rfl) rfl
theorem q375 : (Jvm.Cond.instantiable "NailedOrders$Order" (6 : Nat)) ∈ lw_all := lw_g (lw_at lw_m2 76 rfl) rfl
theorem q376 : (Jvm.Cond.methodLink "NailedOrders$Order" (31 : Nat) ({ cls := "NailedOrders$Order", name := "<init>", desc := "(IIIFF)V" } : Jvm.MethodName)) ∈ lw_all := lw_g (lw_at lw_m2 77 rfl) rfl
theorem q377 : (Jvm.Cond.laysFinal "NailedOrders$Order" "NailedOrders$Order" "number" "I") ∈ lw_all := lw_g (lw_at lw_m2 78 rfl) rfl
theorem q378 : (Jvm.Cond.laysFinal "NailedOrders$Order" "NailedOrders$Order" "person" "I") ∈ lw_all := lw_g (lw_at lw_m2 79 rfl) rfl
theorem q379 : (Jvm.Cond.laysFinal "NailedOrders$Order" "NailedOrders$Order" "word" "I") ∈ lw_all := lw_g (lw_at lw_m2 80 rfl) rfl
theorem q380 : (Jvm.Cond.laysFinal "NailedOrders$Order" "NailedOrders$Order" "real" "F") ∈ lw_all := lw_g (lw_at lw_m2 81 rfl) rfl
theorem q381 : (Jvm.Cond.lays "NailedOrders$Order" "NailedOrders$Order" "strength" "F") ∈ lw_all := lw_g (lw_at lw_m2 82 rfl) rfl
theorem q382 : (Jvm.Cond.lays "NailedOrders$Order" "NailedOrders$Order" "fate" "I") ∈ lw_all := lw_g (lw_at lw_m2 83 rfl) rfl
theorem q383 : (Jvm.Cond.superclass "NailedOrders$Order" "java/lang/Object") ∈ lw_all := lw_g (lw_at lw_m2 84 rfl) rfl
theorem q384 : (Jvm.Cond.methodLink "NailedOrders$Order" (34 : Nat) ({ cls := "NailedOrders$Order", name := "alike", desc := "(LNailedOrders$Order;)LNailedOrders$Order;" } : Jvm.MethodName)) ∈ lw_all := lw_g (lw_at lw_m2 85 rfl) rfl
theorem q498 : (Jvm.Cond.instanceMethod ({ cls := "NailedOrders$Order", name := "hangs", desc := "()Z" } : Jvm.MethodName)) ∈ lw_all := lw_g (lw_at lw_m2 199 rfl) rfl
theorem q499 : (Jvm.Cond.selects "NailedOrders$Order" ({ cls := "NailedOrders$Order", name := "hangs", desc := "()Z" } : Jvm.MethodName) ({ cls := "NailedOrders$Order", name := "hangs", desc := "()Z" } : Jvm.MethodName)) ∈ lw_all := lw_g (lw_at lw_m2 200 rfl) rfl
theorem q500 : (Jvm.Cond.sameMethod "NailedOrders$Order" "NailedOrders$Order" "hangs" "()Z") ∈ lw_all := lw_g (lw_at lw_m2 201 rfl) rfl
theorem q502 : (Jvm.Cond.code ({ cls := "NailedOrders$Order", name := "hangs", desc := "()Z" } : Jvm.MethodName) prog_3_method_6_code (1 : Nat) (Option.some Jvm.ClassFile.FieldType.boolean)) ∈ lw_all := lw_g (lw_at lw_m2 203 rfl) rfl
theorem q522 : (Jvm.Cond.selects "NailedOrders$Order" ({ cls := "java/lang/Object", name := "equals", desc := "(Ljava/lang/Object;)Z" } : Jvm.MethodName) ({ cls := "java/lang/Object", name := "equals", desc := "(Ljava/lang/Object;)Z" } : Jvm.MethodName)) ∈ lw_all := lw_g (lw_at lw_m2 223 rfl) rfl
theorem q537 : (Jvm.Cond.instanceMethod ({ cls := "NailedOrders$Order", name := "hundredths", desc := "()I" } : Jvm.MethodName)) ∈ lw_all := lw_g (lw_at lw_m2 238 rfl) rfl
theorem q538 : (Jvm.Cond.selects "NailedOrders$Order" ({ cls := "NailedOrders$Order", name := "hundredths", desc := "()I" } : Jvm.MethodName) ({ cls := "NailedOrders$Order", name := "hundredths", desc := "()I" } : Jvm.MethodName)) ∈ lw_all := lw_g (lw_at lw_m2 239 rfl) rfl
theorem q539 : (Jvm.Cond.sameMethod "NailedOrders$Order" "NailedOrders$Order" "hundredths" "()I") ∈ lw_all := lw_g (lw_at lw_m3 0 rfl) rfl
theorem q541 : (Jvm.Cond.code ({ cls := "NailedOrders$Order", name := "hundredths", desc := "()I" } : Jvm.MethodName) prog_3_method_7_code (1 : Nat) (Option.some Jvm.ClassFile.FieldType.int)) ∈ lw_all := lw_g (lw_at lw_m3 2 rfl) rfl
theorem q542 : (Jvm.Cond.constantFloat "NailedOrders$Order" (38 : Nat) (1120403456 : UInt32)) ∈ lw_all := lw_g (lw_at lw_m3 3 rfl) rfl
theorem q915 : (Jvm.Cond.instanceMethod ({ cls := "NailedOrders$Order", name := "other", desc := "()I" } : Jvm.MethodName)) ∈ lw_all := lw_g (lw_at lw_m4 136 rfl) rfl
theorem q916 : (Jvm.Cond.selects "NailedOrders$Order" ({ cls := "NailedOrders$Order", name := "other", desc := "()I" } : Jvm.MethodName) ({ cls := "NailedOrders$Order", name := "other", desc := "()I" } : Jvm.MethodName)) ∈ lw_all := lw_g (lw_at lw_m4 137 rfl) rfl
theorem q917 : (Jvm.Cond.sameMethod "NailedOrders$Order" "NailedOrders$Order" "other" "()I") ∈ lw_all := lw_g (lw_at lw_m4 138 rfl) rfl
theorem q921 : (Jvm.Cond.code ({ cls := "NailedOrders$Order", name := "other", desc := "()I" } : Jvm.MethodName) prog_3_method_2_code (1 : Nat) (Option.some Jvm.ClassFile.FieldType.int)) ∈ lw_all := lw_g (lw_at lw_m4 142 rfl) rfl
theorem q926 : (Jvm.Cond.instanceMethod ({ cls := "NailedOrders$Order", name := "factor", desc := "()F" } : Jvm.MethodName)) ∈ lw_all := lw_g (lw_at lw_m4 147 rfl) rfl
theorem q927 : (Jvm.Cond.selects "NailedOrders$Order" ({ cls := "NailedOrders$Order", name := "factor", desc := "()F" } : Jvm.MethodName) ({ cls := "NailedOrders$Order", name := "factor", desc := "()F" } : Jvm.MethodName)) ∈ lw_all := lw_g (lw_at lw_m4 148 rfl) rfl
theorem q928 : (Jvm.Cond.sameMethod "NailedOrders$Order" "NailedOrders$Order" "factor" "()F") ∈ lw_all := lw_g (lw_at lw_m4 149 rfl) rfl
theorem q932 : (Jvm.Cond.code ({ cls := "NailedOrders$Order", name := "factor", desc := "()F" } : Jvm.MethodName) prog_3_method_3_code (1 : Nat) (Option.some Jvm.ClassFile.FieldType.float)) ∈ lw_all := lw_g (lw_at lw_m4 153 rfl) rfl
theorem q1372 : (Jvm.Cond.sameMethod "NailedOrders$Order" "NailedOrders$Order" "alike" "(LNailedOrders$Order;)LNailedOrders$Order;") ∈ lw_all := lw_g (lw_at lw_m6 113 rfl) rfl
theorem q1374 : (Jvm.Cond.selects "NailedOrders$Order" ({ cls := "NailedOrders$Order", name := "alike", desc := "(LNailedOrders$Order;)LNailedOrders$Order;" } : Jvm.MethodName) ({ cls := "NailedOrders$Order", name := "alike", desc := "(LNailedOrders$Order;)LNailedOrders$Order;" } : Jvm.MethodName)) ∈ lw_all := lw_g (lw_at lw_m6 115 rfl) rfl
theorem q1390 : (Jvm.Cond.castable "NailedOrders$Order" "java/lang/Object") ∈ lw_tbl := lw_at lw_m6 131 rfl
theorem in_X3 : ∀ w ∈ wsX30, w ∈ lw_all := lw_in wsX30 [377, 378, 379, 380, 381, 382] (by decide +kernel) (by decide +kernel)
/-! NailedOrders$Link -/
set_option maxRecDepth 100000
def RX4 : String := "NailedOrders$Link"
def TX4 : u_T := fun k => match k with
  | 0 => ("NailedOrders$Order", "number", "I", true)
  | 1 => ("NailedOrders$Order", "person", "I", true)
  | 2 => ("NailedOrders$Order", "word", "I", true)
  | 3 => ("NailedOrders$Order", "real", "F", true)
  | 4 => ("NailedOrders$Order", "strength", "F", false)
  | 5 => ("NailedOrders$Order", "fate", "I", false)
  | 6 => ("NailedOrders$Link", "other", "I", true)
  | _ => ("NailedOrders$Link", "factor", "F", true)
def tyX4 : Nat → FieldType := fun k => match k with
  | 0 => .int
  | 1 => .int
  | 2 => .int
  | 3 => .float
  | 4 => .float
  | 5 => .int
  | 6 => .int
  | _ => .float
abbrev wsX40 : List Cond := u_ws RX4 TX4 8
theorem nmX4 : ∀ a, a < 8 → ∀ b, b < 8 → a ≠ b → (TX4 a).2.1 ≠ (TX4 b).2.1 := by decide +kernel
theorem tyX4_ok : ∀ k, k < 8 → parseFieldDescriptor (TX4 k).2.2.1 = some (tyX4 k) := by decide +kernel
abbrev cX4_copy : ByteArray := prog_2_method_4_code
def yX4_copy : MethodName := ⟨RX4, "copy", "()LNailedOrders$Order;"⟩
def dkwX4_copy_1 : List UInt8 := [180, 0, 13, 42, 180, 0, 26, 42, 180, 0, 29, 183, 0, 32, 182, 0, 35, 176]
abbrev dktX4_copy_1 : List UInt8 := dkwX4_copy_1 ++ []
def dkwX4_copy_0 : List UInt8 := [42, 187, 0, 8, 89, 42, 180, 0, 17, 42, 180, 0, 20, 42, 180, 0, 23, 42, 180, 0, 7, 42]
abbrev dktX4_copy_0 : List UInt8 := dkwX4_copy_0 ++ dktX4_copy_1
theorem dksX4_copy_0 : cX4_copy.data.toList.drop 0 = dktX4_copy_0 := by decide +kernel
theorem dksX4_copy_1 : cX4_copy.data.toList.drop 22 = dktX4_copy_1 := dk_seg dksX4_copy_0 22 rfl rfl
theorem dX4_copy_0 : decode cX4_copy 0 = .ok (.aload_n 0, 1) := dk_42 (dk_at dksX4_copy_0 0 rfl rfl)
theorem dX4_copy_1 : decode cX4_copy 1 = .ok (.new 8, 3) := dk_187 0 8 (dk_at dksX4_copy_0 1 rfl rfl)
theorem dX4_copy_4 : decode cX4_copy 4 = .ok (.dup, 1) := dk_89 (dk_at dksX4_copy_0 4 rfl rfl)
theorem dX4_copy_5 : decode cX4_copy 5 = .ok (.aload_n 0, 1) := dk_42 (dk_at dksX4_copy_0 5 rfl rfl)
theorem dX4_copy_6 : decode cX4_copy 6 = .ok (.getfield 17, 3) := dk_180 0 17 (dk_at dksX4_copy_0 6 rfl rfl)
theorem dX4_copy_9 : decode cX4_copy 9 = .ok (.aload_n 0, 1) := dk_42 (dk_at dksX4_copy_0 9 rfl rfl)
theorem dX4_copy_10 : decode cX4_copy 10 = .ok (.getfield 20, 3) := dk_180 0 20 (dk_at dksX4_copy_0 10 rfl rfl)
theorem dX4_copy_13 : decode cX4_copy 13 = .ok (.aload_n 0, 1) := dk_42 (dk_at dksX4_copy_0 13 rfl rfl)
theorem dX4_copy_14 : decode cX4_copy 14 = .ok (.getfield 23, 3) := dk_180 0 23 (dk_at dksX4_copy_0 14 rfl rfl)
theorem dX4_copy_17 : decode cX4_copy 17 = .ok (.aload_n 0, 1) := dk_42 (dk_at dksX4_copy_0 17 rfl rfl)
theorem dX4_copy_18 : decode cX4_copy 18 = .ok (.getfield 7, 3) := dk_180 0 7 (dk_at dksX4_copy_0 18 rfl rfl)
theorem dX4_copy_21 : decode cX4_copy 21 = .ok (.aload_n 0, 1) := dk_42 (dk_at dksX4_copy_0 21 rfl rfl)
theorem dX4_copy_22 : decode cX4_copy 22 = .ok (.getfield 13, 3) := dk_180 0 13 (dk_at dksX4_copy_1 0 rfl rfl)
theorem dX4_copy_25 : decode cX4_copy 25 = .ok (.aload_n 0, 1) := dk_42 (dk_at dksX4_copy_1 3 rfl rfl)
theorem dX4_copy_26 : decode cX4_copy 26 = .ok (.getfield 26, 3) := dk_180 0 26 (dk_at dksX4_copy_1 4 rfl rfl)
theorem dX4_copy_29 : decode cX4_copy 29 = .ok (.aload_n 0, 1) := dk_42 (dk_at dksX4_copy_1 7 rfl rfl)
theorem dX4_copy_30 : decode cX4_copy 30 = .ok (.getfield 29, 3) := dk_180 0 29 (dk_at dksX4_copy_1 8 rfl rfl)
theorem dX4_copy_33 : decode cX4_copy 33 = .ok (.invokespecial 32, 3) := dk_183 0 32 (dk_at dksX4_copy_1 11 rfl rfl)
theorem dX4_copy_36 : decode cX4_copy 36 = .ok (.invokevirtual 35, 3) := dk_182 0 35 (dk_at dksX4_copy_1 14 rfl rfl)
theorem dX4_copy_39 : decode cX4_copy 39 = .ok (.areturn, 1) := dk_176 (dk_at dksX4_copy_1 17 rfl rfl)
abbrev cX4_init : ByteArray := prog_2_method_1_code
def yX4_init : MethodName := ⟨RX4, "<init>", "(IIIIFFF)V"⟩
def dkwX4_init_0 : List UInt8 := [42, 27, 28, 29, 23, 6, 23, 7, 183, 0, 1, 42, 21, 4, 181, 0, 7, 42, 23, 5, 181, 0, 13, 177]
abbrev dktX4_init_0 : List UInt8 := dkwX4_init_0 ++ []
theorem dksX4_init_0 : cX4_init.data.toList.drop 0 = dktX4_init_0 := by decide +kernel
theorem dX4_init_0 : decode cX4_init 0 = .ok (.aload_n 0, 1) := dk_42 (dk_at dksX4_init_0 0 rfl rfl)
theorem dX4_init_1 : decode cX4_init 1 = .ok (.iload_n 1, 1) := dk_27 (dk_at dksX4_init_0 1 rfl rfl)
theorem dX4_init_2 : decode cX4_init 2 = .ok (.iload_n 2, 1) := dk_28 (dk_at dksX4_init_0 2 rfl rfl)
theorem dX4_init_3 : decode cX4_init 3 = .ok (.iload_n 3, 1) := dk_29 (dk_at dksX4_init_0 3 rfl rfl)
theorem dX4_init_4 : decode cX4_init 4 = .ok (.fload 6, 2) := dk_23 6 (dk_at dksX4_init_0 4 rfl rfl)
theorem dX4_init_6 : decode cX4_init 6 = .ok (.fload 7, 2) := dk_23 7 (dk_at dksX4_init_0 6 rfl rfl)
theorem dX4_init_8 : decode cX4_init 8 = .ok (.invokespecial 1, 3) := dk_183 0 1 (dk_at dksX4_init_0 8 rfl rfl)
theorem dX4_init_11 : decode cX4_init 11 = .ok (.aload_n 0, 1) := dk_42 (dk_at dksX4_init_0 11 rfl rfl)
theorem dX4_init_12 : decode cX4_init 12 = .ok (.iload 4, 2) := dk_21 4 (dk_at dksX4_init_0 12 rfl rfl)
theorem dX4_init_14 : decode cX4_init 14 = .ok (.putfield 7, 3) := dk_181 0 7 (dk_at dksX4_init_0 14 rfl rfl)
theorem dX4_init_17 : decode cX4_init 17 = .ok (.aload_n 0, 1) := dk_42 (dk_at dksX4_init_0 17 rfl rfl)
theorem dX4_init_18 : decode cX4_init 18 = .ok (.fload 5, 2) := dk_23 5 (dk_at dksX4_init_0 18 rfl rfl)
theorem dX4_init_20 : decode cX4_init 20 = .ok (.putfield 13, 3) := dk_181 0 13 (dk_at dksX4_init_0 20 rfl rfl)
theorem dX4_init_23 : decode cX4_init 23 = .ok (.return_, 1) := dk_177 (dk_at dksX4_init_0 23 rfl rfl)
abbrev cX4_other : ByteArray := prog_2_method_2_code
def yX4_other : MethodName := ⟨RX4, "other", "()I"⟩
theorem dX4_other_0 : decode cX4_other 0 = .ok (.aload_n 0, 1) := by decide +kernel
theorem dX4_other_1 : decode cX4_other 1 = .ok (.getfield 7, 3) := by decide +kernel
theorem dX4_other_4 : decode cX4_other 4 = .ok (.ireturn, 1) := by decide +kernel
abbrev cX4_factor : ByteArray := prog_2_method_3_code
def yX4_factor : MethodName := ⟨RX4, "factor", "()F"⟩
theorem dX4_factor_0 : decode cX4_factor 0 = .ok (.aload_n 0, 1) := by decide +kernel
theorem dX4_factor_1 : decode cX4_factor 1 = .ok (.getfield 13, 3) := by decide +kernel
theorem dX4_factor_4 : decode cX4_factor 4 = .ok (.freturn, 1) := by decide +kernel
theorem q77 : (Jvm.Cond.initialized "NailedOrders$Link") ∈ lw_all := lw_g (lw_at lw_m1 18 rfl) rfl
theorem q165 : (Jvm.Cond.selects "NailedOrders$Link" ({ cls := "java/lang/Object", name := "getClass", desc := "()Ljava/lang/Class;" } : Jvm.MethodName) ({ cls := "java/lang/Object", name := "getClass", desc := "()Ljava/lang/Class;" } : Jvm.MethodName)) ∈ lw_all := lw_g (lw_at lw_m1 106 rfl) rfl
theorem q308 : (Jvm.Cond.selects "NailedOrders$Link" ({ cls := "NailedOrders$Order", name := "copy", desc := "()LNailedOrders$Order;" } : Jvm.MethodName) ({ cls := "NailedOrders$Link", name := "copy", desc := "()LNailedOrders$Order;" } : Jvm.MethodName)) ∈ lw_all := lw_g (lw_at lw_m2 9 rfl) rfl
theorem q309 : (Jvm.Cond.instanceMethod ({ cls := "NailedOrders$Link", name := "copy", desc := "()LNailedOrders$Order;" } : Jvm.MethodName)) ∈ lw_all := lw_g (lw_at lw_m2 10 rfl) rfl
theorem q310 : (Jvm.Cond.code ({ cls := "NailedOrders$Link", name := "copy", desc := "()LNailedOrders$Order;" } : Jvm.MethodName) prog_2_method_4_code (1 : Nat) (Option.some (Jvm.ClassFile.FieldType.object "NailedOrders$Order"))) ∈ lw_all := lw_g (lw_at lw_m2 11 rfl) rfl
theorem q311 : (Jvm.Cond.classLink "NailedOrders$Link" (8 : Nat) "NailedOrders$Link") ∈ lw_all := lw_g (lw_at lw_m2 12 rfl) rfl
theorem q312 : (Jvm.Cond.instantiable "NailedOrders$Link" (8 : Nat)) ∈ lw_all := lw_g (lw_at lw_m2 13 rfl) rfl
theorem q313 : (Jvm.Cond.methodLink "NailedOrders$Link" (32 : Nat) ({ cls := "NailedOrders$Link", name := "<init>", desc := "(IIIIFFF)V" } : Jvm.MethodName)) ∈ lw_all := lw_g (lw_at lw_m2 14 rfl) rfl
theorem q314 : (Jvm.Cond.instanceMethod ({ cls := "NailedOrders$Link", name := "<init>", desc := "(IIIIFFF)V" } : Jvm.MethodName)) ∈ lw_all := lw_g (lw_at lw_m2 15 rfl) rfl
theorem q315 : (Jvm.Cond.code ({ cls := "NailedOrders$Link", name := "<init>", desc := "(IIIIFFF)V" } : Jvm.MethodName) prog_2_method_1_code (8 : Nat) (Option.none : Option Jvm.ClassFile.FieldType)) ∈ lw_all := lw_g (lw_at lw_m2 16 rfl) rfl
theorem q316 : (Jvm.Cond.methodLink "NailedOrders$Link" (1 : Nat) ({ cls := "NailedOrders$Order", name := "<init>", desc := "(IIIFF)V" } : Jvm.MethodName)) ∈ lw_all := lw_g (lw_at lw_m2 17 rfl) rfl
theorem q320 : (Jvm.Cond.fieldLink "NailedOrders$Link" (7 : Nat) "NailedOrders$Link" "other" "I") ∈ lw_all := lw_g (lw_at lw_m2 21 rfl) rfl
theorem q321 : (Jvm.Cond.fieldLink "NailedOrders$Link" (13 : Nat) "NailedOrders$Link" "factor" "F") ∈ lw_all := lw_g (lw_at lw_m2 22 rfl) rfl
theorem q324 : (Jvm.Cond.fieldLink "NailedOrders$Link" (17 : Nat) "NailedOrders$Link" "number" "I") ∈ lw_all := lw_g (lw_at lw_m2 25 rfl) rfl
theorem q325 : (Jvm.Cond.sameField "NailedOrders$Link" "NailedOrders$Order" "number" "I") ∈ lw_all := lw_g (lw_at lw_m2 26 rfl) rfl
theorem q328 : (Jvm.Cond.fieldLink "NailedOrders$Link" (20 : Nat) "NailedOrders$Link" "person" "I") ∈ lw_all := lw_g (lw_at lw_m2 29 rfl) rfl
theorem q329 : (Jvm.Cond.sameField "NailedOrders$Link" "NailedOrders$Order" "person" "I") ∈ lw_all := lw_g (lw_at lw_m2 30 rfl) rfl
theorem q333 : (Jvm.Cond.fieldLink "NailedOrders$Link" (23 : Nat) "NailedOrders$Link" "word" "I") ∈ lw_all := lw_g (lw_at lw_m2 34 rfl) rfl
theorem q334 : (Jvm.Cond.sameField "NailedOrders$Link" "NailedOrders$Order" "word" "I") ∈ lw_all := lw_g (lw_at lw_m2 35 rfl) rfl
theorem q338 : (Jvm.Cond.fieldLink "NailedOrders$Link" (26 : Nat) "NailedOrders$Link" "real" "F") ∈ lw_all := lw_g (lw_at lw_m2 39 rfl) rfl
theorem q339 : (Jvm.Cond.sameField "NailedOrders$Link" "NailedOrders$Order" "real" "F") ∈ lw_all := lw_g (lw_at lw_m2 40 rfl) rfl
theorem q343 : (Jvm.Cond.fieldLink "NailedOrders$Link" (29 : Nat) "NailedOrders$Link" "strength" "F") ∈ lw_all := lw_g (lw_at lw_m2 44 rfl) rfl
theorem q344 : (Jvm.Cond.sameField "NailedOrders$Link" "NailedOrders$Order" "strength" "F") ∈ lw_all := lw_g (lw_at lw_m2 45 rfl) rfl
theorem q350 : (Jvm.Cond.laysFinal "NailedOrders$Link" "NailedOrders$Link" "other" "I") ∈ lw_all := lw_g (lw_at lw_m2 51 rfl) rfl
theorem q351 : (Jvm.Cond.soleField "NailedOrders$Link" "other") ∈ lw_all := lw_g (lw_at lw_m2 52 rfl) rfl
theorem q352 : (Jvm.Cond.laysFinal "NailedOrders$Link" "NailedOrders$Link" "factor" "F") ∈ lw_all := lw_g (lw_at lw_m2 53 rfl) rfl
theorem q353 : (Jvm.Cond.soleField "NailedOrders$Link" "factor") ∈ lw_all := lw_g (lw_at lw_m2 54 rfl) rfl
theorem q354 : (Jvm.Cond.laysFinal "NailedOrders$Link" "NailedOrders$Order" "number" "I") ∈ lw_all := lw_g (lw_at lw_m2 55 rfl) rfl
theorem q356 : (Jvm.Cond.laysFinal "NailedOrders$Link" "NailedOrders$Order" "person" "I") ∈ lw_all := lw_g (lw_at lw_m2 57 rfl) rfl
theorem q358 : (Jvm.Cond.laysFinal "NailedOrders$Link" "NailedOrders$Order" "word" "I") ∈ lw_all := lw_g (lw_at lw_m2 59 rfl) rfl
theorem q360 : (Jvm.Cond.laysFinal "NailedOrders$Link" "NailedOrders$Order" "real" "F") ∈ lw_all := lw_g (lw_at lw_m2 61 rfl) rfl
theorem q362 : (Jvm.Cond.lays "NailedOrders$Link" "NailedOrders$Order" "strength" "F") ∈ lw_all := lw_g (lw_at lw_m2 63 rfl) rfl
theorem q364 : (Jvm.Cond.lays "NailedOrders$Link" "NailedOrders$Order" "fate" "I") ∈ lw_all := lw_g (lw_at lw_m2 65 rfl) rfl
theorem q366 : (Jvm.Cond.superclass "NailedOrders$Link" "NailedOrders$Order") ∈ lw_all := lw_g (lw_at lw_m2 67 rfl) rfl
theorem q367 : (Jvm.Cond.methodLink "NailedOrders$Link" (35 : Nat) ({ cls := "NailedOrders$Link", name := "alike", desc := "(LNailedOrders$Order;)LNailedOrders$Order;" } : Jvm.MethodName)) ∈ lw_all := lw_g (lw_at lw_m2 68 rfl) rfl
theorem q368 : (Jvm.Cond.sameMethod "NailedOrders$Link" "NailedOrders$Order" "alike" "(LNailedOrders$Order;)LNailedOrders$Order;") ∈ lw_all := lw_g (lw_at lw_m2 69 rfl) rfl
theorem q370 : (Jvm.Cond.selects "NailedOrders$Link" ({ cls := "NailedOrders$Link", name := "alike", desc := "(LNailedOrders$Order;)LNailedOrders$Order;" } : Jvm.MethodName) ({ cls := "NailedOrders$Order", name := "alike", desc := "(LNailedOrders$Order;)LNailedOrders$Order;" } : Jvm.MethodName)) ∈ lw_all := lw_g (lw_at lw_m2 71 rfl) rfl
theorem q501 : (Jvm.Cond.selects "NailedOrders$Link" ({ cls := "NailedOrders$Order", name := "hangs", desc := "()Z" } : Jvm.MethodName) ({ cls := "NailedOrders$Order", name := "hangs", desc := "()Z" } : Jvm.MethodName)) ∈ lw_all := lw_g (lw_at lw_m2 202 rfl) rfl
theorem q521 : (Jvm.Cond.selects "NailedOrders$Link" ({ cls := "java/lang/Object", name := "equals", desc := "(Ljava/lang/Object;)Z" } : Jvm.MethodName) ({ cls := "java/lang/Object", name := "equals", desc := "(Ljava/lang/Object;)Z" } : Jvm.MethodName)) ∈ lw_all := lw_g (lw_at lw_m2 222 rfl) rfl
theorem q540 : (Jvm.Cond.selects "NailedOrders$Link" ({ cls := "NailedOrders$Order", name := "hundredths", desc := "()I" } : Jvm.MethodName) ({ cls := "NailedOrders$Order", name := "hundredths", desc := "()I" } : Jvm.MethodName)) ∈ lw_all := lw_g (lw_at lw_m3 1 rfl) rfl
theorem q918 : (Jvm.Cond.selects "NailedOrders$Link" ({ cls := "NailedOrders$Order", name := "other", desc := "()I" } : Jvm.MethodName) ({ cls := "NailedOrders$Link", name := "other", desc := "()I" } : Jvm.MethodName)) ∈ lw_all := lw_g (lw_at lw_m4 139 rfl) rfl
theorem q919 : (Jvm.Cond.instanceMethod ({ cls := "NailedOrders$Link", name := "other", desc := "()I" } : Jvm.MethodName)) ∈ lw_all := lw_g (lw_at lw_m4 140 rfl) rfl
theorem q920 : (Jvm.Cond.code ({ cls := "NailedOrders$Link", name := "other", desc := "()I" } : Jvm.MethodName) prog_2_method_2_code (1 : Nat) (Option.some Jvm.ClassFile.FieldType.int)) ∈ lw_all := lw_g (lw_at lw_m4 141 rfl) rfl
theorem q929 : (Jvm.Cond.selects "NailedOrders$Link" ({ cls := "NailedOrders$Order", name := "factor", desc := "()F" } : Jvm.MethodName) ({ cls := "NailedOrders$Link", name := "factor", desc := "()F" } : Jvm.MethodName)) ∈ lw_all := lw_g (lw_at lw_m4 150 rfl) rfl
theorem q930 : (Jvm.Cond.instanceMethod ({ cls := "NailedOrders$Link", name := "factor", desc := "()F" } : Jvm.MethodName)) ∈ lw_all := lw_g (lw_at lw_m4 151 rfl) rfl
theorem q931 : (Jvm.Cond.code ({ cls := "NailedOrders$Link", name := "factor", desc := "()F" } : Jvm.MethodName) prog_2_method_3_code (1 : Nat) (Option.some Jvm.ClassFile.FieldType.float)) ∈ lw_all := lw_g (lw_at lw_m4 152 rfl) rfl
theorem q1373 : (Jvm.Cond.selects "NailedOrders$Link" ({ cls := "NailedOrders$Order", name := "alike", desc := "(LNailedOrders$Order;)LNailedOrders$Order;" } : Jvm.MethodName) ({ cls := "NailedOrders$Order", name := "alike", desc := "(LNailedOrders$Order;)LNailedOrders$Order;" } : Jvm.MethodName)) ∈ lw_all := lw_g (lw_at lw_m6 114 rfl) rfl
theorem q1384 : (Jvm.Cond.castable "NailedOrders$Link" "NailedOrders$Order") ∈ lw_tbl := lw_at lw_m6 125 rfl
theorem q1391 : (Jvm.Cond.castable "NailedOrders$Link" "java/lang/Object") ∈ lw_tbl := lw_at lw_m6 132 rfl
theorem in_X4 : ∀ w ∈ wsX40, w ∈ lw_all := lw_in wsX40 [354, 356, 358, 360, 362, 364, 350, 352] (by decide +kernel) (by decide +kernel)
/-! NailedOrders$TextFault -/
set_option maxRecDepth 100000
def RX6 : String := "NailedOrders$TextFault"
def TX6 : u_T := fun k => match k with
  | 0 => ("java/lang/Throwable", "cause", "Ljava/lang/Throwable;", false)
  | 1 => ("java/lang/Throwable", "stackTrace", "[Ljava/lang/StackTraceElement;", false)
  | 2 => ("java/lang/Throwable", "suppressedExceptions", "Ljava/util/List;", false)
  | 3 => ("java/lang/Throwable", "detailMessage", "Ljava/lang/String;", false)
  | 4 => ("java/lang/Throwable", "backtrace", "Ljava/lang/Object;", false)
  | 5 => ("java/lang/Throwable", "depth", "I", false)
  | _ => ("NailedOrders$TextFault", "place", "I", true)
def tyX6 : Nat → FieldType := fun k => match k with
  | 0 => .object "java/lang/Throwable"
  | 1 => .array (.object "java/lang/StackTraceElement")
  | 2 => .object "java/util/List"
  | 3 => .object "java/lang/String"
  | 4 => .object "java/lang/Object"
  | 5 => .int
  | _ => .int
abbrev wsX60 : List Cond := u_ws RX6 TX6 7
theorem nmX6 : ∀ a, a < 7 → ∀ b, b < 7 → a ≠ b → (TX6 a).2.1 ≠ (TX6 b).2.1 := by decide +kernel
theorem tyX6_ok : ∀ k, k < 7 → parseFieldDescriptor (TX6 k).2.2.1 = some (tyX6 k) := by decide +kernel
abbrev cX6_init : ByteArray := prog_6_method_1_code
def yX6_init : MethodName := ⟨RX6, "<init>", "(I)V"⟩
def dkwX6_init_0 : List UInt8 := [42, 183, 0, 1, 42, 27, 181, 0, 7, 177]
abbrev dktX6_init_0 : List UInt8 := dkwX6_init_0 ++ []
theorem dksX6_init_0 : cX6_init.data.toList.drop 0 = dktX6_init_0 := by decide +kernel
theorem dX6_init_0 : decode cX6_init 0 = .ok (.aload_n 0, 1) := dk_42 (dk_at dksX6_init_0 0 rfl rfl)
theorem dX6_init_1 : decode cX6_init 1 = .ok (.invokespecial 1, 3) := dk_183 0 1 (dk_at dksX6_init_0 1 rfl rfl)
theorem dX6_init_4 : decode cX6_init 4 = .ok (.aload_n 0, 1) := dk_42 (dk_at dksX6_init_0 4 rfl rfl)
theorem dX6_init_5 : decode cX6_init 5 = .ok (.iload_n 1, 1) := dk_27 (dk_at dksX6_init_0 5 rfl rfl)
theorem dX6_init_6 : decode cX6_init 6 = .ok (.putfield 7, 3) := dk_181 0 7 (dk_at dksX6_init_0 6 rfl rfl)
theorem dX6_init_9 : decode cX6_init 9 = .ok (.return_, 1) := dk_177 (dk_at dksX6_init_0 9 rfl rfl)
theorem q83 : (Jvm.Cond.initialized "NailedOrders$TextFault") ∈ lw_all := lw_g (lw_at lw_m1 24 rfl) rfl
theorem q169 : (Jvm.Cond.selects "NailedOrders$TextFault" ({ cls := "java/lang/Object", name := "getClass", desc := "()Ljava/lang/Class;" } : Jvm.MethodName) ({ cls := "java/lang/Object", name := "getClass", desc := "()Ljava/lang/Class;" } : Jvm.MethodName)) ∈ lw_all := lw_g (lw_at lw_m1 110 rfl) rfl
theorem q525 : (Jvm.Cond.selects "NailedOrders$TextFault" ({ cls := "java/lang/Object", name := "equals", desc := "(Ljava/lang/Object;)Z" } : Jvm.MethodName) ({ cls := "java/lang/Object", name := "equals", desc := "(Ljava/lang/Object;)Z" } : Jvm.MethodName)) ∈ lw_all := lw_g (lw_at lw_m2 226 rfl) rfl
theorem q758 : (Jvm.Cond.instantiable "NailedOrders$TextFault" (7 : Nat)) ∈ lw_all := lw_g (lw_at lw_m3 219 rfl) rfl
theorem q759 : (Jvm.Cond.castable "NailedOrders$TextFault" "NailedOrders$TextFault") ∈ lw_tbl := lw_at lw_m3 220 rfl
theorem q764 : (Jvm.Cond.selects "NailedOrders$TextFault" ({ cls := "java/lang/Throwable", name := "fillInStackTrace", desc := "(I)Ljava/lang/Throwable;" } : Jvm.MethodName) ({ cls := "java/lang/Throwable", name := "fillInStackTrace", desc := "(I)Ljava/lang/Throwable;" } : Jvm.MethodName)) ∈ lw_all := lw_g (lw_at lw_m3 225 rfl) rfl
theorem q765 : (Jvm.Cond.selects "NailedOrders$TextFault" ({ cls := "java/lang/Throwable", name := "fillInStackTrace", desc := "()Ljava/lang/Throwable;" } : Jvm.MethodName) ({ cls := "java/lang/Throwable", name := "fillInStackTrace", desc := "()Ljava/lang/Throwable;" } : Jvm.MethodName)) ∈ lw_all := lw_g (lw_at lw_m3 226 rfl) rfl
theorem q766 : (Jvm.Cond.lays "NailedOrders$TextFault" "java/lang/Throwable" "cause" "Ljava/lang/Throwable;") ∈ lw_all := lw_g (lw_at lw_m3 227 rfl) rfl
theorem q768 : (Jvm.Cond.lays "NailedOrders$TextFault" "java/lang/Throwable" "stackTrace" "[Ljava/lang/StackTraceElement;") ∈ lw_all := lw_g (lw_at lw_m3 229 rfl) rfl
theorem q770 : (Jvm.Cond.lays "NailedOrders$TextFault" "java/lang/Throwable" "suppressedExceptions" "Ljava/util/List;") ∈ lw_all := lw_g (lw_at lw_m3 231 rfl) rfl
theorem q772 : (Jvm.Cond.lays "NailedOrders$TextFault" "java/lang/Throwable" "detailMessage" "Ljava/lang/String;") ∈ lw_all := lw_g (lw_at lw_m3 233 rfl) rfl
theorem q774 : (Jvm.Cond.lays "NailedOrders$TextFault" "java/lang/Throwable" "backtrace" "Ljava/lang/Object;") ∈ lw_all := lw_g (lw_at lw_m3 235 rfl) rfl
theorem q795 : (Jvm.Cond.instanceMethod ({ cls := "NailedOrders$TextFault", name := "<init>", desc := "(I)V" } : Jvm.MethodName)) ∈ lw_all := lw_g (lw_at lw_m4 16 rfl) rfl
theorem q796 : (Jvm.Cond.code ({ cls := "NailedOrders$TextFault", name := "<init>", desc := "(I)V" } : Jvm.MethodName) prog_6_method_1_code (2 : Nat) (Option.none : Option Jvm.ClassFile.FieldType)) ∈ lw_all := lw_g (lw_at lw_m4 17 rfl) rfl
theorem q797 : (Jvm.Cond.methodLink "NailedOrders$TextFault" (1 : Nat) ({ cls := "java/lang/Exception", name := "<init>", desc := "()V" } : Jvm.MethodName)) ∈ lw_all := lw_g (lw_at lw_m4 18 rfl) rfl
theorem q801 : (Jvm.Cond.fieldLink "NailedOrders$TextFault" (7 : Nat) "NailedOrders$TextFault" "place" "I") ∈ lw_all := lw_g (lw_at lw_m4 22 rfl) rfl
theorem q807 : (Jvm.Cond.laysFinal "NailedOrders$TextFault" "NailedOrders$TextFault" "place" "I") ∈ lw_all := lw_g (lw_at lw_m4 28 rfl) rfl
theorem q808 : (Jvm.Cond.soleField "NailedOrders$TextFault" "place") ∈ lw_all := lw_g (lw_at lw_m4 29 rfl) rfl
theorem q813 : (Jvm.Cond.lays "NailedOrders$TextFault" "java/lang/Throwable" "depth" "I") ∈ lw_all := lw_g (lw_at lw_m4 34 rfl) rfl
theorem q816 : (Jvm.Cond.superclass "NailedOrders$TextFault" "java/lang/Exception") ∈ lw_all := lw_g (lw_at lw_m4 37 rfl) rfl
theorem q1393 : (Jvm.Cond.castable "NailedOrders$TextFault" "java/lang/Object") ∈ lw_tbl := lw_at lw_m6 134 rfl
theorem in_X6 : ∀ w ∈ wsX60, w ∈ lw_all := lw_in wsX60 [766, 768, 770, 772, 774, 813, 807] (by decide +kernel) (by decide +kernel)
/-! NailedOrders$Told -/
set_option maxRecDepth 100000
def RX7 : String := "NailedOrders$Told"
def TX7 : u_T := fun k => match k with
  | 0 => ("NailedOrders$Told", "word", "I", true)
  | 1 => ("NailedOrders$Told", "other", "I", true)
  | 2 => ("NailedOrders$Told", "factor", "F", true)
  | _ => ("NailedOrders$Told", "number", "F", true)
def tyX7 : Nat → FieldType := fun k => match k with
  | 0 => .int
  | 1 => .int
  | 2 => .float
  | _ => .float
abbrev wsX70 : List Cond := u_ws RX7 TX7 4
theorem nmX7 : ∀ a, a < 4 → ∀ b, b < 4 → a ≠ b → (TX7 a).2.1 ≠ (TX7 b).2.1 := by decide +kernel
theorem tyX7_ok : ∀ k, k < 4 → parseFieldDescriptor (TX7 k).2.2.1 = some (tyX7 k) := by decide +kernel
abbrev cX7_init : ByteArray := prog_7_method_1_code
def yX7_init : MethodName := ⟨RX7, "<init>", "(IIFF)V"⟩
def dkwX7_init_1 : List UInt8 := [181, 0, 22, 177]
abbrev dktX7_init_1 : List UInt8 := dkwX7_init_1 ++ []
def dkwX7_init_0 : List UInt8 := [42, 183, 0, 3, 42, 27, 181, 0, 9, 42, 28, 181, 0, 15, 42, 37, 181, 0, 18, 42, 23, 4]
abbrev dktX7_init_0 : List UInt8 := dkwX7_init_0 ++ dktX7_init_1
theorem dksX7_init_0 : cX7_init.data.toList.drop 0 = dktX7_init_0 := by decide +kernel
theorem dksX7_init_1 : cX7_init.data.toList.drop 22 = dktX7_init_1 := dk_seg dksX7_init_0 22 rfl rfl
theorem dX7_init_0 : decode cX7_init 0 = .ok (.aload_n 0, 1) := dk_42 (dk_at dksX7_init_0 0 rfl rfl)
theorem dX7_init_1 : decode cX7_init 1 = .ok (.invokespecial 3, 3) := dk_183 0 3 (dk_at dksX7_init_0 1 rfl rfl)
theorem dX7_init_4 : decode cX7_init 4 = .ok (.aload_n 0, 1) := dk_42 (dk_at dksX7_init_0 4 rfl rfl)
theorem dX7_init_5 : decode cX7_init 5 = .ok (.iload_n 1, 1) := dk_27 (dk_at dksX7_init_0 5 rfl rfl)
theorem dX7_init_6 : decode cX7_init 6 = .ok (.putfield 9, 3) := dk_181 0 9 (dk_at dksX7_init_0 6 rfl rfl)
theorem dX7_init_9 : decode cX7_init 9 = .ok (.aload_n 0, 1) := dk_42 (dk_at dksX7_init_0 9 rfl rfl)
theorem dX7_init_10 : decode cX7_init 10 = .ok (.iload_n 2, 1) := dk_28 (dk_at dksX7_init_0 10 rfl rfl)
theorem dX7_init_11 : decode cX7_init 11 = .ok (.putfield 15, 3) := dk_181 0 15 (dk_at dksX7_init_0 11 rfl rfl)
theorem dX7_init_14 : decode cX7_init 14 = .ok (.aload_n 0, 1) := dk_42 (dk_at dksX7_init_0 14 rfl rfl)
theorem dX7_init_15 : decode cX7_init 15 = .ok (.fload_n 3, 1) := dk_37 (dk_at dksX7_init_0 15 rfl rfl)
theorem dX7_init_16 : decode cX7_init 16 = .ok (.putfield 18, 3) := dk_181 0 18 (dk_at dksX7_init_0 16 rfl rfl)
theorem dX7_init_19 : decode cX7_init 19 = .ok (.aload_n 0, 1) := dk_42 (dk_at dksX7_init_0 19 rfl rfl)
theorem dX7_init_20 : decode cX7_init 20 = .ok (.fload 4, 2) := dk_23 4 (dk_at dksX7_init_0 20 rfl rfl)
theorem dX7_init_22 : decode cX7_init 22 = .ok (.putfield 22, 3) := dk_181 0 22 (dk_at dksX7_init_1 0 rfl rfl)
theorem dX7_init_25 : decode cX7_init 25 = .ok (.return_, 1) := dk_177 (dk_at dksX7_init_1 3 rfl rfl)
abbrev cX7_nail : ByteArray := prog_7_method_2_code
def yX7_nail : MethodName := ⟨RX7, "nail", "(LNailedOrders$State;II)I"⟩
def dkwX7_nail_2 : List UInt8 := [184, 0, 25, 21, 4, 29, 182, 0, 37, 172]
abbrev dktX7_nail_2 : List UInt8 := dkwX7_nail_2 ++ []
def dkwX7_nail_1 : List UInt8 := [21, 4, 29, 182, 0, 31, 167, 0, 26, 43, 28, 42, 180, 0, 9, 42, 180, 0, 15, 42, 180, 0, 18]
abbrev dktX7_nail_1 : List UInt8 := dkwX7_nail_1 ++ dktX7_nail_2
def dkwX7_nail_0 : List UInt8 := [42, 180, 0, 22, 184, 0, 25, 54, 4, 42, 180, 0, 15, 16, 251, 160, 0, 18, 43, 28, 42, 180, 0, 9]
abbrev dktX7_nail_0 : List UInt8 := dkwX7_nail_0 ++ dktX7_nail_1
theorem dksX7_nail_0 : cX7_nail.data.toList.drop 0 = dktX7_nail_0 := by decide +kernel
theorem dksX7_nail_1 : cX7_nail.data.toList.drop 24 = dktX7_nail_1 := dk_seg dksX7_nail_0 24 rfl rfl
theorem dksX7_nail_2 : cX7_nail.data.toList.drop 47 = dktX7_nail_2 := dk_seg dksX7_nail_1 23 rfl rfl
theorem dX7_nail_0 : decode cX7_nail 0 = .ok (.aload_n 0, 1) := dk_42 (dk_at dksX7_nail_0 0 rfl rfl)
theorem dX7_nail_1 : decode cX7_nail 1 = .ok (.getfield 22, 3) := dk_180 0 22 (dk_at dksX7_nail_0 1 rfl rfl)
theorem dX7_nail_4 : decode cX7_nail 4 = .ok (.invokestatic 25, 3) := dk_184 0 25 (dk_at dksX7_nail_0 4 rfl rfl)
theorem dX7_nail_7 : decode cX7_nail 7 = .ok (.istore 4, 2) := dk_54 4 (dk_at dksX7_nail_0 7 rfl rfl)
theorem dX7_nail_9 : decode cX7_nail 9 = .ok (.aload_n 0, 1) := dk_42 (dk_at dksX7_nail_0 9 rfl rfl)
theorem dX7_nail_10 : decode cX7_nail 10 = .ok (.getfield 15, 3) := dk_180 0 15 (dk_at dksX7_nail_0 10 rfl rfl)
theorem dX7_nail_13 : decode cX7_nail 13 = .ok (.bipush (-5), 2) := dk_16 251 (dk_at dksX7_nail_0 13 rfl rfl)
theorem dX7_nail_15 : decode cX7_nail 15 = .ok (.if_icmp .ne 18, 3) := dk_160 0 18 (dk_at dksX7_nail_0 15 rfl rfl)
theorem dX7_nail_18 : decode cX7_nail 18 = .ok (.aload_n 1, 1) := dk_43 (dk_at dksX7_nail_0 18 rfl rfl)
theorem dX7_nail_19 : decode cX7_nail 19 = .ok (.iload_n 2, 1) := dk_28 (dk_at dksX7_nail_0 19 rfl rfl)
theorem dX7_nail_20 : decode cX7_nail 20 = .ok (.aload_n 0, 1) := dk_42 (dk_at dksX7_nail_0 20 rfl rfl)
theorem dX7_nail_21 : decode cX7_nail 21 = .ok (.getfield 9, 3) := dk_180 0 9 (dk_at dksX7_nail_0 21 rfl rfl)
theorem dX7_nail_24 : decode cX7_nail 24 = .ok (.iload 4, 2) := dk_21 4 (dk_at dksX7_nail_1 0 rfl rfl)
theorem dX7_nail_26 : decode cX7_nail 26 = .ok (.iload_n 3, 1) := dk_29 (dk_at dksX7_nail_1 2 rfl rfl)
theorem dX7_nail_27 : decode cX7_nail 27 = .ok (.invokevirtual 31, 3) := dk_182 0 31 (dk_at dksX7_nail_1 3 rfl rfl)
theorem dX7_nail_30 : decode cX7_nail 30 = .ok (.goto 26, 3) := dk_167 0 26 (dk_at dksX7_nail_1 6 rfl rfl)
theorem dX7_nail_33 : decode cX7_nail 33 = .ok (.aload_n 1, 1) := dk_43 (dk_at dksX7_nail_1 9 rfl rfl)
theorem dX7_nail_34 : decode cX7_nail 34 = .ok (.iload_n 2, 1) := dk_28 (dk_at dksX7_nail_1 10 rfl rfl)
theorem dX7_nail_35 : decode cX7_nail 35 = .ok (.aload_n 0, 1) := dk_42 (dk_at dksX7_nail_1 11 rfl rfl)
theorem dX7_nail_36 : decode cX7_nail 36 = .ok (.getfield 9, 3) := dk_180 0 9 (dk_at dksX7_nail_1 12 rfl rfl)
theorem dX7_nail_39 : decode cX7_nail 39 = .ok (.aload_n 0, 1) := dk_42 (dk_at dksX7_nail_1 15 rfl rfl)
theorem dX7_nail_40 : decode cX7_nail 40 = .ok (.getfield 15, 3) := dk_180 0 15 (dk_at dksX7_nail_1 16 rfl rfl)
theorem dX7_nail_43 : decode cX7_nail 43 = .ok (.aload_n 0, 1) := dk_42 (dk_at dksX7_nail_1 19 rfl rfl)
theorem dX7_nail_44 : decode cX7_nail 44 = .ok (.getfield 18, 3) := dk_180 0 18 (dk_at dksX7_nail_1 20 rfl rfl)
theorem dX7_nail_47 : decode cX7_nail 47 = .ok (.invokestatic 25, 3) := dk_184 0 25 (dk_at dksX7_nail_2 0 rfl rfl)
theorem dX7_nail_50 : decode cX7_nail 50 = .ok (.iload 4, 2) := dk_21 4 (dk_at dksX7_nail_2 3 rfl rfl)
theorem dX7_nail_52 : decode cX7_nail 52 = .ok (.iload_n 3, 1) := dk_29 (dk_at dksX7_nail_2 5 rfl rfl)
theorem dX7_nail_53 : decode cX7_nail 53 = .ok (.invokevirtual 37, 3) := dk_182 0 37 (dk_at dksX7_nail_2 6 rfl rfl)
theorem dX7_nail_56 : decode cX7_nail 56 = .ok (.ireturn, 1) := dk_172 (dk_at dksX7_nail_2 9 rfl rfl)
theorem q84 : (Jvm.Cond.initialized "NailedOrders$Told") ∈ lw_all := lw_g (lw_at lw_m1 25 rfl) rfl
theorem q170 : (Jvm.Cond.selects "NailedOrders$Told" ({ cls := "java/lang/Object", name := "getClass", desc := "()Ljava/lang/Class;" } : Jvm.MethodName) ({ cls := "java/lang/Object", name := "getClass", desc := "()Ljava/lang/Class;" } : Jvm.MethodName)) ∈ lw_all := lw_g (lw_at lw_m1 111 rfl) rfl
theorem q526 : (Jvm.Cond.selects "NailedOrders$Told" ({ cls := "java/lang/Object", name := "equals", desc := "(Ljava/lang/Object;)Z" } : Jvm.MethodName) ({ cls := "java/lang/Object", name := "equals", desc := "(Ljava/lang/Object;)Z" } : Jvm.MethodName)) ∈ lw_all := lw_g (lw_at lw_m2 227 rfl) rfl
theorem q830 : (Jvm.Cond.instantiable "NailedOrders$Told" (4 : Nat)) ∈ lw_all := lw_g (lw_at lw_m4 51 rfl) rfl
theorem q837 : (Jvm.Cond.instanceMethod ({ cls := "NailedOrders$Told", name := "<init>", desc := "(IIFF)V" } : Jvm.MethodName)) ∈ lw_all := lw_g (lw_at lw_m4 58 rfl) rfl
theorem q838 : (Jvm.Cond.code ({ cls := "NailedOrders$Told", name := "<init>", desc := "(IIFF)V" } : Jvm.MethodName) prog_7_method_1_code (5 : Nat) (Option.none : Option Jvm.ClassFile.FieldType)) ∈ lw_all := lw_g (lw_at lw_m4 59 rfl) rfl
theorem q839 : (Jvm.Cond.methodLink "NailedOrders$Told" (3 : Nat) ({ cls := "java/lang/Object", name := "<init>", desc := "()V" } : Jvm.MethodName)) ∈ lw_all := lw_g (lw_at lw_m4 60 rfl) rfl
theorem q840 : (Jvm.Cond.fieldLink "NailedOrders$Told" (9 : Nat) "NailedOrders$Told" "word" "I") ∈ lw_all := lw_g (lw_at lw_m4 61 rfl) rfl
theorem q841 : (Jvm.Cond.fieldLink "NailedOrders$Told" (15 : Nat) "NailedOrders$Told" "other" "I") ∈ lw_all := lw_g (lw_at lw_m4 62 rfl) rfl
theorem q842 : (Jvm.Cond.fieldLink "NailedOrders$Told" (18 : Nat) "NailedOrders$Told" "factor" "F") ∈ lw_all := lw_g (lw_at lw_m4 63 rfl) rfl
theorem q843 : (Jvm.Cond.fieldLink "NailedOrders$Told" (22 : Nat) "NailedOrders$Told" "number" "F") ∈ lw_all := lw_g (lw_at lw_m4 64 rfl) rfl
theorem q844 : (Jvm.Cond.laysFinal "NailedOrders$Told" "NailedOrders$Told" "word" "I") ∈ lw_all := lw_g (lw_at lw_m4 65 rfl) rfl
theorem q845 : (Jvm.Cond.soleField "NailedOrders$Told" "word") ∈ lw_all := lw_g (lw_at lw_m4 66 rfl) rfl
theorem q846 : (Jvm.Cond.laysFinal "NailedOrders$Told" "NailedOrders$Told" "other" "I") ∈ lw_all := lw_g (lw_at lw_m4 67 rfl) rfl
theorem q847 : (Jvm.Cond.soleField "NailedOrders$Told" "other") ∈ lw_all := lw_g (lw_at lw_m4 68 rfl) rfl
theorem q848 : (Jvm.Cond.laysFinal "NailedOrders$Told" "NailedOrders$Told" "factor" "F") ∈ lw_all := lw_g (lw_at lw_m4 69 rfl) rfl
theorem q849 : (Jvm.Cond.soleField "NailedOrders$Told" "factor") ∈ lw_all := lw_g (lw_at lw_m4 70 rfl) rfl
theorem q850 : (Jvm.Cond.laysFinal "NailedOrders$Told" "NailedOrders$Told" "number" "F") ∈ lw_all := lw_g (lw_at lw_m4 71 rfl) rfl
theorem q851 : (Jvm.Cond.soleField "NailedOrders$Told" "number") ∈ lw_all := lw_g (lw_at lw_m4 72 rfl) rfl
theorem q852 : (Jvm.Cond.superclass "NailedOrders$Told" "java/lang/Object") ∈ lw_all := lw_g (lw_at lw_m4 73 rfl) rfl
theorem q857 : (Jvm.Cond.instanceMethod ({ cls := "NailedOrders$Told", name := "nail", desc := "(LNailedOrders$State;II)I" } : Jvm.MethodName)) ∈ lw_all := lw_g (lw_at lw_m4 78 rfl) rfl
theorem q858 : (Jvm.Cond.selects "NailedOrders$Told" ({ cls := "NailedOrders$Told", name := "nail", desc := "(LNailedOrders$State;II)I" } : Jvm.MethodName) ({ cls := "NailedOrders$Told", name := "nail", desc := "(LNailedOrders$State;II)I" } : Jvm.MethodName)) ∈ lw_all := lw_g (lw_at lw_m4 79 rfl) rfl
theorem q859 : (Jvm.Cond.code ({ cls := "NailedOrders$Told", name := "nail", desc := "(LNailedOrders$State;II)I" } : Jvm.MethodName) prog_7_method_2_code (5 : Nat) (Option.some Jvm.ClassFile.FieldType.int)) ∈ lw_all := lw_g (lw_at lw_m4 80 rfl) rfl
theorem q860 : (Jvm.Cond.methodLink "NailedOrders$Told" (25 : Nat) ({ cls := "java/lang/Float", name := "floatToRawIntBits", desc := "(F)I" } : Jvm.MethodName)) ∈ lw_all := lw_g (lw_at lw_m4 81 rfl) rfl
theorem q861 : (Jvm.Cond.methodLink "NailedOrders$Told" (31 : Nat) ({ cls := "NailedOrders$State", name := "nail", desc := "(IIII)I" } : Jvm.MethodName)) ∈ lw_all := lw_g (lw_at lw_m4 82 rfl) rfl
theorem q862 : (Jvm.Cond.methodLink "NailedOrders$Told" (37 : Nat) ({ cls := "NailedOrders$State", name := "nailLink", desc := "(IIIIII)I" } : Jvm.MethodName)) ∈ lw_all := lw_g (lw_at lw_m4 83 rfl) rfl
theorem q1394 : (Jvm.Cond.castable "NailedOrders$Told" "java/lang/Object") ∈ lw_tbl := lw_at lw_m6 135 rfl
theorem in_X7 : ∀ w ∈ wsX70, w ∈ lw_all := lw_in wsX70 [844, 846, 848, 850] (by decide +kernel) (by decide +kernel)
/-! NailedOrders$Reader -/
set_option maxRecDepth 100000
def RX5 : String := "NailedOrders$Reader"
def TX5 : u_T := fun k => match k with
  | 0 => ("NailedOrders$Reader", "signs", "Ljava/lang/CharSequence;", true)
  | _ => ("NailedOrders$Reader", "place", "I", false)
def tyX5 : Nat → FieldType := fun k => match k with
  | 0 => .object "java/lang/CharSequence"
  | _ => .int
abbrev wsX50 : List Cond := u_ws RX5 TX5 2
theorem nmX5 : ∀ a, a < 2 → ∀ b, b < 2 → a ≠ b → (TX5 a).2.1 ≠ (TX5 b).2.1 := by decide +kernel
theorem tyX5_ok : ∀ k, k < 2 → parseFieldDescriptor (TX5 k).2.2.1 = some (tyX5 k) := by decide +kernel
abbrev cX5_init : ByteArray := prog_4_method_1_code
def yX5_init : MethodName := ⟨RX5, "<init>", "(Ljava/lang/CharSequence;)V"⟩
def dkwX5_init_0 : List UInt8 := [42, 183, 0, 3, 42, 43, 181, 0, 9, 177]
abbrev dktX5_init_0 : List UInt8 := dkwX5_init_0 ++ []
theorem dksX5_init_0 : cX5_init.data.toList.drop 0 = dktX5_init_0 := by decide +kernel
theorem dX5_init_0 : decode cX5_init 0 = .ok (.aload_n 0, 1) := dk_42 (dk_at dksX5_init_0 0 rfl rfl)
theorem dX5_init_1 : decode cX5_init 1 = .ok (.invokespecial 3, 3) := dk_183 0 3 (dk_at dksX5_init_0 1 rfl rfl)
theorem dX5_init_4 : decode cX5_init 4 = .ok (.aload_n 0, 1) := dk_42 (dk_at dksX5_init_0 4 rfl rfl)
theorem dX5_init_5 : decode cX5_init 5 = .ok (.aload_n 1, 1) := dk_43 (dk_at dksX5_init_0 5 rfl rfl)
theorem dX5_init_6 : decode cX5_init 6 = .ok (.putfield 9, 3) := dk_181 0 9 (dk_at dksX5_init_0 6 rfl rfl)
theorem dX5_init_9 : decode cX5_init 9 = .ok (.return_, 1) := dk_177 (dk_at dksX5_init_0 9 rfl rfl)
abbrev cX5_orders : ByteArray := prog_4_method_12_code
def yX5_orders : MethodName := ⟨RX5, "orders", "()Ljava/util/List;"⟩
def dkwX5_orders_2 : List UInt8 := [176]
abbrev dktX5_orders_2 : List UInt8 := dkwX5_orders_2 ++ []
def dkwX5_orders_1 : List UInt8 := [154, 0, 23, 42, 16, 59, 182, 0, 51, 43, 42, 182, 0, 75, 185, 0, 79, 2, 0, 87, 167, 255, 232, 43]
abbrev dktX5_orders_1 : List UInt8 := dkwX5_orders_1 ++ dktX5_orders_2
def dkwX5_orders_0 : List UInt8 := [187, 0, 72, 89, 183, 0, 74, 76, 43, 42, 182, 0, 75, 185, 0, 79, 2, 0, 87, 42, 182, 0, 25]
abbrev dktX5_orders_0 : List UInt8 := dkwX5_orders_0 ++ dktX5_orders_1
theorem dksX5_orders_0 : cX5_orders.data.toList.drop 0 = dktX5_orders_0 := by decide +kernel
theorem dksX5_orders_1 : cX5_orders.data.toList.drop 23 = dktX5_orders_1 := dk_seg dksX5_orders_0 23 rfl rfl
theorem dksX5_orders_2 : cX5_orders.data.toList.drop 47 = dktX5_orders_2 := dk_seg dksX5_orders_1 24 rfl rfl
theorem dX5_orders_0 : decode cX5_orders 0 = .ok (.new 72, 3) := dk_187 0 72 (dk_at dksX5_orders_0 0 rfl rfl)
theorem dX5_orders_3 : decode cX5_orders 3 = .ok (.dup, 1) := dk_89 (dk_at dksX5_orders_0 3 rfl rfl)
theorem dX5_orders_4 : decode cX5_orders 4 = .ok (.invokespecial 74, 3) := dk_183 0 74 (dk_at dksX5_orders_0 4 rfl rfl)
theorem dX5_orders_7 : decode cX5_orders 7 = .ok (.astore_n 1, 1) := dk_76 (dk_at dksX5_orders_0 7 rfl rfl)
theorem dX5_orders_8 : decode cX5_orders 8 = .ok (.aload_n 1, 1) := dk_43 (dk_at dksX5_orders_0 8 rfl rfl)
theorem dX5_orders_9 : decode cX5_orders 9 = .ok (.aload_n 0, 1) := dk_42 (dk_at dksX5_orders_0 9 rfl rfl)
theorem dX5_orders_10 : decode cX5_orders 10 = .ok (.invokevirtual 75, 3) := dk_182 0 75 (dk_at dksX5_orders_0 10 rfl rfl)
theorem dX5_orders_13 : decode cX5_orders 13 = .ok (.invokeinterface 79 2, 5) := by decide +kernel
theorem dX5_orders_18 : decode cX5_orders 18 = .ok (.pop, 1) := dk_87 (dk_at dksX5_orders_0 18 rfl rfl)
theorem dX5_orders_19 : decode cX5_orders 19 = .ok (.aload_n 0, 1) := dk_42 (dk_at dksX5_orders_0 19 rfl rfl)
theorem dX5_orders_20 : decode cX5_orders 20 = .ok (.invokevirtual 25, 3) := dk_182 0 25 (dk_at dksX5_orders_0 20 rfl rfl)
theorem dX5_orders_23 : decode cX5_orders 23 = .ok (.ifCond .ne 23, 3) := dk_154 0 23 (dk_at dksX5_orders_1 0 rfl rfl)
theorem dX5_orders_26 : decode cX5_orders 26 = .ok (.aload_n 0, 1) := dk_42 (dk_at dksX5_orders_1 3 rfl rfl)
theorem dX5_orders_27 : decode cX5_orders 27 = .ok (.bipush 59, 2) := dk_16 59 (dk_at dksX5_orders_1 4 rfl rfl)
theorem dX5_orders_29 : decode cX5_orders 29 = .ok (.invokevirtual 51, 3) := dk_182 0 51 (dk_at dksX5_orders_1 6 rfl rfl)
theorem dX5_orders_32 : decode cX5_orders 32 = .ok (.aload_n 1, 1) := dk_43 (dk_at dksX5_orders_1 9 rfl rfl)
theorem dX5_orders_33 : decode cX5_orders 33 = .ok (.aload_n 0, 1) := dk_42 (dk_at dksX5_orders_1 10 rfl rfl)
theorem dX5_orders_34 : decode cX5_orders 34 = .ok (.invokevirtual 75, 3) := dk_182 0 75 (dk_at dksX5_orders_1 11 rfl rfl)
theorem dX5_orders_37 : decode cX5_orders 37 = .ok (.invokeinterface 79 2, 5) := by decide +kernel
theorem dX5_orders_42 : decode cX5_orders 42 = .ok (.pop, 1) := dk_87 (dk_at dksX5_orders_1 19 rfl rfl)
theorem dX5_orders_43 : decode cX5_orders 43 = .ok (.goto (-24), 3) := dk_167 255 232 (dk_at dksX5_orders_1 20 rfl rfl)
theorem dX5_orders_46 : decode cX5_orders 46 = .ok (.aload_n 1, 1) := dk_43 (dk_at dksX5_orders_1 23 rfl rfl)
theorem dX5_orders_47 : decode cX5_orders 47 = .ok (.areturn, 1) := dk_176 (dk_at dksX5_orders_2 0 rfl rfl)
abbrev cX5_order : ByteArray := prog_4_method_11_code
def yX5_order : MethodName := ⟨RX5, "order", "()LNailedOrders$Told;"⟩
def dkwX5_order_3 : List UInt8 := [167, 0, 4, 11, 183, 0, 69, 176]
abbrev dktX5_order_3 : List UInt8 := dkwX5_order_3 ++ []
def dkwX5_order_2 : List UInt8 := [182, 0, 65, 70, 187, 0, 63, 89, 27, 28, 37, 42, 16, 43, 182, 0, 37, 153, 0, 10, 42, 182, 0, 65]
abbrev dktX5_order_2 : List UInt8 := dkwX5_order_2 ++ dktX5_order_3
def dkwX5_order_1 : List UInt8 := [27, 16, 251, 12, 42, 182, 0, 65, 183, 0, 69, 176, 42, 182, 0, 60, 61, 42, 16, 42, 182, 0, 51, 42]
abbrev dktX5_order_1 : List UInt8 := dkwX5_order_1 ++ dktX5_order_2
def dkwX5_order_0 : List UInt8 := [42, 182, 0, 60, 60, 42, 16, 61, 182, 0, 51, 42, 16, 119, 182, 0, 33, 154, 0, 19, 187, 0, 63, 89]
abbrev dktX5_order_0 : List UInt8 := dkwX5_order_0 ++ dktX5_order_1
theorem dksX5_order_0 : cX5_order.data.toList.drop 0 = dktX5_order_0 := by decide +kernel
theorem dksX5_order_1 : cX5_order.data.toList.drop 24 = dktX5_order_1 := dk_seg dksX5_order_0 24 rfl rfl
theorem dksX5_order_2 : cX5_order.data.toList.drop 48 = dktX5_order_2 := dk_seg dksX5_order_1 24 rfl rfl
theorem dksX5_order_3 : cX5_order.data.toList.drop 72 = dktX5_order_3 := dk_seg dksX5_order_2 24 rfl rfl
theorem dX5_order_0 : decode cX5_order 0 = .ok (.aload_n 0, 1) := dk_42 (dk_at dksX5_order_0 0 rfl rfl)
theorem dX5_order_1 : decode cX5_order 1 = .ok (.invokevirtual 60, 3) := dk_182 0 60 (dk_at dksX5_order_0 1 rfl rfl)
theorem dX5_order_4 : decode cX5_order 4 = .ok (.istore_n 1, 1) := dk_60 (dk_at dksX5_order_0 4 rfl rfl)
theorem dX5_order_5 : decode cX5_order 5 = .ok (.aload_n 0, 1) := dk_42 (dk_at dksX5_order_0 5 rfl rfl)
theorem dX5_order_6 : decode cX5_order 6 = .ok (.bipush 61, 2) := dk_16 61 (dk_at dksX5_order_0 6 rfl rfl)
theorem dX5_order_8 : decode cX5_order 8 = .ok (.invokevirtual 51, 3) := dk_182 0 51 (dk_at dksX5_order_0 8 rfl rfl)
theorem dX5_order_11 : decode cX5_order 11 = .ok (.aload_n 0, 1) := dk_42 (dk_at dksX5_order_0 11 rfl rfl)
theorem dX5_order_12 : decode cX5_order 12 = .ok (.bipush 119, 2) := dk_16 119 (dk_at dksX5_order_0 12 rfl rfl)
theorem dX5_order_14 : decode cX5_order 14 = .ok (.invokevirtual 33, 3) := dk_182 0 33 (dk_at dksX5_order_0 14 rfl rfl)
theorem dX5_order_17 : decode cX5_order 17 = .ok (.ifCond .ne 19, 3) := dk_154 0 19 (dk_at dksX5_order_0 17 rfl rfl)
theorem dX5_order_20 : decode cX5_order 20 = .ok (.new 63, 3) := dk_187 0 63 (dk_at dksX5_order_0 20 rfl rfl)
theorem dX5_order_23 : decode cX5_order 23 = .ok (.dup, 1) := dk_89 (dk_at dksX5_order_0 23 rfl rfl)
theorem dX5_order_24 : decode cX5_order 24 = .ok (.iload_n 1, 1) := dk_27 (dk_at dksX5_order_1 0 rfl rfl)
theorem dX5_order_25 : decode cX5_order 25 = .ok (.bipush (-5), 2) := dk_16 251 (dk_at dksX5_order_1 1 rfl rfl)
theorem dX5_order_27 : decode cX5_order 27 = .ok (.fconst 1, 1) := dk_12 (dk_at dksX5_order_1 3 rfl rfl)
theorem dX5_order_28 : decode cX5_order 28 = .ok (.aload_n 0, 1) := dk_42 (dk_at dksX5_order_1 4 rfl rfl)
theorem dX5_order_29 : decode cX5_order 29 = .ok (.invokevirtual 65, 3) := dk_182 0 65 (dk_at dksX5_order_1 5 rfl rfl)
theorem dX5_order_32 : decode cX5_order 32 = .ok (.invokespecial 69, 3) := dk_183 0 69 (dk_at dksX5_order_1 8 rfl rfl)
theorem dX5_order_35 : decode cX5_order 35 = .ok (.areturn, 1) := dk_176 (dk_at dksX5_order_1 11 rfl rfl)
theorem dX5_order_36 : decode cX5_order 36 = .ok (.aload_n 0, 1) := dk_42 (dk_at dksX5_order_1 12 rfl rfl)
theorem dX5_order_37 : decode cX5_order 37 = .ok (.invokevirtual 60, 3) := dk_182 0 60 (dk_at dksX5_order_1 13 rfl rfl)
theorem dX5_order_40 : decode cX5_order 40 = .ok (.istore_n 2, 1) := dk_61 (dk_at dksX5_order_1 16 rfl rfl)
theorem dX5_order_41 : decode cX5_order 41 = .ok (.aload_n 0, 1) := dk_42 (dk_at dksX5_order_1 17 rfl rfl)
theorem dX5_order_42 : decode cX5_order 42 = .ok (.bipush 42, 2) := dk_16 42 (dk_at dksX5_order_1 18 rfl rfl)
theorem dX5_order_44 : decode cX5_order 44 = .ok (.invokevirtual 51, 3) := dk_182 0 51 (dk_at dksX5_order_1 20 rfl rfl)
theorem dX5_order_47 : decode cX5_order 47 = .ok (.aload_n 0, 1) := dk_42 (dk_at dksX5_order_1 23 rfl rfl)
theorem dX5_order_48 : decode cX5_order 48 = .ok (.invokevirtual 65, 3) := dk_182 0 65 (dk_at dksX5_order_2 0 rfl rfl)
theorem dX5_order_51 : decode cX5_order 51 = .ok (.fstore_n 3, 1) := dk_70 (dk_at dksX5_order_2 3 rfl rfl)
theorem dX5_order_52 : decode cX5_order 52 = .ok (.new 63, 3) := dk_187 0 63 (dk_at dksX5_order_2 4 rfl rfl)
theorem dX5_order_55 : decode cX5_order 55 = .ok (.dup, 1) := dk_89 (dk_at dksX5_order_2 7 rfl rfl)
theorem dX5_order_56 : decode cX5_order 56 = .ok (.iload_n 1, 1) := dk_27 (dk_at dksX5_order_2 8 rfl rfl)
theorem dX5_order_57 : decode cX5_order 57 = .ok (.iload_n 2, 1) := dk_28 (dk_at dksX5_order_2 9 rfl rfl)
theorem dX5_order_58 : decode cX5_order 58 = .ok (.fload_n 3, 1) := dk_37 (dk_at dksX5_order_2 10 rfl rfl)
theorem dX5_order_59 : decode cX5_order 59 = .ok (.aload_n 0, 1) := dk_42 (dk_at dksX5_order_2 11 rfl rfl)
theorem dX5_order_60 : decode cX5_order 60 = .ok (.bipush 43, 2) := dk_16 43 (dk_at dksX5_order_2 12 rfl rfl)
theorem dX5_order_62 : decode cX5_order 62 = .ok (.invokevirtual 37, 3) := dk_182 0 37 (dk_at dksX5_order_2 14 rfl rfl)
theorem dX5_order_65 : decode cX5_order 65 = .ok (.ifCond .eq 10, 3) := dk_153 0 10 (dk_at dksX5_order_2 17 rfl rfl)
theorem dX5_order_68 : decode cX5_order 68 = .ok (.aload_n 0, 1) := dk_42 (dk_at dksX5_order_2 20 rfl rfl)
theorem dX5_order_69 : decode cX5_order 69 = .ok (.invokevirtual 65, 3) := dk_182 0 65 (dk_at dksX5_order_2 21 rfl rfl)
theorem dX5_order_72 : decode cX5_order 72 = .ok (.goto 4, 3) := dk_167 0 4 (dk_at dksX5_order_3 0 rfl rfl)
theorem dX5_order_75 : decode cX5_order 75 = .ok (.fconst 0, 1) := dk_11 (dk_at dksX5_order_3 3 rfl rfl)
theorem dX5_order_76 : decode cX5_order 76 = .ok (.invokespecial 69, 3) := dk_183 0 69 (dk_at dksX5_order_3 4 rfl rfl)
theorem dX5_order_79 : decode cX5_order 79 = .ok (.areturn, 1) := dk_176 (dk_at dksX5_order_3 7 rfl rfl)
abbrev cX5_word : ByteArray := prog_4_method_9_code
def yX5_word : MethodName := ⟨RX5, "word", "()I"⟩
def dkwX5_word_0 : List UInt8 := [42, 16, 119, 182, 0, 51, 42, 5, 182, 0, 55, 172]
abbrev dktX5_word_0 : List UInt8 := dkwX5_word_0 ++ []
theorem dksX5_word_0 : cX5_word.data.toList.drop 0 = dktX5_word_0 := by decide +kernel
theorem dX5_word_0 : decode cX5_word 0 = .ok (.aload_n 0, 1) := dk_42 (dk_at dksX5_word_0 0 rfl rfl)
theorem dX5_word_1 : decode cX5_word 1 = .ok (.bipush 119, 2) := dk_16 119 (dk_at dksX5_word_0 1 rfl rfl)
theorem dX5_word_3 : decode cX5_word 3 = .ok (.invokevirtual 51, 3) := dk_182 0 51 (dk_at dksX5_word_0 3 rfl rfl)
theorem dX5_word_6 : decode cX5_word 6 = .ok (.aload_n 0, 1) := dk_42 (dk_at dksX5_word_0 6 rfl rfl)
theorem dX5_word_7 : decode cX5_word 7 = .ok (.iconst 2, 1) := dk_5 (dk_at dksX5_word_0 7 rfl rfl)
theorem dX5_word_8 : decode cX5_word 8 = .ok (.invokevirtual 55, 3) := dk_182 0 55 (dk_at dksX5_word_0 8 rfl rfl)
theorem dX5_word_11 : decode cX5_word 11 = .ok (.ireturn, 1) := dk_172 (dk_at dksX5_word_0 11 rfl rfl)
abbrev cX5_want : ByteArray := prog_4_method_5_code
def yX5_want : MethodName := ⟨RX5, "want", "(C)V"⟩
def dkwX5_want_0 : List UInt8 := [42, 27, 182, 0, 37, 154, 0, 15, 187, 0, 40, 89, 42, 180, 0, 15, 183, 0, 42, 191, 177]
abbrev dktX5_want_0 : List UInt8 := dkwX5_want_0 ++ []
theorem dksX5_want_0 : cX5_want.data.toList.drop 0 = dktX5_want_0 := by decide +kernel
theorem dX5_want_0 : decode cX5_want 0 = .ok (.aload_n 0, 1) := dk_42 (dk_at dksX5_want_0 0 rfl rfl)
theorem dX5_want_1 : decode cX5_want 1 = .ok (.iload_n 1, 1) := dk_27 (dk_at dksX5_want_0 1 rfl rfl)
theorem dX5_want_2 : decode cX5_want 2 = .ok (.invokevirtual 37, 3) := dk_182 0 37 (dk_at dksX5_want_0 2 rfl rfl)
theorem dX5_want_5 : decode cX5_want 5 = .ok (.ifCond .ne 15, 3) := dk_154 0 15 (dk_at dksX5_want_0 5 rfl rfl)
theorem dX5_want_8 : decode cX5_want 8 = .ok (.new 40, 3) := dk_187 0 40 (dk_at dksX5_want_0 8 rfl rfl)
theorem dX5_want_11 : decode cX5_want 11 = .ok (.dup, 1) := dk_89 (dk_at dksX5_want_0 11 rfl rfl)
theorem dX5_want_12 : decode cX5_want 12 = .ok (.aload_n 0, 1) := dk_42 (dk_at dksX5_want_0 12 rfl rfl)
theorem dX5_want_13 : decode cX5_want 13 = .ok (.getfield 15, 3) := dk_180 0 15 (dk_at dksX5_want_0 13 rfl rfl)
theorem dX5_want_16 : decode cX5_want 16 = .ok (.invokespecial 42, 3) := dk_183 0 42 (dk_at dksX5_want_0 16 rfl rfl)
theorem dX5_want_19 : decode cX5_want 19 = .ok (.athrow, 1) := dk_191 (dk_at dksX5_want_0 19 rfl rfl)
theorem dX5_want_20 : decode cX5_want 20 = .ok (.return_, 1) := dk_177 (dk_at dksX5_want_0 20 rfl rfl)
abbrev cX5_takes : ByteArray := prog_4_method_4_code
def yX5_takes : MethodName := ⟨RX5, "takes", "(C)Z"⟩
def dkwX5_takes_0 : List UInt8 := [42, 27, 182, 0, 33, 154, 0, 5, 3, 172, 42, 89, 180, 0, 15, 4, 96, 181, 0, 15, 4, 172]
abbrev dktX5_takes_0 : List UInt8 := dkwX5_takes_0 ++ []
theorem dksX5_takes_0 : cX5_takes.data.toList.drop 0 = dktX5_takes_0 := by decide +kernel
theorem dX5_takes_0 : decode cX5_takes 0 = .ok (.aload_n 0, 1) := dk_42 (dk_at dksX5_takes_0 0 rfl rfl)
theorem dX5_takes_1 : decode cX5_takes 1 = .ok (.iload_n 1, 1) := dk_27 (dk_at dksX5_takes_0 1 rfl rfl)
theorem dX5_takes_2 : decode cX5_takes 2 = .ok (.invokevirtual 33, 3) := dk_182 0 33 (dk_at dksX5_takes_0 2 rfl rfl)
theorem dX5_takes_5 : decode cX5_takes 5 = .ok (.ifCond .ne 5, 3) := dk_154 0 5 (dk_at dksX5_takes_0 5 rfl rfl)
theorem dX5_takes_8 : decode cX5_takes 8 = .ok (.iconst 0, 1) := dk_3 (dk_at dksX5_takes_0 8 rfl rfl)
theorem dX5_takes_9 : decode cX5_takes 9 = .ok (.ireturn, 1) := dk_172 (dk_at dksX5_takes_0 9 rfl rfl)
theorem dX5_takes_10 : decode cX5_takes 10 = .ok (.aload_n 0, 1) := dk_42 (dk_at dksX5_takes_0 10 rfl rfl)
theorem dX5_takes_11 : decode cX5_takes 11 = .ok (.dup, 1) := dk_89 (dk_at dksX5_takes_0 11 rfl rfl)
theorem dX5_takes_12 : decode cX5_takes 12 = .ok (.getfield 15, 3) := dk_180 0 15 (dk_at dksX5_takes_0 12 rfl rfl)
theorem dX5_takes_15 : decode cX5_takes 15 = .ok (.iconst 1, 1) := dk_4 (dk_at dksX5_takes_0 15 rfl rfl)
theorem dX5_takes_16 : decode cX5_takes 16 = .ok (.iadd, 1) := dk_96 (dk_at dksX5_takes_0 16 rfl rfl)
theorem dX5_takes_17 : decode cX5_takes 17 = .ok (.putfield 15, 3) := dk_181 0 15 (dk_at dksX5_takes_0 17 rfl rfl)
theorem dX5_takes_20 : decode cX5_takes 20 = .ok (.iconst 1, 1) := dk_4 (dk_at dksX5_takes_0 20 rfl rfl)
theorem dX5_takes_21 : decode cX5_takes 21 = .ok (.ireturn, 1) := dk_172 (dk_at dksX5_takes_0 21 rfl rfl)
abbrev cX5_isAt : ByteArray := prog_4_method_3_code
def yX5_isAt : MethodName := ⟨RX5, "isAt", "(C)Z"⟩
def dkwX5_isAt_1 : List UInt8 := [4, 167, 0, 4, 3, 172]
abbrev dktX5_isAt_1 : List UInt8 := dkwX5_isAt_1 ++ []
def dkwX5_isAt_0 : List UInt8 := [42, 182, 0, 25, 154, 0, 24, 42, 180, 0, 9, 42, 180, 0, 15, 185, 0, 29, 2, 0, 27, 160, 0, 7]
abbrev dktX5_isAt_0 : List UInt8 := dkwX5_isAt_0 ++ dktX5_isAt_1
theorem dksX5_isAt_0 : cX5_isAt.data.toList.drop 0 = dktX5_isAt_0 := by decide +kernel
theorem dksX5_isAt_1 : cX5_isAt.data.toList.drop 24 = dktX5_isAt_1 := dk_seg dksX5_isAt_0 24 rfl rfl
theorem dX5_isAt_0 : decode cX5_isAt 0 = .ok (.aload_n 0, 1) := dk_42 (dk_at dksX5_isAt_0 0 rfl rfl)
theorem dX5_isAt_1 : decode cX5_isAt 1 = .ok (.invokevirtual 25, 3) := dk_182 0 25 (dk_at dksX5_isAt_0 1 rfl rfl)
theorem dX5_isAt_4 : decode cX5_isAt 4 = .ok (.ifCond .ne 24, 3) := dk_154 0 24 (dk_at dksX5_isAt_0 4 rfl rfl)
theorem dX5_isAt_7 : decode cX5_isAt 7 = .ok (.aload_n 0, 1) := dk_42 (dk_at dksX5_isAt_0 7 rfl rfl)
theorem dX5_isAt_8 : decode cX5_isAt 8 = .ok (.getfield 9, 3) := dk_180 0 9 (dk_at dksX5_isAt_0 8 rfl rfl)
theorem dX5_isAt_11 : decode cX5_isAt 11 = .ok (.aload_n 0, 1) := dk_42 (dk_at dksX5_isAt_0 11 rfl rfl)
theorem dX5_isAt_12 : decode cX5_isAt 12 = .ok (.getfield 15, 3) := dk_180 0 15 (dk_at dksX5_isAt_0 12 rfl rfl)
theorem dX5_isAt_15 : decode cX5_isAt 15 = .ok (.invokeinterface 29 2, 5) := by decide +kernel
theorem dX5_isAt_20 : decode cX5_isAt 20 = .ok (.iload_n 1, 1) := dk_27 (dk_at dksX5_isAt_0 20 rfl rfl)
theorem dX5_isAt_21 : decode cX5_isAt 21 = .ok (.if_icmp .ne 7, 3) := dk_160 0 7 (dk_at dksX5_isAt_0 21 rfl rfl)
theorem dX5_isAt_24 : decode cX5_isAt 24 = .ok (.iconst 1, 1) := dk_4 (dk_at dksX5_isAt_1 0 rfl rfl)
theorem dX5_isAt_25 : decode cX5_isAt 25 = .ok (.goto 4, 3) := dk_167 0 4 (dk_at dksX5_isAt_1 1 rfl rfl)
theorem dX5_isAt_28 : decode cX5_isAt 28 = .ok (.iconst 0, 1) := dk_3 (dk_at dksX5_isAt_1 4 rfl rfl)
theorem dX5_isAt_29 : decode cX5_isAt 29 = .ok (.ireturn, 1) := dk_172 (dk_at dksX5_isAt_1 5 rfl rfl)
abbrev cX5_isAtEnd : ByteArray := prog_4_method_2_code
def yX5_isAtEnd : MethodName := ⟨RX5, "isAtEnd", "()Z"⟩
def dkwX5_isAtEnd_0 : List UInt8 := [42, 180, 0, 15, 42, 180, 0, 9, 185, 0, 19, 1, 0, 160, 0, 7, 4, 167, 0, 4, 3, 172]
abbrev dktX5_isAtEnd_0 : List UInt8 := dkwX5_isAtEnd_0 ++ []
theorem dksX5_isAtEnd_0 : cX5_isAtEnd.data.toList.drop 0 = dktX5_isAtEnd_0 := by decide +kernel
theorem dX5_isAtEnd_0 : decode cX5_isAtEnd 0 = .ok (.aload_n 0, 1) := dk_42 (dk_at dksX5_isAtEnd_0 0 rfl rfl)
theorem dX5_isAtEnd_1 : decode cX5_isAtEnd 1 = .ok (.getfield 15, 3) := dk_180 0 15 (dk_at dksX5_isAtEnd_0 1 rfl rfl)
theorem dX5_isAtEnd_4 : decode cX5_isAtEnd 4 = .ok (.aload_n 0, 1) := dk_42 (dk_at dksX5_isAtEnd_0 4 rfl rfl)
theorem dX5_isAtEnd_5 : decode cX5_isAtEnd 5 = .ok (.getfield 9, 3) := dk_180 0 9 (dk_at dksX5_isAtEnd_0 5 rfl rfl)
theorem dX5_isAtEnd_8 : decode cX5_isAtEnd 8 = .ok (.invokeinterface 19 1, 5) := by decide +kernel
theorem dX5_isAtEnd_13 : decode cX5_isAtEnd 13 = .ok (.if_icmp .ne 7, 3) := dk_160 0 7 (dk_at dksX5_isAtEnd_0 13 rfl rfl)
theorem dX5_isAtEnd_16 : decode cX5_isAtEnd 16 = .ok (.iconst 1, 1) := dk_4 (dk_at dksX5_isAtEnd_0 16 rfl rfl)
theorem dX5_isAtEnd_17 : decode cX5_isAtEnd 17 = .ok (.goto 4, 3) := dk_167 0 4 (dk_at dksX5_isAtEnd_0 17 rfl rfl)
theorem dX5_isAtEnd_20 : decode cX5_isAtEnd 20 = .ok (.iconst 0, 1) := dk_3 (dk_at dksX5_isAtEnd_0 20 rfl rfl)
theorem dX5_isAtEnd_21 : decode cX5_isAtEnd 21 = .ok (.ireturn, 1) := dk_172 (dk_at dksX5_isAtEnd_0 21 rfl rfl)
abbrev cX5_digits : ByteArray := prog_4_method_8_code
def yX5_digits : MethodName := ⟨RX5, "digits", "(I)I"⟩
def dkwX5_digits_1 : List UInt8 := [16, 10, 28, 104, 42, 182, 0, 48, 96, 61, 132, 3, 1, 167, 255, 227, 28, 172]
abbrev dktX5_digits_1 : List UInt8 := dkwX5_digits_1 ++ []
def dkwX5_digits_0 : List UInt8 := [42, 182, 0, 48, 61, 4, 62, 29, 27, 162, 0, 30, 28, 158, 0, 26, 42, 182, 0, 45, 153, 0, 19]
abbrev dktX5_digits_0 : List UInt8 := dkwX5_digits_0 ++ dktX5_digits_1
theorem dksX5_digits_0 : cX5_digits.data.toList.drop 0 = dktX5_digits_0 := by decide +kernel
theorem dksX5_digits_1 : cX5_digits.data.toList.drop 23 = dktX5_digits_1 := dk_seg dksX5_digits_0 23 rfl rfl
theorem dX5_digits_0 : decode cX5_digits 0 = .ok (.aload_n 0, 1) := dk_42 (dk_at dksX5_digits_0 0 rfl rfl)
theorem dX5_digits_1 : decode cX5_digits 1 = .ok (.invokevirtual 48, 3) := dk_182 0 48 (dk_at dksX5_digits_0 1 rfl rfl)
theorem dX5_digits_4 : decode cX5_digits 4 = .ok (.istore_n 2, 1) := dk_61 (dk_at dksX5_digits_0 4 rfl rfl)
theorem dX5_digits_5 : decode cX5_digits 5 = .ok (.iconst 1, 1) := dk_4 (dk_at dksX5_digits_0 5 rfl rfl)
theorem dX5_digits_6 : decode cX5_digits 6 = .ok (.istore_n 3, 1) := dk_62 (dk_at dksX5_digits_0 6 rfl rfl)
theorem dX5_digits_7 : decode cX5_digits 7 = .ok (.iload_n 3, 1) := dk_29 (dk_at dksX5_digits_0 7 rfl rfl)
theorem dX5_digits_8 : decode cX5_digits 8 = .ok (.iload_n 1, 1) := dk_27 (dk_at dksX5_digits_0 8 rfl rfl)
theorem dX5_digits_9 : decode cX5_digits 9 = .ok (.if_icmp .ge 30, 3) := dk_162 0 30 (dk_at dksX5_digits_0 9 rfl rfl)
theorem dX5_digits_12 : decode cX5_digits 12 = .ok (.iload_n 2, 1) := dk_28 (dk_at dksX5_digits_0 12 rfl rfl)
theorem dX5_digits_13 : decode cX5_digits 13 = .ok (.ifCond .le 26, 3) := dk_158 0 26 (dk_at dksX5_digits_0 13 rfl rfl)
theorem dX5_digits_16 : decode cX5_digits 16 = .ok (.aload_n 0, 1) := dk_42 (dk_at dksX5_digits_0 16 rfl rfl)
theorem dX5_digits_17 : decode cX5_digits 17 = .ok (.invokevirtual 45, 3) := dk_182 0 45 (dk_at dksX5_digits_0 17 rfl rfl)
theorem dX5_digits_20 : decode cX5_digits 20 = .ok (.ifCond .eq 19, 3) := dk_153 0 19 (dk_at dksX5_digits_0 20 rfl rfl)
theorem dX5_digits_23 : decode cX5_digits 23 = .ok (.bipush 10, 2) := dk_16 10 (dk_at dksX5_digits_1 0 rfl rfl)
theorem dX5_digits_25 : decode cX5_digits 25 = .ok (.iload_n 2, 1) := dk_28 (dk_at dksX5_digits_1 2 rfl rfl)
theorem dX5_digits_26 : decode cX5_digits 26 = .ok (.imul, 1) := dk_104 (dk_at dksX5_digits_1 3 rfl rfl)
theorem dX5_digits_27 : decode cX5_digits 27 = .ok (.aload_n 0, 1) := dk_42 (dk_at dksX5_digits_1 4 rfl rfl)
theorem dX5_digits_28 : decode cX5_digits 28 = .ok (.invokevirtual 48, 3) := dk_182 0 48 (dk_at dksX5_digits_1 5 rfl rfl)
theorem dX5_digits_31 : decode cX5_digits 31 = .ok (.iadd, 1) := dk_96 (dk_at dksX5_digits_1 8 rfl rfl)
theorem dX5_digits_32 : decode cX5_digits 32 = .ok (.istore_n 2, 1) := dk_61 (dk_at dksX5_digits_1 9 rfl rfl)
theorem dX5_digits_33 : decode cX5_digits 33 = .ok (.iinc 3 1, 3) := dk_132 3 1 (dk_at dksX5_digits_1 10 rfl rfl)
theorem dX5_digits_36 : decode cX5_digits 36 = .ok (.goto (-29), 3) := dk_167 255 227 (dk_at dksX5_digits_1 13 rfl rfl)
theorem dX5_digits_39 : decode cX5_digits 39 = .ok (.iload_n 2, 1) := dk_28 (dk_at dksX5_digits_1 16 rfl rfl)
theorem dX5_digits_40 : decode cX5_digits 40 = .ok (.ireturn, 1) := dk_172 (dk_at dksX5_digits_1 17 rfl rfl)
abbrev cX5_digit : ByteArray := prog_4_method_7_code
def yX5_digit : MethodName := ⟨RX5, "digit", "()I"⟩
def dkwX5_digit_1 : List UInt8 := [89, 180, 0, 15, 90, 4, 96, 181, 0, 15, 185, 0, 29, 2, 0, 16, 48, 100, 172]
abbrev dktX5_digit_1 : List UInt8 := dkwX5_digit_1 ++ []
def dkwX5_digit_0 : List UInt8 := [42, 182, 0, 45, 154, 0, 15, 187, 0, 40, 89, 42, 180, 0, 15, 183, 0, 42, 191, 42, 180, 0, 9, 42]
abbrev dktX5_digit_0 : List UInt8 := dkwX5_digit_0 ++ dktX5_digit_1
theorem dksX5_digit_0 : cX5_digit.data.toList.drop 0 = dktX5_digit_0 := by decide +kernel
theorem dksX5_digit_1 : cX5_digit.data.toList.drop 24 = dktX5_digit_1 := dk_seg dksX5_digit_0 24 rfl rfl
theorem dX5_digit_0 : decode cX5_digit 0 = .ok (.aload_n 0, 1) := dk_42 (dk_at dksX5_digit_0 0 rfl rfl)
theorem dX5_digit_1 : decode cX5_digit 1 = .ok (.invokevirtual 45, 3) := dk_182 0 45 (dk_at dksX5_digit_0 1 rfl rfl)
theorem dX5_digit_4 : decode cX5_digit 4 = .ok (.ifCond .ne 15, 3) := dk_154 0 15 (dk_at dksX5_digit_0 4 rfl rfl)
theorem dX5_digit_7 : decode cX5_digit 7 = .ok (.new 40, 3) := dk_187 0 40 (dk_at dksX5_digit_0 7 rfl rfl)
theorem dX5_digit_10 : decode cX5_digit 10 = .ok (.dup, 1) := dk_89 (dk_at dksX5_digit_0 10 rfl rfl)
theorem dX5_digit_11 : decode cX5_digit 11 = .ok (.aload_n 0, 1) := dk_42 (dk_at dksX5_digit_0 11 rfl rfl)
theorem dX5_digit_12 : decode cX5_digit 12 = .ok (.getfield 15, 3) := dk_180 0 15 (dk_at dksX5_digit_0 12 rfl rfl)
theorem dX5_digit_15 : decode cX5_digit 15 = .ok (.invokespecial 42, 3) := dk_183 0 42 (dk_at dksX5_digit_0 15 rfl rfl)
theorem dX5_digit_18 : decode cX5_digit 18 = .ok (.athrow, 1) := dk_191 (dk_at dksX5_digit_0 18 rfl rfl)
theorem dX5_digit_19 : decode cX5_digit 19 = .ok (.aload_n 0, 1) := dk_42 (dk_at dksX5_digit_0 19 rfl rfl)
theorem dX5_digit_20 : decode cX5_digit 20 = .ok (.getfield 9, 3) := dk_180 0 9 (dk_at dksX5_digit_0 20 rfl rfl)
theorem dX5_digit_23 : decode cX5_digit 23 = .ok (.aload_n 0, 1) := dk_42 (dk_at dksX5_digit_0 23 rfl rfl)
theorem dX5_digit_24 : decode cX5_digit 24 = .ok (.dup, 1) := dk_89 (dk_at dksX5_digit_1 0 rfl rfl)
theorem dX5_digit_25 : decode cX5_digit 25 = .ok (.getfield 15, 3) := dk_180 0 15 (dk_at dksX5_digit_1 1 rfl rfl)
theorem dX5_digit_28 : decode cX5_digit 28 = .ok (.dup_x1, 1) := dk_90 (dk_at dksX5_digit_1 4 rfl rfl)
theorem dX5_digit_29 : decode cX5_digit 29 = .ok (.iconst 1, 1) := dk_4 (dk_at dksX5_digit_1 5 rfl rfl)
theorem dX5_digit_30 : decode cX5_digit 30 = .ok (.iadd, 1) := dk_96 (dk_at dksX5_digit_1 6 rfl rfl)
theorem dX5_digit_31 : decode cX5_digit 31 = .ok (.putfield 15, 3) := dk_181 0 15 (dk_at dksX5_digit_1 7 rfl rfl)
theorem dX5_digit_34 : decode cX5_digit 34 = .ok (.invokeinterface 29 2, 5) := by decide +kernel
theorem dX5_digit_39 : decode cX5_digit 39 = .ok (.bipush 48, 2) := dk_16 48 (dk_at dksX5_digit_1 15 rfl rfl)
theorem dX5_digit_41 : decode cX5_digit 41 = .ok (.isub, 1) := dk_100 (dk_at dksX5_digit_1 17 rfl rfl)
theorem dX5_digit_42 : decode cX5_digit 42 = .ok (.ireturn, 1) := dk_172 (dk_at dksX5_digit_1 18 rfl rfl)
abbrev cX5_isDigit : ByteArray := prog_4_method_6_code
def yX5_isDigit : MethodName := ⟨RX5, "isDigit", "()Z"⟩
def dkwX5_isDigit_2 : List UInt8 := [167, 0, 4, 3, 172]
abbrev dktX5_isDigit_2 : List UInt8 := dkwX5_isDigit_2 ++ []
def dkwX5_isDigit_1 : List UInt8 := [161, 0, 25, 42, 180, 0, 9, 42, 180, 0, 15, 185, 0, 29, 2, 0, 16, 57, 163, 0, 7, 4]
abbrev dktX5_isDigit_1 : List UInt8 := dkwX5_isDigit_1 ++ dktX5_isDigit_2
def dkwX5_isDigit_0 : List UInt8 := [42, 182, 0, 25, 154, 0, 43, 42, 180, 0, 9, 42, 180, 0, 15, 185, 0, 29, 2, 0, 16, 48]
abbrev dktX5_isDigit_0 : List UInt8 := dkwX5_isDigit_0 ++ dktX5_isDigit_1
theorem dksX5_isDigit_0 : cX5_isDigit.data.toList.drop 0 = dktX5_isDigit_0 := by decide +kernel
theorem dksX5_isDigit_1 : cX5_isDigit.data.toList.drop 22 = dktX5_isDigit_1 := dk_seg dksX5_isDigit_0 22 rfl rfl
theorem dksX5_isDigit_2 : cX5_isDigit.data.toList.drop 44 = dktX5_isDigit_2 := dk_seg dksX5_isDigit_1 22 rfl rfl
theorem dX5_isDigit_0 : decode cX5_isDigit 0 = .ok (.aload_n 0, 1) := dk_42 (dk_at dksX5_isDigit_0 0 rfl rfl)
theorem dX5_isDigit_1 : decode cX5_isDigit 1 = .ok (.invokevirtual 25, 3) := dk_182 0 25 (dk_at dksX5_isDigit_0 1 rfl rfl)
theorem dX5_isDigit_4 : decode cX5_isDigit 4 = .ok (.ifCond .ne 43, 3) := dk_154 0 43 (dk_at dksX5_isDigit_0 4 rfl rfl)
theorem dX5_isDigit_7 : decode cX5_isDigit 7 = .ok (.aload_n 0, 1) := dk_42 (dk_at dksX5_isDigit_0 7 rfl rfl)
theorem dX5_isDigit_8 : decode cX5_isDigit 8 = .ok (.getfield 9, 3) := dk_180 0 9 (dk_at dksX5_isDigit_0 8 rfl rfl)
theorem dX5_isDigit_11 : decode cX5_isDigit 11 = .ok (.aload_n 0, 1) := dk_42 (dk_at dksX5_isDigit_0 11 rfl rfl)
theorem dX5_isDigit_12 : decode cX5_isDigit 12 = .ok (.getfield 15, 3) := dk_180 0 15 (dk_at dksX5_isDigit_0 12 rfl rfl)
theorem dX5_isDigit_15 : decode cX5_isDigit 15 = .ok (.invokeinterface 29 2, 5) := by decide +kernel
theorem dX5_isDigit_20 : decode cX5_isDigit 20 = .ok (.bipush 48, 2) := dk_16 48 (dk_at dksX5_isDigit_0 20 rfl rfl)
theorem dX5_isDigit_22 : decode cX5_isDigit 22 = .ok (.if_icmp .lt 25, 3) := dk_161 0 25 (dk_at dksX5_isDigit_1 0 rfl rfl)
theorem dX5_isDigit_25 : decode cX5_isDigit 25 = .ok (.aload_n 0, 1) := dk_42 (dk_at dksX5_isDigit_1 3 rfl rfl)
theorem dX5_isDigit_26 : decode cX5_isDigit 26 = .ok (.getfield 9, 3) := dk_180 0 9 (dk_at dksX5_isDigit_1 4 rfl rfl)
theorem dX5_isDigit_29 : decode cX5_isDigit 29 = .ok (.aload_n 0, 1) := dk_42 (dk_at dksX5_isDigit_1 7 rfl rfl)
theorem dX5_isDigit_30 : decode cX5_isDigit 30 = .ok (.getfield 15, 3) := dk_180 0 15 (dk_at dksX5_isDigit_1 8 rfl rfl)
theorem dX5_isDigit_33 : decode cX5_isDigit 33 = .ok (.invokeinterface 29 2, 5) := by decide +kernel
theorem dX5_isDigit_38 : decode cX5_isDigit 38 = .ok (.bipush 57, 2) := dk_16 57 (dk_at dksX5_isDigit_1 16 rfl rfl)
theorem dX5_isDigit_40 : decode cX5_isDigit 40 = .ok (.if_icmp .gt 7, 3) := dk_163 0 7 (dk_at dksX5_isDigit_1 18 rfl rfl)
theorem dX5_isDigit_43 : decode cX5_isDigit 43 = .ok (.iconst 1, 1) := dk_4 (dk_at dksX5_isDigit_1 21 rfl rfl)
theorem dX5_isDigit_44 : decode cX5_isDigit 44 = .ok (.goto 4, 3) := dk_167 0 4 (dk_at dksX5_isDigit_2 0 rfl rfl)
theorem dX5_isDigit_47 : decode cX5_isDigit 47 = .ok (.iconst 0, 1) := dk_3 (dk_at dksX5_isDigit_2 3 rfl rfl)
theorem dX5_isDigit_48 : decode cX5_isDigit 48 = .ok (.ireturn, 1) := dk_172 (dk_at dksX5_isDigit_2 4 rfl rfl)
abbrev cX5_number : ByteArray := prog_4_method_10_code
def yX5_number : MethodName := ⟨RX5, "number", "()F"⟩
def dkwX5_number_1 : List UInt8 := [182, 0, 51, 27, 16, 10, 28, 104, 42, 182, 0, 48, 96, 104, 134, 18, 59, 110, 174]
abbrev dktX5_number_1 : List UInt8 := dkwX5_number_1 ++ []
def dkwX5_number_0 : List UInt8 := [42, 16, 45, 182, 0, 37, 153, 0, 7, 2, 167, 0, 4, 4, 60, 42, 6, 182, 0, 55, 61, 42, 16, 46]
abbrev dktX5_number_0 : List UInt8 := dkwX5_number_0 ++ dktX5_number_1
theorem dksX5_number_0 : cX5_number.data.toList.drop 0 = dktX5_number_0 := by decide +kernel
theorem dksX5_number_1 : cX5_number.data.toList.drop 24 = dktX5_number_1 := dk_seg dksX5_number_0 24 rfl rfl
theorem dX5_number_0 : decode cX5_number 0 = .ok (.aload_n 0, 1) := dk_42 (dk_at dksX5_number_0 0 rfl rfl)
theorem dX5_number_1 : decode cX5_number 1 = .ok (.bipush 45, 2) := dk_16 45 (dk_at dksX5_number_0 1 rfl rfl)
theorem dX5_number_3 : decode cX5_number 3 = .ok (.invokevirtual 37, 3) := dk_182 0 37 (dk_at dksX5_number_0 3 rfl rfl)
theorem dX5_number_6 : decode cX5_number 6 = .ok (.ifCond .eq 7, 3) := dk_153 0 7 (dk_at dksX5_number_0 6 rfl rfl)
theorem dX5_number_9 : decode cX5_number 9 = .ok (.iconst (-1), 1) := dk_2 (dk_at dksX5_number_0 9 rfl rfl)
theorem dX5_number_10 : decode cX5_number 10 = .ok (.goto 4, 3) := dk_167 0 4 (dk_at dksX5_number_0 10 rfl rfl)
theorem dX5_number_13 : decode cX5_number 13 = .ok (.iconst 1, 1) := dk_4 (dk_at dksX5_number_0 13 rfl rfl)
theorem dX5_number_14 : decode cX5_number 14 = .ok (.istore_n 1, 1) := dk_60 (dk_at dksX5_number_0 14 rfl rfl)
theorem dX5_number_15 : decode cX5_number 15 = .ok (.aload_n 0, 1) := dk_42 (dk_at dksX5_number_0 15 rfl rfl)
theorem dX5_number_16 : decode cX5_number 16 = .ok (.iconst 3, 1) := dk_6 (dk_at dksX5_number_0 16 rfl rfl)
theorem dX5_number_17 : decode cX5_number 17 = .ok (.invokevirtual 55, 3) := dk_182 0 55 (dk_at dksX5_number_0 17 rfl rfl)
theorem dX5_number_20 : decode cX5_number 20 = .ok (.istore_n 2, 1) := dk_61 (dk_at dksX5_number_0 20 rfl rfl)
theorem dX5_number_21 : decode cX5_number 21 = .ok (.aload_n 0, 1) := dk_42 (dk_at dksX5_number_0 21 rfl rfl)
theorem dX5_number_22 : decode cX5_number 22 = .ok (.bipush 46, 2) := dk_16 46 (dk_at dksX5_number_0 22 rfl rfl)
theorem dX5_number_24 : decode cX5_number 24 = .ok (.invokevirtual 51, 3) := dk_182 0 51 (dk_at dksX5_number_1 0 rfl rfl)
theorem dX5_number_27 : decode cX5_number 27 = .ok (.iload_n 1, 1) := dk_27 (dk_at dksX5_number_1 3 rfl rfl)
theorem dX5_number_28 : decode cX5_number 28 = .ok (.bipush 10, 2) := dk_16 10 (dk_at dksX5_number_1 4 rfl rfl)
theorem dX5_number_30 : decode cX5_number 30 = .ok (.iload_n 2, 1) := dk_28 (dk_at dksX5_number_1 6 rfl rfl)
theorem dX5_number_31 : decode cX5_number 31 = .ok (.imul, 1) := dk_104 (dk_at dksX5_number_1 7 rfl rfl)
theorem dX5_number_32 : decode cX5_number 32 = .ok (.aload_n 0, 1) := dk_42 (dk_at dksX5_number_1 8 rfl rfl)
theorem dX5_number_33 : decode cX5_number 33 = .ok (.invokevirtual 48, 3) := dk_182 0 48 (dk_at dksX5_number_1 9 rfl rfl)
theorem dX5_number_36 : decode cX5_number 36 = .ok (.iadd, 1) := dk_96 (dk_at dksX5_number_1 12 rfl rfl)
theorem dX5_number_37 : decode cX5_number 37 = .ok (.imul, 1) := dk_104 (dk_at dksX5_number_1 13 rfl rfl)
theorem dX5_number_38 : decode cX5_number 38 = .ok (.i2f, 1) := dk_134 (dk_at dksX5_number_1 14 rfl rfl)
theorem dX5_number_39 : decode cX5_number 39 = .ok (.ldc 59, 2) := dk_18 59 (dk_at dksX5_number_1 15 rfl rfl)
theorem dX5_number_41 : decode cX5_number 41 = .ok (.fdiv, 1) := dk_110 (dk_at dksX5_number_1 17 rfl rfl)
theorem dX5_number_42 : decode cX5_number 42 = .ok (.freturn, 1) := dk_174 (dk_at dksX5_number_1 18 rfl rfl)
theorem q80 : (Jvm.Cond.initialized "NailedOrders$Reader") ∈ lw_all := lw_g (lw_at lw_m1 21 rfl) rfl
theorem q167 : (Jvm.Cond.selects "NailedOrders$Reader" ({ cls := "java/lang/Object", name := "getClass", desc := "()Ljava/lang/Class;" } : Jvm.MethodName) ({ cls := "java/lang/Object", name := "getClass", desc := "()Ljava/lang/Class;" } : Jvm.MethodName)) ∈ lw_all := lw_g (lw_at lw_m1 108 rfl) rfl
theorem q523 : (Jvm.Cond.selects "NailedOrders$Reader" ({ cls := "java/lang/Object", name := "equals", desc := "(Ljava/lang/Object;)Z" } : Jvm.MethodName) ({ cls := "java/lang/Object", name := "equals", desc := "(Ljava/lang/Object;)Z" } : Jvm.MethodName)) ∈ lw_all := lw_g (lw_at lw_m2 224 rfl) rfl
theorem q690 : (Jvm.Cond.instantiable "NailedOrders$Reader" (2 : Nat)) ∈ lw_all := lw_g (lw_at lw_m3 151 rfl) rfl
theorem q692 : (Jvm.Cond.instanceMethod ({ cls := "NailedOrders$Reader", name := "<init>", desc := "(Ljava/lang/CharSequence;)V" } : Jvm.MethodName)) ∈ lw_all := lw_g (lw_at lw_m3 153 rfl) rfl
theorem q693 : (Jvm.Cond.code ({ cls := "NailedOrders$Reader", name := "<init>", desc := "(Ljava/lang/CharSequence;)V" } : Jvm.MethodName) prog_4_method_1_code (2 : Nat) (Option.none : Option Jvm.ClassFile.FieldType)) ∈ lw_all := lw_g (lw_at lw_m3 154 rfl) rfl
theorem q694 : (Jvm.Cond.methodLink "NailedOrders$Reader" (3 : Nat) ({ cls := "java/lang/Object", name := "<init>", desc := "()V" } : Jvm.MethodName)) ∈ lw_all := lw_g (lw_at lw_m3 155 rfl) rfl
theorem q695 : (Jvm.Cond.fieldLink "NailedOrders$Reader" (9 : Nat) "NailedOrders$Reader" "signs" "Ljava/lang/CharSequence;") ∈ lw_all := lw_g (lw_at lw_m3 156 rfl) rfl
theorem q696 : (Jvm.Cond.fieldLink "NailedOrders$Reader" (15 : Nat) "NailedOrders$Reader" "place" "I") ∈ lw_all := lw_g (lw_at lw_m3 157 rfl) rfl
theorem q697 : (Jvm.Cond.laysFinal "NailedOrders$Reader" "NailedOrders$Reader" "signs" "Ljava/lang/CharSequence;") ∈ lw_all := lw_g (lw_at lw_m3 158 rfl) rfl
theorem q698 : (Jvm.Cond.soleField "NailedOrders$Reader" "signs") ∈ lw_all := lw_g (lw_at lw_m3 159 rfl) rfl
theorem q699 : (Jvm.Cond.lays "NailedOrders$Reader" "NailedOrders$Reader" "place" "I") ∈ lw_all := lw_g (lw_at lw_m3 160 rfl) rfl
theorem q700 : (Jvm.Cond.soleField "NailedOrders$Reader" "place") ∈ lw_all := lw_g (lw_at lw_m3 161 rfl) rfl
theorem q701 : (Jvm.Cond.superclass "NailedOrders$Reader" "java/lang/Object") ∈ lw_all := lw_g (lw_at lw_m3 162 rfl) rfl
theorem q703 : (Jvm.Cond.instanceMethod ({ cls := "NailedOrders$Reader", name := "orders", desc := "()Ljava/util/List;" } : Jvm.MethodName)) ∈ lw_all := lw_g (lw_at lw_m3 164 rfl) rfl
theorem q704 : (Jvm.Cond.selects "NailedOrders$Reader" ({ cls := "NailedOrders$Reader", name := "orders", desc := "()Ljava/util/List;" } : Jvm.MethodName) ({ cls := "NailedOrders$Reader", name := "orders", desc := "()Ljava/util/List;" } : Jvm.MethodName)) ∈ lw_all := lw_g (lw_at lw_m3 165 rfl) rfl
theorem q705 : (Jvm.Cond.code ({ cls := "NailedOrders$Reader", name := "orders", desc := "()Ljava/util/List;" } : Jvm.MethodName) prog_4_method_12_code (2 : Nat) (Option.some (Jvm.ClassFile.FieldType.object "java/util/List"))) ∈ lw_all := lw_g (lw_at lw_m3 166 rfl) rfl
theorem q706 : (Jvm.Cond.classLink "NailedOrders$Reader" (72 : Nat) "java/util/ArrayList") ∈ lw_all := lw_g (lw_at lw_m3 167 rfl) rfl
theorem q707 : (Jvm.Cond.methodLink "NailedOrders$Reader" (74 : Nat) ({ cls := "java/util/ArrayList", name := "<init>", desc := "()V" } : Jvm.MethodName)) ∈ lw_all := lw_g (lw_at lw_m3 168 rfl) rfl
theorem q708 : (Jvm.Cond.methodLink "NailedOrders$Reader" (75 : Nat) ({ cls := "NailedOrders$Reader", name := "order", desc := "()LNailedOrders$Told;" } : Jvm.MethodName)) ∈ lw_all := lw_g (lw_at lw_m3 169 rfl) rfl
theorem q709 : (Jvm.Cond.privateMethod ({ cls := "NailedOrders$Reader", name := "order", desc := "()LNailedOrders$Told;" } : Jvm.MethodName)) ∈ lw_tbl := lw_at lw_m3 170 rfl
theorem q710 : (Jvm.Cond.instanceMethod ({ cls := "NailedOrders$Reader", name := "order", desc := "()LNailedOrders$Told;" } : Jvm.MethodName)) ∈ lw_all := lw_g (lw_at lw_m3 171 rfl) rfl
theorem q711 : (Jvm.Cond.code ({ cls := "NailedOrders$Reader", name := "order", desc := "()LNailedOrders$Told;" } : Jvm.MethodName) prog_4_method_11_code (4 : Nat) (Option.some (Jvm.ClassFile.FieldType.object "NailedOrders$Told"))) ∈ lw_all := lw_g (lw_at lw_m3 172 rfl) rfl
theorem q712 : (Jvm.Cond.methodLink "NailedOrders$Reader" (60 : Nat) ({ cls := "NailedOrders$Reader", name := "word", desc := "()I" } : Jvm.MethodName)) ∈ lw_all := lw_g (lw_at lw_m3 173 rfl) rfl
theorem q713 : (Jvm.Cond.privateMethod ({ cls := "NailedOrders$Reader", name := "word", desc := "()I" } : Jvm.MethodName)) ∈ lw_tbl := lw_at lw_m3 174 rfl
theorem q714 : (Jvm.Cond.instanceMethod ({ cls := "NailedOrders$Reader", name := "word", desc := "()I" } : Jvm.MethodName)) ∈ lw_all := lw_g (lw_at lw_m3 175 rfl) rfl
theorem q715 : (Jvm.Cond.code ({ cls := "NailedOrders$Reader", name := "word", desc := "()I" } : Jvm.MethodName) prog_4_method_9_code (1 : Nat) (Option.some Jvm.ClassFile.FieldType.int)) ∈ lw_all := lw_g (lw_at lw_m3 176 rfl) rfl
theorem q716 : (Jvm.Cond.methodLink "NailedOrders$Reader" (51 : Nat) ({ cls := "NailedOrders$Reader", name := "want", desc := "(C)V" } : Jvm.MethodName)) ∈ lw_all := lw_g (lw_at lw_m3 177 rfl) rfl
theorem q717 : (Jvm.Cond.privateMethod ({ cls := "NailedOrders$Reader", name := "want", desc := "(C)V" } : Jvm.MethodName)) ∈ lw_tbl := lw_at lw_m3 178 rfl
theorem q718 : (Jvm.Cond.instanceMethod ({ cls := "NailedOrders$Reader", name := "want", desc := "(C)V" } : Jvm.MethodName)) ∈ lw_all := lw_g (lw_at lw_m3 179 rfl) rfl
theorem q719 : (Jvm.Cond.code ({ cls := "NailedOrders$Reader", name := "want", desc := "(C)V" } : Jvm.MethodName) prog_4_method_5_code (2 : Nat) (Option.none : Option Jvm.ClassFile.FieldType)) ∈ lw_all := lw_g (lw_at lw_m3 180 rfl) rfl
theorem q720 : (Jvm.Cond.methodLink "NailedOrders$Reader" (37 : Nat) ({ cls := "NailedOrders$Reader", name := "takes", desc := "(C)Z" } : Jvm.MethodName)) ∈ lw_all := lw_g (lw_at lw_m3 181 rfl) rfl
theorem q721 : (Jvm.Cond.privateMethod ({ cls := "NailedOrders$Reader", name := "takes", desc := "(C)Z" } : Jvm.MethodName)) ∈ lw_tbl := lw_at lw_m3 182 rfl
theorem q722 : (Jvm.Cond.instanceMethod ({ cls := "NailedOrders$Reader", name := "takes", desc := "(C)Z" } : Jvm.MethodName)) ∈ lw_all := lw_g (lw_at lw_m3 183 rfl) rfl
theorem q723 : (Jvm.Cond.code ({ cls := "NailedOrders$Reader", name := "takes", desc := "(C)Z" } : Jvm.MethodName) prog_4_method_4_code (2 : Nat) (Option.some Jvm.ClassFile.FieldType.boolean)) ∈ lw_all := lw_g (lw_at lw_m3 184 rfl) rfl
theorem q724 : (Jvm.Cond.methodLink "NailedOrders$Reader" (33 : Nat) ({ cls := "NailedOrders$Reader", name := "isAt", desc := "(C)Z" } : Jvm.MethodName)) ∈ lw_all := lw_g (lw_at lw_m3 185 rfl) rfl
theorem q725 : (Jvm.Cond.privateMethod ({ cls := "NailedOrders$Reader", name := "isAt", desc := "(C)Z" } : Jvm.MethodName)) ∈ lw_tbl := lw_at lw_m3 186 rfl
theorem q726 : (Jvm.Cond.instanceMethod ({ cls := "NailedOrders$Reader", name := "isAt", desc := "(C)Z" } : Jvm.MethodName)) ∈ lw_all := lw_g (lw_at lw_m3 187 rfl) rfl
theorem q727 : (Jvm.Cond.code ({ cls := "NailedOrders$Reader", name := "isAt", desc := "(C)Z" } : Jvm.MethodName) prog_4_method_3_code (2 : Nat) (Option.some Jvm.ClassFile.FieldType.boolean)) ∈ lw_all := lw_g (lw_at lw_m3 188 rfl) rfl
theorem q728 : (Jvm.Cond.methodLink "NailedOrders$Reader" (25 : Nat) ({ cls := "NailedOrders$Reader", name := "isAtEnd", desc := "()Z" } : Jvm.MethodName)) ∈ lw_all := lw_g (lw_at lw_m3 189 rfl) rfl
theorem q729 : (Jvm.Cond.privateMethod ({ cls := "NailedOrders$Reader", name := "isAtEnd", desc := "()Z" } : Jvm.MethodName)) ∈ lw_tbl := lw_at lw_m3 190 rfl
theorem q730 : (Jvm.Cond.instanceMethod ({ cls := "NailedOrders$Reader", name := "isAtEnd", desc := "()Z" } : Jvm.MethodName)) ∈ lw_all := lw_g (lw_at lw_m3 191 rfl) rfl
theorem q731 : (Jvm.Cond.code ({ cls := "NailedOrders$Reader", name := "isAtEnd", desc := "()Z" } : Jvm.MethodName) prog_4_method_2_code (1 : Nat) (Option.some Jvm.ClassFile.FieldType.boolean)) ∈ lw_all := lw_g (lw_at lw_m3 192 rfl) rfl
theorem q732 : (Jvm.Cond.interfaceEntry "NailedOrders$Reader" (19 : Nat)) ∈ lw_tbl := lw_at lw_m3 193 rfl
theorem q733 : (Jvm.Cond.methodLink "NailedOrders$Reader" (19 : Nat) ({ cls := "java/lang/CharSequence", name := "length", desc := "()I" } : Jvm.MethodName)) ∈ lw_all := lw_g (lw_at lw_m3 194 rfl) rfl
theorem q740 : (Jvm.Cond.interfaceEntry "NailedOrders$Reader" (29 : Nat)) ∈ lw_tbl := lw_at lw_m3 201 rfl
theorem q741 : (Jvm.Cond.methodLink "NailedOrders$Reader" (29 : Nat) ({ cls := "java/lang/CharSequence", name := "charAt", desc := "(I)C" } : Jvm.MethodName)) ∈ lw_all := lw_g (lw_at lw_m3 202 rfl) rfl
theorem q757 : (Jvm.Cond.classLink "NailedOrders$Reader" (40 : Nat) "NailedOrders$TextFault") ∈ lw_all := lw_g (lw_at lw_m3 218 rfl) rfl
theorem q794 : (Jvm.Cond.methodLink "NailedOrders$Reader" (42 : Nat) ({ cls := "NailedOrders$TextFault", name := "<init>", desc := "(I)V" } : Jvm.MethodName)) ∈ lw_all := lw_g (lw_at lw_m4 15 rfl) rfl
theorem q817 : (Jvm.Cond.methodLink "NailedOrders$Reader" (55 : Nat) ({ cls := "NailedOrders$Reader", name := "digits", desc := "(I)I" } : Jvm.MethodName)) ∈ lw_all := lw_g (lw_at lw_m4 38 rfl) rfl
theorem q818 : (Jvm.Cond.privateMethod ({ cls := "NailedOrders$Reader", name := "digits", desc := "(I)I" } : Jvm.MethodName)) ∈ lw_tbl := lw_at lw_m4 39 rfl
theorem q819 : (Jvm.Cond.instanceMethod ({ cls := "NailedOrders$Reader", name := "digits", desc := "(I)I" } : Jvm.MethodName)) ∈ lw_all := lw_g (lw_at lw_m4 40 rfl) rfl
theorem q820 : (Jvm.Cond.code ({ cls := "NailedOrders$Reader", name := "digits", desc := "(I)I" } : Jvm.MethodName) prog_4_method_8_code (4 : Nat) (Option.some Jvm.ClassFile.FieldType.int)) ∈ lw_all := lw_g (lw_at lw_m4 41 rfl) rfl
theorem q821 : (Jvm.Cond.methodLink "NailedOrders$Reader" (48 : Nat) ({ cls := "NailedOrders$Reader", name := "digit", desc := "()I" } : Jvm.MethodName)) ∈ lw_all := lw_g (lw_at lw_m4 42 rfl) rfl
theorem q822 : (Jvm.Cond.privateMethod ({ cls := "NailedOrders$Reader", name := "digit", desc := "()I" } : Jvm.MethodName)) ∈ lw_tbl := lw_at lw_m4 43 rfl
theorem q823 : (Jvm.Cond.instanceMethod ({ cls := "NailedOrders$Reader", name := "digit", desc := "()I" } : Jvm.MethodName)) ∈ lw_all := lw_g (lw_at lw_m4 44 rfl) rfl
theorem q824 : (Jvm.Cond.code ({ cls := "NailedOrders$Reader", name := "digit", desc := "()I" } : Jvm.MethodName) prog_4_method_7_code (1 : Nat) (Option.some Jvm.ClassFile.FieldType.int)) ∈ lw_all := lw_g (lw_at lw_m4 45 rfl) rfl
theorem q825 : (Jvm.Cond.methodLink "NailedOrders$Reader" (45 : Nat) ({ cls := "NailedOrders$Reader", name := "isDigit", desc := "()Z" } : Jvm.MethodName)) ∈ lw_all := lw_g (lw_at lw_m4 46 rfl) rfl
theorem q826 : (Jvm.Cond.privateMethod ({ cls := "NailedOrders$Reader", name := "isDigit", desc := "()Z" } : Jvm.MethodName)) ∈ lw_tbl := lw_at lw_m4 47 rfl
theorem q827 : (Jvm.Cond.instanceMethod ({ cls := "NailedOrders$Reader", name := "isDigit", desc := "()Z" } : Jvm.MethodName)) ∈ lw_all := lw_g (lw_at lw_m4 48 rfl) rfl
theorem q828 : (Jvm.Cond.code ({ cls := "NailedOrders$Reader", name := "isDigit", desc := "()Z" } : Jvm.MethodName) prog_4_method_6_code (1 : Nat) (Option.some Jvm.ClassFile.FieldType.boolean)) ∈ lw_all := lw_g (lw_at lw_m4 49 rfl) rfl
theorem q829 : (Jvm.Cond.classLink "NailedOrders$Reader" (63 : Nat) "NailedOrders$Told") ∈ lw_all := lw_g (lw_at lw_m4 50 rfl) rfl
theorem q831 : (Jvm.Cond.methodLink "NailedOrders$Reader" (65 : Nat) ({ cls := "NailedOrders$Reader", name := "number", desc := "()F" } : Jvm.MethodName)) ∈ lw_all := lw_g (lw_at lw_m4 52 rfl) rfl
theorem q832 : (Jvm.Cond.privateMethod ({ cls := "NailedOrders$Reader", name := "number", desc := "()F" } : Jvm.MethodName)) ∈ lw_tbl := lw_at lw_m4 53 rfl
theorem q833 : (Jvm.Cond.instanceMethod ({ cls := "NailedOrders$Reader", name := "number", desc := "()F" } : Jvm.MethodName)) ∈ lw_all := lw_g (lw_at lw_m4 54 rfl) rfl
theorem q834 : (Jvm.Cond.code ({ cls := "NailedOrders$Reader", name := "number", desc := "()F" } : Jvm.MethodName) prog_4_method_10_code (3 : Nat) (Option.some Jvm.ClassFile.FieldType.float)) ∈ lw_all := lw_g (lw_at lw_m4 55 rfl) rfl
theorem q835 : (Jvm.Cond.constantFloat "NailedOrders$Reader" (59 : Nat) (1092616192 : UInt32)) ∈ lw_all := lw_g (lw_at lw_m4 56 rfl) rfl
theorem q836 : (Jvm.Cond.methodLink "NailedOrders$Reader" (69 : Nat) ({ cls := "NailedOrders$Told", name := "<init>", desc := "(IIFF)V" } : Jvm.MethodName)) ∈ lw_all := lw_g (lw_at lw_m4 57 rfl) rfl
theorem q853 : (Jvm.Cond.interfaceEntry "NailedOrders$Reader" (79 : Nat)) ∈ lw_tbl := lw_at lw_m4 74 rfl
theorem q854 : (Jvm.Cond.methodLink "NailedOrders$Reader" (79 : Nat) ({ cls := "java/util/List", name := "add", desc := "(Ljava/lang/Object;)Z" } : Jvm.MethodName)) ∈ lw_all := lw_g (lw_at lw_m4 75 rfl) rfl
theorem q1392 : (Jvm.Cond.castable "NailedOrders$Reader" "java/lang/Object") ∈ lw_tbl := lw_at lw_m6 133 rfl
theorem in_X5 : ∀ w ∈ wsX50, w ∈ lw_all := lw_in wsX50 [697, 699] (by decide +kernel) (by decide +kernel)
/-! NailedOrders$State -/
set_option maxRecDepth 100000
def RX1 : String := "NailedOrders$State"
def TX1 : u_T := fun k => match k with
  | 0 => ("NailedOrders$State", "ranks", "[I", true)
  | 1 => ("NailedOrders$State", "orders", "Ljava/util/List;", true)
  | 2 => ("NailedOrders$State", "stacks", "Ljava/util/List;", true)
  | 3 => ("NailedOrders$State", "tolerance", "F", false)
  | 4 => ("NailedOrders$State", "persons", "I", false)
  | _ => ("NailedOrders$State", "storms", "I", false)
def tyX1 : Nat → FieldType := fun k => match k with
  | 0 => .array .int
  | 1 => .object "java/util/List"
  | 2 => .object "java/util/List"
  | 3 => .float
  | 4 => .int
  | _ => .int
abbrev wsX10 : List Cond := u_ws RX1 TX1 6
theorem nmX1 : ∀ a, a < 6 → ∀ b, b < 6 → a ≠ b → (TX1 a).2.1 ≠ (TX1 b).2.1 := by decide +kernel
theorem tyX1_ok : ∀ k, k < 6 → parseFieldDescriptor (TX1 k).2.2.1 = some (tyX1 k) := by decide +kernel
abbrev cX1_init : ByteArray := prog_5_method_1_code
def yX1_init : MethodName := ⟨RX1, "<init>", "()V"⟩
def dkwX1_init_2 : List UInt8 := [187, 0, 15, 89, 183, 0, 17, 185, 0, 25, 2, 0, 87, 132, 1, 1, 167, 255, 230, 177]
abbrev dktX1_init_2 : List UInt8 := dkwX1_init_2 ++ []
def dkwX1_init_1 : List UInt8 := [187, 0, 15, 89, 183, 0, 17, 181, 0, 22, 3, 60, 27, 16, 16, 162, 0, 26, 42, 180, 0, 22]
abbrev dktX1_init_1 : List UInt8 := dkwX1_init_1 ++ dktX1_init_2
def dkwX1_init_0 : List UInt8 := [42, 183, 0, 3, 42, 16, 6, 188, 10, 181, 0, 9, 42, 187, 0, 15, 89, 183, 0, 17, 181, 0, 18, 42]
abbrev dktX1_init_0 : List UInt8 := dkwX1_init_0 ++ dktX1_init_1
theorem dksX1_init_0 : cX1_init.data.toList.drop 0 = dktX1_init_0 := by decide +kernel
theorem dksX1_init_1 : cX1_init.data.toList.drop 24 = dktX1_init_1 := dk_seg dksX1_init_0 24 rfl rfl
theorem dksX1_init_2 : cX1_init.data.toList.drop 46 = dktX1_init_2 := dk_seg dksX1_init_1 22 rfl rfl
theorem dX1_init_0 : decode cX1_init 0 = .ok (.aload_n 0, 1) := dk_42 (dk_at dksX1_init_0 0 rfl rfl)
theorem dX1_init_1 : decode cX1_init 1 = .ok (.invokespecial 3, 3) := dk_183 0 3 (dk_at dksX1_init_0 1 rfl rfl)
theorem dX1_init_4 : decode cX1_init 4 = .ok (.aload_n 0, 1) := dk_42 (dk_at dksX1_init_0 4 rfl rfl)
theorem dX1_init_5 : decode cX1_init 5 = .ok (.bipush 6, 2) := dk_16 6 (dk_at dksX1_init_0 5 rfl rfl)
theorem dX1_init_7 : decode cX1_init 7 = .ok (.newarray .int, 2) := dk_188_10 (dk_at dksX1_init_0 7 rfl rfl)
theorem dX1_init_9 : decode cX1_init 9 = .ok (.putfield 9, 3) := dk_181 0 9 (dk_at dksX1_init_0 9 rfl rfl)
theorem dX1_init_12 : decode cX1_init 12 = .ok (.aload_n 0, 1) := dk_42 (dk_at dksX1_init_0 12 rfl rfl)
theorem dX1_init_13 : decode cX1_init 13 = .ok (.new 15, 3) := dk_187 0 15 (dk_at dksX1_init_0 13 rfl rfl)
theorem dX1_init_16 : decode cX1_init 16 = .ok (.dup, 1) := dk_89 (dk_at dksX1_init_0 16 rfl rfl)
theorem dX1_init_17 : decode cX1_init 17 = .ok (.invokespecial 17, 3) := dk_183 0 17 (dk_at dksX1_init_0 17 rfl rfl)
theorem dX1_init_20 : decode cX1_init 20 = .ok (.putfield 18, 3) := dk_181 0 18 (dk_at dksX1_init_0 20 rfl rfl)
theorem dX1_init_23 : decode cX1_init 23 = .ok (.aload_n 0, 1) := dk_42 (dk_at dksX1_init_0 23 rfl rfl)
theorem dX1_init_24 : decode cX1_init 24 = .ok (.new 15, 3) := dk_187 0 15 (dk_at dksX1_init_1 0 rfl rfl)
theorem dX1_init_27 : decode cX1_init 27 = .ok (.dup, 1) := dk_89 (dk_at dksX1_init_1 3 rfl rfl)
theorem dX1_init_28 : decode cX1_init 28 = .ok (.invokespecial 17, 3) := dk_183 0 17 (dk_at dksX1_init_1 4 rfl rfl)
theorem dX1_init_31 : decode cX1_init 31 = .ok (.putfield 22, 3) := dk_181 0 22 (dk_at dksX1_init_1 7 rfl rfl)
theorem dX1_init_34 : decode cX1_init 34 = .ok (.iconst 0, 1) := dk_3 (dk_at dksX1_init_1 10 rfl rfl)
theorem dX1_init_35 : decode cX1_init 35 = .ok (.istore_n 1, 1) := dk_60 (dk_at dksX1_init_1 11 rfl rfl)
theorem dX1_init_36 : decode cX1_init 36 = .ok (.iload_n 1, 1) := dk_27 (dk_at dksX1_init_1 12 rfl rfl)
theorem dX1_init_37 : decode cX1_init 37 = .ok (.bipush 16, 2) := dk_16 16 (dk_at dksX1_init_1 13 rfl rfl)
theorem dX1_init_39 : decode cX1_init 39 = .ok (.if_icmp .ge 26, 3) := dk_162 0 26 (dk_at dksX1_init_1 15 rfl rfl)
theorem dX1_init_42 : decode cX1_init 42 = .ok (.aload_n 0, 1) := dk_42 (dk_at dksX1_init_1 18 rfl rfl)
theorem dX1_init_43 : decode cX1_init 43 = .ok (.getfield 22, 3) := dk_180 0 22 (dk_at dksX1_init_1 19 rfl rfl)
theorem dX1_init_46 : decode cX1_init 46 = .ok (.new 15, 3) := dk_187 0 15 (dk_at dksX1_init_2 0 rfl rfl)
theorem dX1_init_49 : decode cX1_init 49 = .ok (.dup, 1) := dk_89 (dk_at dksX1_init_2 3 rfl rfl)
theorem dX1_init_50 : decode cX1_init 50 = .ok (.invokespecial 17, 3) := dk_183 0 17 (dk_at dksX1_init_2 4 rfl rfl)
theorem dX1_init_53 : decode cX1_init 53 = .ok (.invokeinterface 25 2, 5) := by decide +kernel
theorem dX1_init_58 : decode cX1_init 58 = .ok (.pop, 1) := dk_87 (dk_at dksX1_init_2 12 rfl rfl)
theorem dX1_init_59 : decode cX1_init 59 = .ok (.iinc 1 1, 3) := dk_132 1 1 (dk_at dksX1_init_2 13 rfl rfl)
theorem dX1_init_62 : decode cX1_init 62 = .ok (.goto (-26), 3) := dk_167 255 230 (dk_at dksX1_init_2 16 rfl rfl)
theorem dX1_init_65 : decode cX1_init 65 = .ok (.return_, 1) := dk_177 (dk_at dksX1_init_2 19 rfl rfl)
abbrev cX1_copy : ByteArray := prog_5_method_2_code
def yX1_copy : MethodName := ⟨RX1, "copy", "()LNailedOrders$State;"⟩
def dkwX1_copy_8 : List UInt8 := [181, 0, 60, 43, 42, 180, 0, 63, 181, 0, 63, 43, 176]
abbrev dktX1_copy_8 : List UInt8 := dkwX1_copy_8 ++ []
def dkwX1_copy_7 : List UInt8 := [167, 255, 175, 132, 2, 1, 167, 255, 161, 43, 42, 180, 0, 56, 181, 0, 56, 43, 42, 180, 0, 60]
abbrev dktX1_copy_7 : List UInt8 := dkwX1_copy_7 ++ dktX1_copy_8
def dkwX1_copy_6 : List UInt8 := [192, 0, 46, 180, 0, 52, 185, 0, 42, 2, 0, 192, 0, 46, 185, 0, 25, 2, 0, 87, 132, 3, 1]
abbrev dktX1_copy_6 : List UInt8 := dkwX1_copy_6 ++ dktX1_copy_7
def dkwX1_copy_5 : List UInt8 := [180, 0, 18, 42, 180, 0, 22, 28, 185, 0, 42, 2, 0, 192, 0, 26, 29, 185, 0, 42, 2, 0]
abbrev dktX1_copy_5 : List UInt8 := dkwX1_copy_5 ++ dktX1_copy_6
def dkwX1_copy_4 : List UInt8 := [185, 0, 38, 1, 0, 162, 0, 65, 43, 180, 0, 22, 28, 185, 0, 42, 2, 0, 192, 0, 26, 43]
abbrev dktX1_copy_4 : List UInt8 := dkwX1_copy_4 ++ dktX1_copy_5
def dkwX1_copy_3 : List UInt8 := [61, 28, 16, 16, 162, 0, 95, 3, 62, 29, 42, 180, 0, 22, 28, 185, 0, 42, 2, 0, 192, 0, 26]
abbrev dktX1_copy_3 : List UInt8 := dkwX1_copy_3 ++ dktX1_copy_4
def dkwX1_copy_2 : List UInt8 := [185, 0, 42, 2, 0, 192, 0, 46, 182, 0, 48, 185, 0, 25, 2, 0, 87, 132, 2, 1, 167, 255, 214, 3]
abbrev dktX1_copy_2 : List UInt8 := dkwX1_copy_2 ++ dktX1_copy_3
def dkwX1_copy_1 : List UInt8 := [61, 28, 42, 180, 0, 18, 185, 0, 38, 1, 0, 162, 0, 35, 43, 180, 0, 18, 42, 180, 0, 18, 28]
abbrev dktX1_copy_1 : List UInt8 := dkwX1_copy_1 ++ dktX1_copy_2
def dkwX1_copy_0 : List UInt8 := [187, 0, 10, 89, 183, 0, 31, 76, 42, 180, 0, 9, 3, 43, 180, 0, 9, 3, 16, 6, 184, 0, 32, 3]
abbrev dktX1_copy_0 : List UInt8 := dkwX1_copy_0 ++ dktX1_copy_1
theorem dksX1_copy_0 : cX1_copy.data.toList.drop 0 = dktX1_copy_0 := by decide +kernel
theorem dksX1_copy_1 : cX1_copy.data.toList.drop 24 = dktX1_copy_1 := dk_seg dksX1_copy_0 24 rfl rfl
theorem dksX1_copy_2 : cX1_copy.data.toList.drop 47 = dktX1_copy_2 := dk_seg dksX1_copy_1 23 rfl rfl
theorem dksX1_copy_3 : cX1_copy.data.toList.drop 71 = dktX1_copy_3 := dk_seg dksX1_copy_2 24 rfl rfl
theorem dksX1_copy_4 : cX1_copy.data.toList.drop 94 = dktX1_copy_4 := dk_seg dksX1_copy_3 23 rfl rfl
theorem dksX1_copy_5 : cX1_copy.data.toList.drop 116 = dktX1_copy_5 := dk_seg dksX1_copy_4 22 rfl rfl
theorem dksX1_copy_6 : cX1_copy.data.toList.drop 138 = dktX1_copy_6 := dk_seg dksX1_copy_5 22 rfl rfl
theorem dksX1_copy_7 : cX1_copy.data.toList.drop 161 = dktX1_copy_7 := dk_seg dksX1_copy_6 23 rfl rfl
theorem dksX1_copy_8 : cX1_copy.data.toList.drop 183 = dktX1_copy_8 := dk_seg dksX1_copy_7 22 rfl rfl
theorem dX1_copy_0 : decode cX1_copy 0 = .ok (.new 10, 3) := dk_187 0 10 (dk_at dksX1_copy_0 0 rfl rfl)
theorem dX1_copy_3 : decode cX1_copy 3 = .ok (.dup, 1) := dk_89 (dk_at dksX1_copy_0 3 rfl rfl)
theorem dX1_copy_4 : decode cX1_copy 4 = .ok (.invokespecial 31, 3) := dk_183 0 31 (dk_at dksX1_copy_0 4 rfl rfl)
theorem dX1_copy_7 : decode cX1_copy 7 = .ok (.astore_n 1, 1) := dk_76 (dk_at dksX1_copy_0 7 rfl rfl)
theorem dX1_copy_8 : decode cX1_copy 8 = .ok (.aload_n 0, 1) := dk_42 (dk_at dksX1_copy_0 8 rfl rfl)
theorem dX1_copy_9 : decode cX1_copy 9 = .ok (.getfield 9, 3) := dk_180 0 9 (dk_at dksX1_copy_0 9 rfl rfl)
theorem dX1_copy_12 : decode cX1_copy 12 = .ok (.iconst 0, 1) := dk_3 (dk_at dksX1_copy_0 12 rfl rfl)
theorem dX1_copy_13 : decode cX1_copy 13 = .ok (.aload_n 1, 1) := dk_43 (dk_at dksX1_copy_0 13 rfl rfl)
theorem dX1_copy_14 : decode cX1_copy 14 = .ok (.getfield 9, 3) := dk_180 0 9 (dk_at dksX1_copy_0 14 rfl rfl)
theorem dX1_copy_17 : decode cX1_copy 17 = .ok (.iconst 0, 1) := dk_3 (dk_at dksX1_copy_0 17 rfl rfl)
theorem dX1_copy_18 : decode cX1_copy 18 = .ok (.bipush 6, 2) := dk_16 6 (dk_at dksX1_copy_0 18 rfl rfl)
theorem dX1_copy_20 : decode cX1_copy 20 = .ok (.invokestatic 32, 3) := dk_184 0 32 (dk_at dksX1_copy_0 20 rfl rfl)
theorem dX1_copy_23 : decode cX1_copy 23 = .ok (.iconst 0, 1) := dk_3 (dk_at dksX1_copy_0 23 rfl rfl)
theorem dX1_copy_24 : decode cX1_copy 24 = .ok (.istore_n 2, 1) := dk_61 (dk_at dksX1_copy_1 0 rfl rfl)
theorem dX1_copy_25 : decode cX1_copy 25 = .ok (.iload_n 2, 1) := dk_28 (dk_at dksX1_copy_1 1 rfl rfl)
theorem dX1_copy_26 : decode cX1_copy 26 = .ok (.aload_n 0, 1) := dk_42 (dk_at dksX1_copy_1 2 rfl rfl)
theorem dX1_copy_27 : decode cX1_copy 27 = .ok (.getfield 18, 3) := dk_180 0 18 (dk_at dksX1_copy_1 3 rfl rfl)
theorem dX1_copy_30 : decode cX1_copy 30 = .ok (.invokeinterface 38 1, 5) := by decide +kernel
theorem dX1_copy_35 : decode cX1_copy 35 = .ok (.if_icmp .ge 35, 3) := dk_162 0 35 (dk_at dksX1_copy_1 11 rfl rfl)
theorem dX1_copy_38 : decode cX1_copy 38 = .ok (.aload_n 1, 1) := dk_43 (dk_at dksX1_copy_1 14 rfl rfl)
theorem dX1_copy_39 : decode cX1_copy 39 = .ok (.getfield 18, 3) := dk_180 0 18 (dk_at dksX1_copy_1 15 rfl rfl)
theorem dX1_copy_42 : decode cX1_copy 42 = .ok (.aload_n 0, 1) := dk_42 (dk_at dksX1_copy_1 18 rfl rfl)
theorem dX1_copy_43 : decode cX1_copy 43 = .ok (.getfield 18, 3) := dk_180 0 18 (dk_at dksX1_copy_1 19 rfl rfl)
theorem dX1_copy_46 : decode cX1_copy 46 = .ok (.iload_n 2, 1) := dk_28 (dk_at dksX1_copy_1 22 rfl rfl)
theorem dX1_copy_47 : decode cX1_copy 47 = .ok (.invokeinterface 42 2, 5) := by decide +kernel
theorem dX1_copy_52 : decode cX1_copy 52 = .ok (.checkcast 46, 3) := dk_192 0 46 (dk_at dksX1_copy_2 5 rfl rfl)
theorem dX1_copy_55 : decode cX1_copy 55 = .ok (.invokevirtual 48, 3) := dk_182 0 48 (dk_at dksX1_copy_2 8 rfl rfl)
theorem dX1_copy_58 : decode cX1_copy 58 = .ok (.invokeinterface 25 2, 5) := by decide +kernel
theorem dX1_copy_63 : decode cX1_copy 63 = .ok (.pop, 1) := dk_87 (dk_at dksX1_copy_2 16 rfl rfl)
theorem dX1_copy_64 : decode cX1_copy 64 = .ok (.iinc 2 1, 3) := dk_132 2 1 (dk_at dksX1_copy_2 17 rfl rfl)
theorem dX1_copy_67 : decode cX1_copy 67 = .ok (.goto (-42), 3) := dk_167 255 214 (dk_at dksX1_copy_2 20 rfl rfl)
theorem dX1_copy_70 : decode cX1_copy 70 = .ok (.iconst 0, 1) := dk_3 (dk_at dksX1_copy_2 23 rfl rfl)
theorem dX1_copy_71 : decode cX1_copy 71 = .ok (.istore_n 2, 1) := dk_61 (dk_at dksX1_copy_3 0 rfl rfl)
theorem dX1_copy_72 : decode cX1_copy 72 = .ok (.iload_n 2, 1) := dk_28 (dk_at dksX1_copy_3 1 rfl rfl)
theorem dX1_copy_73 : decode cX1_copy 73 = .ok (.bipush 16, 2) := dk_16 16 (dk_at dksX1_copy_3 2 rfl rfl)
theorem dX1_copy_75 : decode cX1_copy 75 = .ok (.if_icmp .ge 95, 3) := dk_162 0 95 (dk_at dksX1_copy_3 4 rfl rfl)
theorem dX1_copy_78 : decode cX1_copy 78 = .ok (.iconst 0, 1) := dk_3 (dk_at dksX1_copy_3 7 rfl rfl)
theorem dX1_copy_79 : decode cX1_copy 79 = .ok (.istore_n 3, 1) := dk_62 (dk_at dksX1_copy_3 8 rfl rfl)
theorem dX1_copy_80 : decode cX1_copy 80 = .ok (.iload_n 3, 1) := dk_29 (dk_at dksX1_copy_3 9 rfl rfl)
theorem dX1_copy_81 : decode cX1_copy 81 = .ok (.aload_n 0, 1) := dk_42 (dk_at dksX1_copy_3 10 rfl rfl)
theorem dX1_copy_82 : decode cX1_copy 82 = .ok (.getfield 22, 3) := dk_180 0 22 (dk_at dksX1_copy_3 11 rfl rfl)
theorem dX1_copy_85 : decode cX1_copy 85 = .ok (.iload_n 2, 1) := dk_28 (dk_at dksX1_copy_3 14 rfl rfl)
theorem dX1_copy_86 : decode cX1_copy 86 = .ok (.invokeinterface 42 2, 5) := by decide +kernel
theorem dX1_copy_91 : decode cX1_copy 91 = .ok (.checkcast 26, 3) := dk_192 0 26 (dk_at dksX1_copy_3 20 rfl rfl)
theorem dX1_copy_94 : decode cX1_copy 94 = .ok (.invokeinterface 38 1, 5) := by decide +kernel
theorem dX1_copy_99 : decode cX1_copy 99 = .ok (.if_icmp .ge 65, 3) := dk_162 0 65 (dk_at dksX1_copy_4 5 rfl rfl)
theorem dX1_copy_102 : decode cX1_copy 102 = .ok (.aload_n 1, 1) := dk_43 (dk_at dksX1_copy_4 8 rfl rfl)
theorem dX1_copy_103 : decode cX1_copy 103 = .ok (.getfield 22, 3) := dk_180 0 22 (dk_at dksX1_copy_4 9 rfl rfl)
theorem dX1_copy_106 : decode cX1_copy 106 = .ok (.iload_n 2, 1) := dk_28 (dk_at dksX1_copy_4 12 rfl rfl)
theorem dX1_copy_107 : decode cX1_copy 107 = .ok (.invokeinterface 42 2, 5) := by decide +kernel
theorem dX1_copy_112 : decode cX1_copy 112 = .ok (.checkcast 26, 3) := dk_192 0 26 (dk_at dksX1_copy_4 18 rfl rfl)
theorem dX1_copy_115 : decode cX1_copy 115 = .ok (.aload_n 1, 1) := dk_43 (dk_at dksX1_copy_4 21 rfl rfl)
theorem dX1_copy_116 : decode cX1_copy 116 = .ok (.getfield 18, 3) := dk_180 0 18 (dk_at dksX1_copy_5 0 rfl rfl)
theorem dX1_copy_119 : decode cX1_copy 119 = .ok (.aload_n 0, 1) := dk_42 (dk_at dksX1_copy_5 3 rfl rfl)
theorem dX1_copy_120 : decode cX1_copy 120 = .ok (.getfield 22, 3) := dk_180 0 22 (dk_at dksX1_copy_5 4 rfl rfl)
theorem dX1_copy_123 : decode cX1_copy 123 = .ok (.iload_n 2, 1) := dk_28 (dk_at dksX1_copy_5 7 rfl rfl)
theorem dX1_copy_124 : decode cX1_copy 124 = .ok (.invokeinterface 42 2, 5) := by decide +kernel
theorem dX1_copy_129 : decode cX1_copy 129 = .ok (.checkcast 26, 3) := dk_192 0 26 (dk_at dksX1_copy_5 13 rfl rfl)
theorem dX1_copy_132 : decode cX1_copy 132 = .ok (.iload_n 3, 1) := dk_29 (dk_at dksX1_copy_5 16 rfl rfl)
theorem dX1_copy_133 : decode cX1_copy 133 = .ok (.invokeinterface 42 2, 5) := by decide +kernel
theorem dX1_copy_138 : decode cX1_copy 138 = .ok (.checkcast 46, 3) := dk_192 0 46 (dk_at dksX1_copy_6 0 rfl rfl)
theorem dX1_copy_141 : decode cX1_copy 141 = .ok (.getfield 52, 3) := dk_180 0 52 (dk_at dksX1_copy_6 3 rfl rfl)
theorem dX1_copy_144 : decode cX1_copy 144 = .ok (.invokeinterface 42 2, 5) := by decide +kernel
theorem dX1_copy_149 : decode cX1_copy 149 = .ok (.checkcast 46, 3) := dk_192 0 46 (dk_at dksX1_copy_6 11 rfl rfl)
theorem dX1_copy_152 : decode cX1_copy 152 = .ok (.invokeinterface 25 2, 5) := by decide +kernel
theorem dX1_copy_157 : decode cX1_copy 157 = .ok (.pop, 1) := dk_87 (dk_at dksX1_copy_6 19 rfl rfl)
theorem dX1_copy_158 : decode cX1_copy 158 = .ok (.iinc 3 1, 3) := dk_132 3 1 (dk_at dksX1_copy_6 20 rfl rfl)
theorem dX1_copy_161 : decode cX1_copy 161 = .ok (.goto (-81), 3) := dk_167 255 175 (dk_at dksX1_copy_7 0 rfl rfl)
theorem dX1_copy_164 : decode cX1_copy 164 = .ok (.iinc 2 1, 3) := dk_132 2 1 (dk_at dksX1_copy_7 3 rfl rfl)
theorem dX1_copy_167 : decode cX1_copy 167 = .ok (.goto (-95), 3) := dk_167 255 161 (dk_at dksX1_copy_7 6 rfl rfl)
theorem dX1_copy_170 : decode cX1_copy 170 = .ok (.aload_n 1, 1) := dk_43 (dk_at dksX1_copy_7 9 rfl rfl)
theorem dX1_copy_171 : decode cX1_copy 171 = .ok (.aload_n 0, 1) := dk_42 (dk_at dksX1_copy_7 10 rfl rfl)
theorem dX1_copy_172 : decode cX1_copy 172 = .ok (.getfield 56, 3) := dk_180 0 56 (dk_at dksX1_copy_7 11 rfl rfl)
theorem dX1_copy_175 : decode cX1_copy 175 = .ok (.putfield 56, 3) := dk_181 0 56 (dk_at dksX1_copy_7 14 rfl rfl)
theorem dX1_copy_178 : decode cX1_copy 178 = .ok (.aload_n 1, 1) := dk_43 (dk_at dksX1_copy_7 17 rfl rfl)
theorem dX1_copy_179 : decode cX1_copy 179 = .ok (.aload_n 0, 1) := dk_42 (dk_at dksX1_copy_7 18 rfl rfl)
theorem dX1_copy_180 : decode cX1_copy 180 = .ok (.getfield 60, 3) := dk_180 0 60 (dk_at dksX1_copy_7 19 rfl rfl)
theorem dX1_copy_183 : decode cX1_copy 183 = .ok (.putfield 60, 3) := dk_181 0 60 (dk_at dksX1_copy_8 0 rfl rfl)
theorem dX1_copy_186 : decode cX1_copy 186 = .ok (.aload_n 1, 1) := dk_43 (dk_at dksX1_copy_8 3 rfl rfl)
theorem dX1_copy_187 : decode cX1_copy 187 = .ok (.aload_n 0, 1) := dk_42 (dk_at dksX1_copy_8 4 rfl rfl)
theorem dX1_copy_188 : decode cX1_copy 188 = .ok (.getfield 63, 3) := dk_180 0 63 (dk_at dksX1_copy_8 5 rfl rfl)
theorem dX1_copy_191 : decode cX1_copy 191 = .ok (.putfield 63, 3) := dk_181 0 63 (dk_at dksX1_copy_8 8 rfl rfl)
theorem dX1_copy_194 : decode cX1_copy 194 = .ok (.aload_n 1, 1) := dk_43 (dk_at dksX1_copy_8 11 rfl rfl)
theorem dX1_copy_195 : decode cX1_copy 195 = .ok (.areturn, 1) := dk_176 (dk_at dksX1_copy_8 12 rfl rfl)
abbrev cX1_isPerson : ByteArray := prog_5_method_3_code
def yX1_isPerson : MethodName := ⟨RX1, "isPerson", "(I)Z"⟩
def dkwX1_isPerson_0 : List UInt8 := [27, 3, 42, 180, 0, 60, 4, 100, 184, 0, 66, 172]
abbrev dktX1_isPerson_0 : List UInt8 := dkwX1_isPerson_0 ++ []
theorem dksX1_isPerson_0 : cX1_isPerson.data.toList.drop 0 = dktX1_isPerson_0 := by decide +kernel
theorem dX1_isPerson_0 : decode cX1_isPerson 0 = .ok (.iload_n 1, 1) := dk_27 (dk_at dksX1_isPerson_0 0 rfl rfl)
theorem dX1_isPerson_1 : decode cX1_isPerson 1 = .ok (.iconst 0, 1) := dk_3 (dk_at dksX1_isPerson_0 1 rfl rfl)
theorem dX1_isPerson_2 : decode cX1_isPerson 2 = .ok (.aload_n 0, 1) := dk_42 (dk_at dksX1_isPerson_0 2 rfl rfl)
theorem dX1_isPerson_3 : decode cX1_isPerson 3 = .ok (.getfield 60, 3) := dk_180 0 60 (dk_at dksX1_isPerson_0 3 rfl rfl)
theorem dX1_isPerson_6 : decode cX1_isPerson 6 = .ok (.iconst 1, 1) := dk_4 (dk_at dksX1_isPerson_0 6 rfl rfl)
theorem dX1_isPerson_7 : decode cX1_isPerson 7 = .ok (.isub, 1) := dk_100 (dk_at dksX1_isPerson_0 7 rfl rfl)
theorem dX1_isPerson_8 : decode cX1_isPerson 8 = .ok (.invokestatic 66, 3) := dk_184 0 66 (dk_at dksX1_isPerson_0 8 rfl rfl)
theorem dX1_isPerson_11 : decode cX1_isPerson 11 = .ok (.ireturn, 1) := dk_172 (dk_at dksX1_isPerson_0 11 rfl rfl)
abbrev cX1_nail : ByteArray := prog_5_method_7_code
def yX1_nail : MethodName := ⟨RX1, "nail", "(IIII)I"⟩
def dkwX1_nail_3 : List UInt8 := [183, 0, 99, 182, 0, 102, 172]
abbrev dktX1_nail_3 : List UInt8 := dkwX1_nail_3 ++ []
def dkwX1_nail_2 : List UInt8 := [187, 0, 46, 89, 42, 180, 0, 18, 185, 0, 38, 1, 0, 27, 28, 29, 184, 0, 93, 21, 4, 184, 0, 93]
abbrev dktX1_nail_2 : List UInt8 := dkwX1_nail_2 ++ dktX1_nail_3
def dkwX1_nail_1 : List UInt8 := [21, 4, 184, 0, 86, 154, 0, 6, 16, 254, 172, 42, 182, 0, 89, 153, 0, 6, 16, 253, 172, 42]
abbrev dktX1_nail_1 : List UInt8 := dkwX1_nail_1 ++ dktX1_nail_2
def dkwX1_nail_0 : List UInt8 := [42, 27, 182, 0, 76, 153, 0, 10, 28, 184, 0, 80, 154, 0, 5, 2, 172, 29, 184, 0, 83, 153, 0, 11]
abbrev dktX1_nail_0 : List UInt8 := dkwX1_nail_0 ++ dktX1_nail_1
theorem dksX1_nail_0 : cX1_nail.data.toList.drop 0 = dktX1_nail_0 := by decide +kernel
theorem dksX1_nail_1 : cX1_nail.data.toList.drop 24 = dktX1_nail_1 := dk_seg dksX1_nail_0 24 rfl rfl
theorem dksX1_nail_2 : cX1_nail.data.toList.drop 46 = dktX1_nail_2 := dk_seg dksX1_nail_1 22 rfl rfl
theorem dksX1_nail_3 : cX1_nail.data.toList.drop 70 = dktX1_nail_3 := dk_seg dksX1_nail_2 24 rfl rfl
theorem dX1_nail_0 : decode cX1_nail 0 = .ok (.aload_n 0, 1) := dk_42 (dk_at dksX1_nail_0 0 rfl rfl)
theorem dX1_nail_1 : decode cX1_nail 1 = .ok (.iload_n 1, 1) := dk_27 (dk_at dksX1_nail_0 1 rfl rfl)
theorem dX1_nail_2 : decode cX1_nail 2 = .ok (.invokevirtual 76, 3) := dk_182 0 76 (dk_at dksX1_nail_0 2 rfl rfl)
theorem dX1_nail_5 : decode cX1_nail 5 = .ok (.ifCond .eq 10, 3) := dk_153 0 10 (dk_at dksX1_nail_0 5 rfl rfl)
theorem dX1_nail_8 : decode cX1_nail 8 = .ok (.iload_n 2, 1) := dk_28 (dk_at dksX1_nail_0 8 rfl rfl)
theorem dX1_nail_9 : decode cX1_nail 9 = .ok (.invokestatic 80, 3) := dk_184 0 80 (dk_at dksX1_nail_0 9 rfl rfl)
theorem dX1_nail_12 : decode cX1_nail 12 = .ok (.ifCond .ne 5, 3) := dk_154 0 5 (dk_at dksX1_nail_0 12 rfl rfl)
theorem dX1_nail_15 : decode cX1_nail 15 = .ok (.iconst (-1), 1) := dk_2 (dk_at dksX1_nail_0 15 rfl rfl)
theorem dX1_nail_16 : decode cX1_nail 16 = .ok (.ireturn, 1) := dk_172 (dk_at dksX1_nail_0 16 rfl rfl)
theorem dX1_nail_17 : decode cX1_nail 17 = .ok (.iload_n 3, 1) := dk_29 (dk_at dksX1_nail_0 17 rfl rfl)
theorem dX1_nail_18 : decode cX1_nail 18 = .ok (.invokestatic 83, 3) := dk_184 0 83 (dk_at dksX1_nail_0 18 rfl rfl)
theorem dX1_nail_21 : decode cX1_nail 21 = .ok (.ifCond .eq 11, 3) := dk_153 0 11 (dk_at dksX1_nail_0 21 rfl rfl)
theorem dX1_nail_24 : decode cX1_nail 24 = .ok (.iload 4, 2) := dk_21 4 (dk_at dksX1_nail_1 0 rfl rfl)
theorem dX1_nail_26 : decode cX1_nail 26 = .ok (.invokestatic 86, 3) := dk_184 0 86 (dk_at dksX1_nail_1 2 rfl rfl)
theorem dX1_nail_29 : decode cX1_nail 29 = .ok (.ifCond .ne 6, 3) := dk_154 0 6 (dk_at dksX1_nail_1 5 rfl rfl)
theorem dX1_nail_32 : decode cX1_nail 32 = .ok (.bipush (-2), 2) := dk_16 254 (dk_at dksX1_nail_1 8 rfl rfl)
theorem dX1_nail_34 : decode cX1_nail 34 = .ok (.ireturn, 1) := dk_172 (dk_at dksX1_nail_1 10 rfl rfl)
theorem dX1_nail_35 : decode cX1_nail 35 = .ok (.aload_n 0, 1) := dk_42 (dk_at dksX1_nail_1 11 rfl rfl)
theorem dX1_nail_36 : decode cX1_nail 36 = .ok (.invokevirtual 89, 3) := dk_182 0 89 (dk_at dksX1_nail_1 12 rfl rfl)
theorem dX1_nail_39 : decode cX1_nail 39 = .ok (.ifCond .eq 6, 3) := dk_153 0 6 (dk_at dksX1_nail_1 15 rfl rfl)
theorem dX1_nail_42 : decode cX1_nail 42 = .ok (.bipush (-3), 2) := dk_16 253 (dk_at dksX1_nail_1 18 rfl rfl)
theorem dX1_nail_44 : decode cX1_nail 44 = .ok (.ireturn, 1) := dk_172 (dk_at dksX1_nail_1 20 rfl rfl)
theorem dX1_nail_45 : decode cX1_nail 45 = .ok (.aload_n 0, 1) := dk_42 (dk_at dksX1_nail_1 21 rfl rfl)
theorem dX1_nail_46 : decode cX1_nail 46 = .ok (.new 46, 3) := dk_187 0 46 (dk_at dksX1_nail_2 0 rfl rfl)
theorem dX1_nail_49 : decode cX1_nail 49 = .ok (.dup, 1) := dk_89 (dk_at dksX1_nail_2 3 rfl rfl)
theorem dX1_nail_50 : decode cX1_nail 50 = .ok (.aload_n 0, 1) := dk_42 (dk_at dksX1_nail_2 4 rfl rfl)
theorem dX1_nail_51 : decode cX1_nail 51 = .ok (.getfield 18, 3) := dk_180 0 18 (dk_at dksX1_nail_2 5 rfl rfl)
theorem dX1_nail_54 : decode cX1_nail 54 = .ok (.invokeinterface 38 1, 5) := by decide +kernel
theorem dX1_nail_59 : decode cX1_nail 59 = .ok (.iload_n 1, 1) := dk_27 (dk_at dksX1_nail_2 13 rfl rfl)
theorem dX1_nail_60 : decode cX1_nail 60 = .ok (.iload_n 2, 1) := dk_28 (dk_at dksX1_nail_2 14 rfl rfl)
theorem dX1_nail_61 : decode cX1_nail 61 = .ok (.iload_n 3, 1) := dk_29 (dk_at dksX1_nail_2 15 rfl rfl)
theorem dX1_nail_62 : decode cX1_nail 62 = .ok (.invokestatic 93, 3) := dk_184 0 93 (dk_at dksX1_nail_2 16 rfl rfl)
theorem dX1_nail_65 : decode cX1_nail 65 = .ok (.iload 4, 2) := dk_21 4 (dk_at dksX1_nail_2 19 rfl rfl)
theorem dX1_nail_67 : decode cX1_nail 67 = .ok (.invokestatic 93, 3) := dk_184 0 93 (dk_at dksX1_nail_2 21 rfl rfl)
theorem dX1_nail_70 : decode cX1_nail 70 = .ok (.invokespecial 99, 3) := dk_183 0 99 (dk_at dksX1_nail_3 0 rfl rfl)
theorem dX1_nail_73 : decode cX1_nail 73 = .ok (.invokevirtual 102, 3) := dk_182 0 102 (dk_at dksX1_nail_3 3 rfl rfl)
theorem dX1_nail_76 : decode cX1_nail 76 = .ok (.ireturn, 1) := dk_172 (dk_at dksX1_nail_3 6 rfl rfl)
abbrev cX1_isFull : ByteArray := prog_5_method_5_code
def yX1_isFull : MethodName := ⟨RX1, "isFull", "()Z"⟩
def dkwX1_isFull_1 : List UInt8 := [167, 0, 4, 3, 172]
abbrev dktX1_isFull_1 : List UInt8 := dkwX1_isFull_1 ++ []
def dkwX1_isFull_0 : List UInt8 := [42, 182, 0, 70, 16, 24, 159, 0, 17, 42, 180, 0, 18, 185, 0, 38, 1, 0, 16, 40, 160, 0, 7, 4]
abbrev dktX1_isFull_0 : List UInt8 := dkwX1_isFull_0 ++ dktX1_isFull_1
theorem dksX1_isFull_0 : cX1_isFull.data.toList.drop 0 = dktX1_isFull_0 := by decide +kernel
theorem dksX1_isFull_1 : cX1_isFull.data.toList.drop 24 = dktX1_isFull_1 := dk_seg dksX1_isFull_0 24 rfl rfl
theorem dX1_isFull_0 : decode cX1_isFull 0 = .ok (.aload_n 0, 1) := dk_42 (dk_at dksX1_isFull_0 0 rfl rfl)
theorem dX1_isFull_1 : decode cX1_isFull 1 = .ok (.invokevirtual 70, 3) := dk_182 0 70 (dk_at dksX1_isFull_0 1 rfl rfl)
theorem dX1_isFull_4 : decode cX1_isFull 4 = .ok (.bipush 24, 2) := dk_16 24 (dk_at dksX1_isFull_0 4 rfl rfl)
theorem dX1_isFull_6 : decode cX1_isFull 6 = .ok (.if_icmp .eq 17, 3) := dk_159 0 17 (dk_at dksX1_isFull_0 6 rfl rfl)
theorem dX1_isFull_9 : decode cX1_isFull 9 = .ok (.aload_n 0, 1) := dk_42 (dk_at dksX1_isFull_0 9 rfl rfl)
theorem dX1_isFull_10 : decode cX1_isFull 10 = .ok (.getfield 18, 3) := dk_180 0 18 (dk_at dksX1_isFull_0 10 rfl rfl)
theorem dX1_isFull_13 : decode cX1_isFull 13 = .ok (.invokeinterface 38 1, 5) := by decide +kernel
theorem dX1_isFull_18 : decode cX1_isFull 18 = .ok (.bipush 40, 2) := dk_16 40 (dk_at dksX1_isFull_0 18 rfl rfl)
theorem dX1_isFull_20 : decode cX1_isFull 20 = .ok (.if_icmp .ne 7, 3) := dk_160 0 7 (dk_at dksX1_isFull_0 20 rfl rfl)
theorem dX1_isFull_23 : decode cX1_isFull 23 = .ok (.iconst 1, 1) := dk_4 (dk_at dksX1_isFull_0 23 rfl rfl)
theorem dX1_isFull_24 : decode cX1_isFull 24 = .ok (.goto 4, 3) := dk_167 0 4 (dk_at dksX1_isFull_1 0 rfl rfl)
theorem dX1_isFull_27 : decode cX1_isFull 27 = .ok (.iconst 0, 1) := dk_3 (dk_at dksX1_isFull_1 3 rfl rfl)
theorem dX1_isFull_28 : decode cX1_isFull 28 = .ok (.ireturn, 1) := dk_172 (dk_at dksX1_isFull_1 4 rfl rfl)
abbrev cX1_hanging : ByteArray := prog_5_method_4_code
def yX1_hanging : MethodName := ⟨RX1, "hanging", "()I"⟩
def dkwX1_hanging_1 : List UInt8 := [185, 0, 38, 1, 0, 96, 60, 132, 2, 1, 167, 255, 226, 27, 172]
abbrev dktX1_hanging_1 : List UInt8 := dkwX1_hanging_1 ++ []
def dkwX1_hanging_0 : List UInt8 := [3, 60, 3, 61, 28, 16, 16, 162, 0, 30, 27, 42, 180, 0, 22, 28, 185, 0, 42, 2, 0, 192, 0, 26]
abbrev dktX1_hanging_0 : List UInt8 := dkwX1_hanging_0 ++ dktX1_hanging_1
theorem dksX1_hanging_0 : cX1_hanging.data.toList.drop 0 = dktX1_hanging_0 := by decide +kernel
theorem dksX1_hanging_1 : cX1_hanging.data.toList.drop 24 = dktX1_hanging_1 := dk_seg dksX1_hanging_0 24 rfl rfl
theorem dX1_hanging_0 : decode cX1_hanging 0 = .ok (.iconst 0, 1) := dk_3 (dk_at dksX1_hanging_0 0 rfl rfl)
theorem dX1_hanging_1 : decode cX1_hanging 1 = .ok (.istore_n 1, 1) := dk_60 (dk_at dksX1_hanging_0 1 rfl rfl)
theorem dX1_hanging_2 : decode cX1_hanging 2 = .ok (.iconst 0, 1) := dk_3 (dk_at dksX1_hanging_0 2 rfl rfl)
theorem dX1_hanging_3 : decode cX1_hanging 3 = .ok (.istore_n 2, 1) := dk_61 (dk_at dksX1_hanging_0 3 rfl rfl)
theorem dX1_hanging_4 : decode cX1_hanging 4 = .ok (.iload_n 2, 1) := dk_28 (dk_at dksX1_hanging_0 4 rfl rfl)
theorem dX1_hanging_5 : decode cX1_hanging 5 = .ok (.bipush 16, 2) := dk_16 16 (dk_at dksX1_hanging_0 5 rfl rfl)
theorem dX1_hanging_7 : decode cX1_hanging 7 = .ok (.if_icmp .ge 30, 3) := dk_162 0 30 (dk_at dksX1_hanging_0 7 rfl rfl)
theorem dX1_hanging_10 : decode cX1_hanging 10 = .ok (.iload_n 1, 1) := dk_27 (dk_at dksX1_hanging_0 10 rfl rfl)
theorem dX1_hanging_11 : decode cX1_hanging 11 = .ok (.aload_n 0, 1) := dk_42 (dk_at dksX1_hanging_0 11 rfl rfl)
theorem dX1_hanging_12 : decode cX1_hanging 12 = .ok (.getfield 22, 3) := dk_180 0 22 (dk_at dksX1_hanging_0 12 rfl rfl)
theorem dX1_hanging_15 : decode cX1_hanging 15 = .ok (.iload_n 2, 1) := dk_28 (dk_at dksX1_hanging_0 15 rfl rfl)
theorem dX1_hanging_16 : decode cX1_hanging 16 = .ok (.invokeinterface 42 2, 5) := by decide +kernel
theorem dX1_hanging_21 : decode cX1_hanging 21 = .ok (.checkcast 26, 3) := dk_192 0 26 (dk_at dksX1_hanging_0 21 rfl rfl)
theorem dX1_hanging_24 : decode cX1_hanging 24 = .ok (.invokeinterface 38 1, 5) := by decide +kernel
theorem dX1_hanging_29 : decode cX1_hanging 29 = .ok (.iadd, 1) := dk_96 (dk_at dksX1_hanging_1 5 rfl rfl)
theorem dX1_hanging_30 : decode cX1_hanging 30 = .ok (.istore_n 1, 1) := dk_60 (dk_at dksX1_hanging_1 6 rfl rfl)
theorem dX1_hanging_31 : decode cX1_hanging 31 = .ok (.iinc 2 1, 3) := dk_132 2 1 (dk_at dksX1_hanging_1 7 rfl rfl)
theorem dX1_hanging_34 : decode cX1_hanging 34 = .ok (.goto (-30), 3) := dk_167 255 226 (dk_at dksX1_hanging_1 10 rfl rfl)
theorem dX1_hanging_37 : decode cX1_hanging 37 = .ok (.iload_n 1, 1) := dk_27 (dk_at dksX1_hanging_1 13 rfl rfl)
theorem dX1_hanging_38 : decode cX1_hanging 38 = .ok (.ireturn, 1) := dk_172 (dk_at dksX1_hanging_1 14 rfl rfl)
abbrev cX1_hang : ByteArray := prog_5_method_6_code
def yX1_hang : MethodName := ⟨RX1, "hang", "(LNailedOrders$Order;)I"⟩
def dkwX1_hang_1 : List UInt8 := [192, 0, 26, 43, 185, 0, 25, 2, 0, 87, 43, 180, 0, 52, 172]
abbrev dktX1_hang_1 : List UInt8 := dkwX1_hang_1 ++ []
def dkwX1_hang_0 : List UInt8 := [42, 180, 0, 18, 43, 185, 0, 25, 2, 0, 87, 42, 180, 0, 22, 43, 180, 0, 73, 185, 0, 42, 2, 0]
abbrev dktX1_hang_0 : List UInt8 := dkwX1_hang_0 ++ dktX1_hang_1
theorem dksX1_hang_0 : cX1_hang.data.toList.drop 0 = dktX1_hang_0 := by decide +kernel
theorem dksX1_hang_1 : cX1_hang.data.toList.drop 24 = dktX1_hang_1 := dk_seg dksX1_hang_0 24 rfl rfl
theorem dX1_hang_0 : decode cX1_hang 0 = .ok (.aload_n 0, 1) := dk_42 (dk_at dksX1_hang_0 0 rfl rfl)
theorem dX1_hang_1 : decode cX1_hang 1 = .ok (.getfield 18, 3) := dk_180 0 18 (dk_at dksX1_hang_0 1 rfl rfl)
theorem dX1_hang_4 : decode cX1_hang 4 = .ok (.aload_n 1, 1) := dk_43 (dk_at dksX1_hang_0 4 rfl rfl)
theorem dX1_hang_5 : decode cX1_hang 5 = .ok (.invokeinterface 25 2, 5) := by decide +kernel
theorem dX1_hang_10 : decode cX1_hang 10 = .ok (.pop, 1) := dk_87 (dk_at dksX1_hang_0 10 rfl rfl)
theorem dX1_hang_11 : decode cX1_hang 11 = .ok (.aload_n 0, 1) := dk_42 (dk_at dksX1_hang_0 11 rfl rfl)
theorem dX1_hang_12 : decode cX1_hang 12 = .ok (.getfield 22, 3) := dk_180 0 22 (dk_at dksX1_hang_0 12 rfl rfl)
theorem dX1_hang_15 : decode cX1_hang 15 = .ok (.aload_n 1, 1) := dk_43 (dk_at dksX1_hang_0 15 rfl rfl)
theorem dX1_hang_16 : decode cX1_hang 16 = .ok (.getfield 73, 3) := dk_180 0 73 (dk_at dksX1_hang_0 16 rfl rfl)
theorem dX1_hang_19 : decode cX1_hang 19 = .ok (.invokeinterface 42 2, 5) := by decide +kernel
theorem dX1_hang_24 : decode cX1_hang 24 = .ok (.checkcast 26, 3) := dk_192 0 26 (dk_at dksX1_hang_1 0 rfl rfl)
theorem dX1_hang_27 : decode cX1_hang 27 = .ok (.aload_n 1, 1) := dk_43 (dk_at dksX1_hang_1 3 rfl rfl)
theorem dX1_hang_28 : decode cX1_hang 28 = .ok (.invokeinterface 25 2, 5) := by decide +kernel
theorem dX1_hang_33 : decode cX1_hang 33 = .ok (.pop, 1) := dk_87 (dk_at dksX1_hang_1 9 rfl rfl)
theorem dX1_hang_34 : decode cX1_hang 34 = .ok (.aload_n 1, 1) := dk_43 (dk_at dksX1_hang_1 10 rfl rfl)
theorem dX1_hang_35 : decode cX1_hang 35 = .ok (.getfield 52, 3) := dk_180 0 52 (dk_at dksX1_hang_1 11 rfl rfl)
theorem dX1_hang_38 : decode cX1_hang 38 = .ok (.ireturn, 1) := dk_172 (dk_at dksX1_hang_1 14 rfl rfl)
abbrev cX1_nailLink : ByteArray := prog_5_method_8_code
def yX1_nailLink : MethodName := ⟨RX1, "nailLink", "(IIIIII)I"⟩
def dkwX1_nailLink_4 : List UInt8 := [184, 0, 93, 183, 0, 108, 182, 0, 102, 172]
abbrev dktX1_nailLink_4 : List UInt8 := dkwX1_nailLink_4 ++ []
def dkwX1_nailLink_3 : List UInt8 := [180, 0, 18, 185, 0, 38, 1, 0, 27, 28, 29, 21, 4, 184, 0, 93, 21, 5, 184, 0, 93, 21, 6]
abbrev dktX1_nailLink_3 : List UInt8 := dkwX1_nailLink_3 ++ dktX1_nailLink_4
def dkwX1_nailLink_2 : List UInt8 := [28, 29, 160, 0, 6, 16, 254, 172, 42, 182, 0, 89, 153, 0, 6, 16, 253, 172, 42, 187, 0, 106, 89, 42]
abbrev dktX1_nailLink_2 : List UInt8 := dkwX1_nailLink_2 ++ dktX1_nailLink_3
def dkwX1_nailLink_1 : List UInt8 := [21, 4, 184, 0, 83, 153, 0, 24, 21, 5, 184, 0, 83, 153, 0, 16, 21, 6, 184, 0, 86, 153, 0, 8]
abbrev dktX1_nailLink_1 : List UInt8 := dkwX1_nailLink_1 ++ dktX1_nailLink_2
def dkwX1_nailLink_0 : List UInt8 := [42, 27, 182, 0, 76, 153, 0, 17, 28, 184, 0, 80, 153, 0, 10, 29, 184, 0, 80, 154, 0, 5, 2, 172]
abbrev dktX1_nailLink_0 : List UInt8 := dkwX1_nailLink_0 ++ dktX1_nailLink_1
theorem dksX1_nailLink_0 : cX1_nailLink.data.toList.drop 0 = dktX1_nailLink_0 := by decide +kernel
theorem dksX1_nailLink_1 : cX1_nailLink.data.toList.drop 24 = dktX1_nailLink_1 := dk_seg dksX1_nailLink_0 24 rfl rfl
theorem dksX1_nailLink_2 : cX1_nailLink.data.toList.drop 48 = dktX1_nailLink_2 := dk_seg dksX1_nailLink_1 24 rfl rfl
theorem dksX1_nailLink_3 : cX1_nailLink.data.toList.drop 72 = dktX1_nailLink_3 := dk_seg dksX1_nailLink_2 24 rfl rfl
theorem dksX1_nailLink_4 : cX1_nailLink.data.toList.drop 95 = dktX1_nailLink_4 := dk_seg dksX1_nailLink_3 23 rfl rfl
theorem dX1_nailLink_0 : decode cX1_nailLink 0 = .ok (.aload_n 0, 1) := dk_42 (dk_at dksX1_nailLink_0 0 rfl rfl)
theorem dX1_nailLink_1 : decode cX1_nailLink 1 = .ok (.iload_n 1, 1) := dk_27 (dk_at dksX1_nailLink_0 1 rfl rfl)
theorem dX1_nailLink_2 : decode cX1_nailLink 2 = .ok (.invokevirtual 76, 3) := dk_182 0 76 (dk_at dksX1_nailLink_0 2 rfl rfl)
theorem dX1_nailLink_5 : decode cX1_nailLink 5 = .ok (.ifCond .eq 17, 3) := dk_153 0 17 (dk_at dksX1_nailLink_0 5 rfl rfl)
theorem dX1_nailLink_8 : decode cX1_nailLink 8 = .ok (.iload_n 2, 1) := dk_28 (dk_at dksX1_nailLink_0 8 rfl rfl)
theorem dX1_nailLink_9 : decode cX1_nailLink 9 = .ok (.invokestatic 80, 3) := dk_184 0 80 (dk_at dksX1_nailLink_0 9 rfl rfl)
theorem dX1_nailLink_12 : decode cX1_nailLink 12 = .ok (.ifCond .eq 10, 3) := dk_153 0 10 (dk_at dksX1_nailLink_0 12 rfl rfl)
theorem dX1_nailLink_15 : decode cX1_nailLink 15 = .ok (.iload_n 3, 1) := dk_29 (dk_at dksX1_nailLink_0 15 rfl rfl)
theorem dX1_nailLink_16 : decode cX1_nailLink 16 = .ok (.invokestatic 80, 3) := dk_184 0 80 (dk_at dksX1_nailLink_0 16 rfl rfl)
theorem dX1_nailLink_19 : decode cX1_nailLink 19 = .ok (.ifCond .ne 5, 3) := dk_154 0 5 (dk_at dksX1_nailLink_0 19 rfl rfl)
theorem dX1_nailLink_22 : decode cX1_nailLink 22 = .ok (.iconst (-1), 1) := dk_2 (dk_at dksX1_nailLink_0 22 rfl rfl)
theorem dX1_nailLink_23 : decode cX1_nailLink 23 = .ok (.ireturn, 1) := dk_172 (dk_at dksX1_nailLink_0 23 rfl rfl)
theorem dX1_nailLink_24 : decode cX1_nailLink 24 = .ok (.iload 4, 2) := dk_21 4 (dk_at dksX1_nailLink_1 0 rfl rfl)
theorem dX1_nailLink_26 : decode cX1_nailLink 26 = .ok (.invokestatic 83, 3) := dk_184 0 83 (dk_at dksX1_nailLink_1 2 rfl rfl)
theorem dX1_nailLink_29 : decode cX1_nailLink 29 = .ok (.ifCond .eq 24, 3) := dk_153 0 24 (dk_at dksX1_nailLink_1 5 rfl rfl)
theorem dX1_nailLink_32 : decode cX1_nailLink 32 = .ok (.iload 5, 2) := dk_21 5 (dk_at dksX1_nailLink_1 8 rfl rfl)
theorem dX1_nailLink_34 : decode cX1_nailLink 34 = .ok (.invokestatic 83, 3) := dk_184 0 83 (dk_at dksX1_nailLink_1 10 rfl rfl)
theorem dX1_nailLink_37 : decode cX1_nailLink 37 = .ok (.ifCond .eq 16, 3) := dk_153 0 16 (dk_at dksX1_nailLink_1 13 rfl rfl)
theorem dX1_nailLink_40 : decode cX1_nailLink 40 = .ok (.iload 6, 2) := dk_21 6 (dk_at dksX1_nailLink_1 16 rfl rfl)
theorem dX1_nailLink_42 : decode cX1_nailLink 42 = .ok (.invokestatic 86, 3) := dk_184 0 86 (dk_at dksX1_nailLink_1 18 rfl rfl)
theorem dX1_nailLink_45 : decode cX1_nailLink 45 = .ok (.ifCond .eq 8, 3) := dk_153 0 8 (dk_at dksX1_nailLink_1 21 rfl rfl)
theorem dX1_nailLink_48 : decode cX1_nailLink 48 = .ok (.iload_n 2, 1) := dk_28 (dk_at dksX1_nailLink_2 0 rfl rfl)
theorem dX1_nailLink_49 : decode cX1_nailLink 49 = .ok (.iload_n 3, 1) := dk_29 (dk_at dksX1_nailLink_2 1 rfl rfl)
theorem dX1_nailLink_50 : decode cX1_nailLink 50 = .ok (.if_icmp .ne 6, 3) := dk_160 0 6 (dk_at dksX1_nailLink_2 2 rfl rfl)
theorem dX1_nailLink_53 : decode cX1_nailLink 53 = .ok (.bipush (-2), 2) := dk_16 254 (dk_at dksX1_nailLink_2 5 rfl rfl)
theorem dX1_nailLink_55 : decode cX1_nailLink 55 = .ok (.ireturn, 1) := dk_172 (dk_at dksX1_nailLink_2 7 rfl rfl)
theorem dX1_nailLink_56 : decode cX1_nailLink 56 = .ok (.aload_n 0, 1) := dk_42 (dk_at dksX1_nailLink_2 8 rfl rfl)
theorem dX1_nailLink_57 : decode cX1_nailLink 57 = .ok (.invokevirtual 89, 3) := dk_182 0 89 (dk_at dksX1_nailLink_2 9 rfl rfl)
theorem dX1_nailLink_60 : decode cX1_nailLink 60 = .ok (.ifCond .eq 6, 3) := dk_153 0 6 (dk_at dksX1_nailLink_2 12 rfl rfl)
theorem dX1_nailLink_63 : decode cX1_nailLink 63 = .ok (.bipush (-3), 2) := dk_16 253 (dk_at dksX1_nailLink_2 15 rfl rfl)
theorem dX1_nailLink_65 : decode cX1_nailLink 65 = .ok (.ireturn, 1) := dk_172 (dk_at dksX1_nailLink_2 17 rfl rfl)
theorem dX1_nailLink_66 : decode cX1_nailLink 66 = .ok (.aload_n 0, 1) := dk_42 (dk_at dksX1_nailLink_2 18 rfl rfl)
theorem dX1_nailLink_67 : decode cX1_nailLink 67 = .ok (.new 106, 3) := dk_187 0 106 (dk_at dksX1_nailLink_2 19 rfl rfl)
theorem dX1_nailLink_70 : decode cX1_nailLink 70 = .ok (.dup, 1) := dk_89 (dk_at dksX1_nailLink_2 22 rfl rfl)
theorem dX1_nailLink_71 : decode cX1_nailLink 71 = .ok (.aload_n 0, 1) := dk_42 (dk_at dksX1_nailLink_2 23 rfl rfl)
theorem dX1_nailLink_72 : decode cX1_nailLink 72 = .ok (.getfield 18, 3) := dk_180 0 18 (dk_at dksX1_nailLink_3 0 rfl rfl)
theorem dX1_nailLink_75 : decode cX1_nailLink 75 = .ok (.invokeinterface 38 1, 5) := by decide +kernel
theorem dX1_nailLink_80 : decode cX1_nailLink 80 = .ok (.iload_n 1, 1) := dk_27 (dk_at dksX1_nailLink_3 8 rfl rfl)
theorem dX1_nailLink_81 : decode cX1_nailLink 81 = .ok (.iload_n 2, 1) := dk_28 (dk_at dksX1_nailLink_3 9 rfl rfl)
theorem dX1_nailLink_82 : decode cX1_nailLink 82 = .ok (.iload_n 3, 1) := dk_29 (dk_at dksX1_nailLink_3 10 rfl rfl)
theorem dX1_nailLink_83 : decode cX1_nailLink 83 = .ok (.iload 4, 2) := dk_21 4 (dk_at dksX1_nailLink_3 11 rfl rfl)
theorem dX1_nailLink_85 : decode cX1_nailLink 85 = .ok (.invokestatic 93, 3) := dk_184 0 93 (dk_at dksX1_nailLink_3 13 rfl rfl)
theorem dX1_nailLink_88 : decode cX1_nailLink 88 = .ok (.iload 5, 2) := dk_21 5 (dk_at dksX1_nailLink_3 16 rfl rfl)
theorem dX1_nailLink_90 : decode cX1_nailLink 90 = .ok (.invokestatic 93, 3) := dk_184 0 93 (dk_at dksX1_nailLink_3 18 rfl rfl)
theorem dX1_nailLink_93 : decode cX1_nailLink 93 = .ok (.iload 6, 2) := dk_21 6 (dk_at dksX1_nailLink_3 21 rfl rfl)
theorem dX1_nailLink_95 : decode cX1_nailLink 95 = .ok (.invokestatic 93, 3) := dk_184 0 93 (dk_at dksX1_nailLink_4 0 rfl rfl)
theorem dX1_nailLink_98 : decode cX1_nailLink 98 = .ok (.invokespecial 108, 3) := dk_183 0 108 (dk_at dksX1_nailLink_4 3 rfl rfl)
theorem dX1_nailLink_101 : decode cX1_nailLink 101 = .ok (.invokevirtual 102, 3) := dk_182 0 102 (dk_at dksX1_nailLink_4 6 rfl rfl)
theorem dX1_nailLink_104 : decode cX1_nailLink 104 = .ok (.ireturn, 1) := dk_172 (dk_at dksX1_nailLink_4 9 rfl rfl)
abbrev cX1_takeOff : ByteArray := prog_5_method_9_code
def yX1_takeOff : MethodName := ⟨RX1, "takeOff", "(LNailedOrders$Order;I)V"⟩
def dkwX1_takeOff_1 : List UInt8 := [185, 0, 114, 2, 0, 87, 177]
abbrev dktX1_takeOff_1 : List UInt8 := dkwX1_takeOff_1 ++ []
def dkwX1_takeOff_0 : List UInt8 := [43, 28, 181, 0, 111, 42, 180, 0, 22, 43, 180, 0, 73, 185, 0, 42, 2, 0, 192, 0, 26, 43]
abbrev dktX1_takeOff_0 : List UInt8 := dkwX1_takeOff_0 ++ dktX1_takeOff_1
theorem dksX1_takeOff_0 : cX1_takeOff.data.toList.drop 0 = dktX1_takeOff_0 := by decide +kernel
theorem dksX1_takeOff_1 : cX1_takeOff.data.toList.drop 22 = dktX1_takeOff_1 := dk_seg dksX1_takeOff_0 22 rfl rfl
theorem dX1_takeOff_0 : decode cX1_takeOff 0 = .ok (.aload_n 1, 1) := dk_43 (dk_at dksX1_takeOff_0 0 rfl rfl)
theorem dX1_takeOff_1 : decode cX1_takeOff 1 = .ok (.iload_n 2, 1) := dk_28 (dk_at dksX1_takeOff_0 1 rfl rfl)
theorem dX1_takeOff_2 : decode cX1_takeOff 2 = .ok (.putfield 111, 3) := dk_181 0 111 (dk_at dksX1_takeOff_0 2 rfl rfl)
theorem dX1_takeOff_5 : decode cX1_takeOff 5 = .ok (.aload_n 0, 1) := dk_42 (dk_at dksX1_takeOff_0 5 rfl rfl)
theorem dX1_takeOff_6 : decode cX1_takeOff 6 = .ok (.getfield 22, 3) := dk_180 0 22 (dk_at dksX1_takeOff_0 6 rfl rfl)
theorem dX1_takeOff_9 : decode cX1_takeOff 9 = .ok (.aload_n 1, 1) := dk_43 (dk_at dksX1_takeOff_0 9 rfl rfl)
theorem dX1_takeOff_10 : decode cX1_takeOff 10 = .ok (.getfield 73, 3) := dk_180 0 73 (dk_at dksX1_takeOff_0 10 rfl rfl)
theorem dX1_takeOff_13 : decode cX1_takeOff 13 = .ok (.invokeinterface 42 2, 5) := by decide +kernel
theorem dX1_takeOff_18 : decode cX1_takeOff 18 = .ok (.checkcast 26, 3) := dk_192 0 26 (dk_at dksX1_takeOff_0 18 rfl rfl)
theorem dX1_takeOff_21 : decode cX1_takeOff 21 = .ok (.aload_n 1, 1) := dk_43 (dk_at dksX1_takeOff_0 21 rfl rfl)
theorem dX1_takeOff_22 : decode cX1_takeOff 22 = .ok (.invokeinterface 114 2, 5) := by decide +kernel
theorem dX1_takeOff_27 : decode cX1_takeOff 27 = .ok (.pop, 1) := dk_87 (dk_at dksX1_takeOff_1 5 rfl rfl)
theorem dX1_takeOff_28 : decode cX1_takeOff 28 = .ok (.return_, 1) := dk_177 (dk_at dksX1_takeOff_1 6 rfl rfl)
abbrev cX1_storm : ByteArray := prog_5_method_11_code
def yX1_storm : MethodName := ⟨RX1, "storm", "(F)I"⟩
def dkwX1_storm_6 : List UInt8 := [181, 0, 63, 28, 172]
abbrev dktX1_storm_6 : List UInt8 := dkwX1_storm_6 ++ []
def dkwX1_storm_5 : List UInt8 := [25, 4, 4, 182, 0, 130, 132, 2, 1, 132, 3, 1, 167, 255, 194, 42, 89, 180, 0, 63, 4, 96]
abbrev dktX1_storm_5 : List UInt8 := dkwX1_storm_5 ++ dktX1_storm_6
def dkwX1_storm_4 : List UInt8 := [58, 4, 25, 4, 182, 0, 121, 153, 0, 26, 25, 4, 180, 0, 124, 11, 149, 158, 0, 6, 167, 0, 13, 42]
abbrev dktX1_storm_4 : List UInt8 := dkwX1_storm_4 ++ dktX1_storm_5
def dkwX1_storm_3 : List UInt8 := [180, 0, 18, 185, 0, 38, 1, 0, 162, 0, 55, 42, 180, 0, 18, 29, 185, 0, 42, 2, 0, 192, 0, 46]
abbrev dktX1_storm_3 : List UInt8 := dkwX1_storm_3 ++ dktX1_storm_4
def dkwX1_storm_2 : List UInt8 := [45, 182, 0, 127, 96, 134, 110, 102, 181, 0, 124, 132, 2, 1, 167, 255, 200, 3, 61, 3, 62, 29, 42]
abbrev dktX1_storm_2 : List UInt8 := dkwX1_storm_2 ++ dktX1_storm_3
def dkwX1_storm_1 : List UInt8 := [185, 0, 42, 2, 0, 192, 0, 46, 78, 45, 182, 0, 121, 153, 0, 22, 45, 45, 180, 0, 124, 35, 4, 42]
abbrev dktX1_storm_1 : List UInt8 := dkwX1_storm_1 ++ dktX1_storm_2
def dkwX1_storm_0 : List UInt8 := [3, 61, 28, 42, 180, 0, 18, 185, 0, 38, 1, 0, 162, 0, 49, 42, 180, 0, 18, 28]
abbrev dktX1_storm_0 : List UInt8 := dkwX1_storm_0 ++ dktX1_storm_1
theorem dksX1_storm_0 : cX1_storm.data.toList.drop 0 = dktX1_storm_0 := by decide +kernel
theorem dksX1_storm_1 : cX1_storm.data.toList.drop 20 = dktX1_storm_1 := dk_seg dksX1_storm_0 20 rfl rfl
theorem dksX1_storm_2 : cX1_storm.data.toList.drop 44 = dktX1_storm_2 := dk_seg dksX1_storm_1 24 rfl rfl
theorem dksX1_storm_3 : cX1_storm.data.toList.drop 67 = dktX1_storm_3 := dk_seg dksX1_storm_2 23 rfl rfl
theorem dksX1_storm_4 : cX1_storm.data.toList.drop 91 = dktX1_storm_4 := dk_seg dksX1_storm_3 24 rfl rfl
theorem dksX1_storm_5 : cX1_storm.data.toList.drop 115 = dktX1_storm_5 := dk_seg dksX1_storm_4 24 rfl rfl
theorem dksX1_storm_6 : cX1_storm.data.toList.drop 137 = dktX1_storm_6 := dk_seg dksX1_storm_5 22 rfl rfl
theorem dX1_storm_0 : decode cX1_storm 0 = .ok (.iconst 0, 1) := dk_3 (dk_at dksX1_storm_0 0 rfl rfl)
theorem dX1_storm_1 : decode cX1_storm 1 = .ok (.istore_n 2, 1) := dk_61 (dk_at dksX1_storm_0 1 rfl rfl)
theorem dX1_storm_2 : decode cX1_storm 2 = .ok (.iload_n 2, 1) := dk_28 (dk_at dksX1_storm_0 2 rfl rfl)
theorem dX1_storm_3 : decode cX1_storm 3 = .ok (.aload_n 0, 1) := dk_42 (dk_at dksX1_storm_0 3 rfl rfl)
theorem dX1_storm_4 : decode cX1_storm 4 = .ok (.getfield 18, 3) := dk_180 0 18 (dk_at dksX1_storm_0 4 rfl rfl)
theorem dX1_storm_7 : decode cX1_storm 7 = .ok (.invokeinterface 38 1, 5) := by decide +kernel
theorem dX1_storm_12 : decode cX1_storm 12 = .ok (.if_icmp .ge 49, 3) := dk_162 0 49 (dk_at dksX1_storm_0 12 rfl rfl)
theorem dX1_storm_15 : decode cX1_storm 15 = .ok (.aload_n 0, 1) := dk_42 (dk_at dksX1_storm_0 15 rfl rfl)
theorem dX1_storm_16 : decode cX1_storm 16 = .ok (.getfield 18, 3) := dk_180 0 18 (dk_at dksX1_storm_0 16 rfl rfl)
theorem dX1_storm_19 : decode cX1_storm 19 = .ok (.iload_n 2, 1) := dk_28 (dk_at dksX1_storm_0 19 rfl rfl)
theorem dX1_storm_20 : decode cX1_storm 20 = .ok (.invokeinterface 42 2, 5) := by decide +kernel
theorem dX1_storm_25 : decode cX1_storm 25 = .ok (.checkcast 46, 3) := dk_192 0 46 (dk_at dksX1_storm_1 5 rfl rfl)
theorem dX1_storm_28 : decode cX1_storm 28 = .ok (.astore_n 3, 1) := dk_78 (dk_at dksX1_storm_1 8 rfl rfl)
theorem dX1_storm_29 : decode cX1_storm 29 = .ok (.aload_n 3, 1) := dk_45 (dk_at dksX1_storm_1 9 rfl rfl)
theorem dX1_storm_30 : decode cX1_storm 30 = .ok (.invokevirtual 121, 3) := dk_182 0 121 (dk_at dksX1_storm_1 10 rfl rfl)
theorem dX1_storm_33 : decode cX1_storm 33 = .ok (.ifCond .eq 22, 3) := dk_153 0 22 (dk_at dksX1_storm_1 13 rfl rfl)
theorem dX1_storm_36 : decode cX1_storm 36 = .ok (.aload_n 3, 1) := dk_45 (dk_at dksX1_storm_1 16 rfl rfl)
theorem dX1_storm_37 : decode cX1_storm 37 = .ok (.aload_n 3, 1) := dk_45 (dk_at dksX1_storm_1 17 rfl rfl)
theorem dX1_storm_38 : decode cX1_storm 38 = .ok (.getfield 124, 3) := dk_180 0 124 (dk_at dksX1_storm_1 18 rfl rfl)
theorem dX1_storm_41 : decode cX1_storm 41 = .ok (.fload_n 1, 1) := dk_35 (dk_at dksX1_storm_1 21 rfl rfl)
theorem dX1_storm_42 : decode cX1_storm 42 = .ok (.iconst 1, 1) := dk_4 (dk_at dksX1_storm_1 22 rfl rfl)
theorem dX1_storm_43 : decode cX1_storm 43 = .ok (.aload_n 0, 1) := dk_42 (dk_at dksX1_storm_1 23 rfl rfl)
theorem dX1_storm_44 : decode cX1_storm 44 = .ok (.aload_n 3, 1) := dk_45 (dk_at dksX1_storm_2 0 rfl rfl)
theorem dX1_storm_45 : decode cX1_storm 45 = .ok (.invokevirtual 127, 3) := dk_182 0 127 (dk_at dksX1_storm_2 1 rfl rfl)
theorem dX1_storm_48 : decode cX1_storm 48 = .ok (.iadd, 1) := dk_96 (dk_at dksX1_storm_2 4 rfl rfl)
theorem dX1_storm_49 : decode cX1_storm 49 = .ok (.i2f, 1) := dk_134 (dk_at dksX1_storm_2 5 rfl rfl)
theorem dX1_storm_50 : decode cX1_storm 50 = .ok (.fdiv, 1) := dk_110 (dk_at dksX1_storm_2 6 rfl rfl)
theorem dX1_storm_51 : decode cX1_storm 51 = .ok (.fsub, 1) := dk_102 (dk_at dksX1_storm_2 7 rfl rfl)
theorem dX1_storm_52 : decode cX1_storm 52 = .ok (.putfield 124, 3) := dk_181 0 124 (dk_at dksX1_storm_2 8 rfl rfl)
theorem dX1_storm_55 : decode cX1_storm 55 = .ok (.iinc 2 1, 3) := dk_132 2 1 (dk_at dksX1_storm_2 11 rfl rfl)
theorem dX1_storm_58 : decode cX1_storm 58 = .ok (.goto (-56), 3) := dk_167 255 200 (dk_at dksX1_storm_2 14 rfl rfl)
theorem dX1_storm_61 : decode cX1_storm 61 = .ok (.iconst 0, 1) := dk_3 (dk_at dksX1_storm_2 17 rfl rfl)
theorem dX1_storm_62 : decode cX1_storm 62 = .ok (.istore_n 2, 1) := dk_61 (dk_at dksX1_storm_2 18 rfl rfl)
theorem dX1_storm_63 : decode cX1_storm 63 = .ok (.iconst 0, 1) := dk_3 (dk_at dksX1_storm_2 19 rfl rfl)
theorem dX1_storm_64 : decode cX1_storm 64 = .ok (.istore_n 3, 1) := dk_62 (dk_at dksX1_storm_2 20 rfl rfl)
theorem dX1_storm_65 : decode cX1_storm 65 = .ok (.iload_n 3, 1) := dk_29 (dk_at dksX1_storm_2 21 rfl rfl)
theorem dX1_storm_66 : decode cX1_storm 66 = .ok (.aload_n 0, 1) := dk_42 (dk_at dksX1_storm_2 22 rfl rfl)
theorem dX1_storm_67 : decode cX1_storm 67 = .ok (.getfield 18, 3) := dk_180 0 18 (dk_at dksX1_storm_3 0 rfl rfl)
theorem dX1_storm_70 : decode cX1_storm 70 = .ok (.invokeinterface 38 1, 5) := by decide +kernel
theorem dX1_storm_75 : decode cX1_storm 75 = .ok (.if_icmp .ge 55, 3) := dk_162 0 55 (dk_at dksX1_storm_3 8 rfl rfl)
theorem dX1_storm_78 : decode cX1_storm 78 = .ok (.aload_n 0, 1) := dk_42 (dk_at dksX1_storm_3 11 rfl rfl)
theorem dX1_storm_79 : decode cX1_storm 79 = .ok (.getfield 18, 3) := dk_180 0 18 (dk_at dksX1_storm_3 12 rfl rfl)
theorem dX1_storm_82 : decode cX1_storm 82 = .ok (.iload_n 3, 1) := dk_29 (dk_at dksX1_storm_3 15 rfl rfl)
theorem dX1_storm_83 : decode cX1_storm 83 = .ok (.invokeinterface 42 2, 5) := by decide +kernel
theorem dX1_storm_88 : decode cX1_storm 88 = .ok (.checkcast 46, 3) := dk_192 0 46 (dk_at dksX1_storm_3 21 rfl rfl)
theorem dX1_storm_91 : decode cX1_storm 91 = .ok (.astore 4, 2) := dk_58 4 (dk_at dksX1_storm_4 0 rfl rfl)
theorem dX1_storm_93 : decode cX1_storm 93 = .ok (.aload 4, 2) := dk_25 4 (dk_at dksX1_storm_4 2 rfl rfl)
theorem dX1_storm_95 : decode cX1_storm 95 = .ok (.invokevirtual 121, 3) := dk_182 0 121 (dk_at dksX1_storm_4 4 rfl rfl)
theorem dX1_storm_98 : decode cX1_storm 98 = .ok (.ifCond .eq 26, 3) := dk_153 0 26 (dk_at dksX1_storm_4 7 rfl rfl)
theorem dX1_storm_101 : decode cX1_storm 101 = .ok (.aload 4, 2) := dk_25 4 (dk_at dksX1_storm_4 10 rfl rfl)
theorem dX1_storm_103 : decode cX1_storm 103 = .ok (.getfield 124, 3) := dk_180 0 124 (dk_at dksX1_storm_4 12 rfl rfl)
theorem dX1_storm_106 : decode cX1_storm 106 = .ok (.fconst 0, 1) := dk_11 (dk_at dksX1_storm_4 15 rfl rfl)
theorem dX1_storm_107 : decode cX1_storm 107 = .ok (.fcmp .l, 1) := dk_149 (dk_at dksX1_storm_4 16 rfl rfl)
theorem dX1_storm_108 : decode cX1_storm 108 = .ok (.ifCond .le 6, 3) := dk_158 0 6 (dk_at dksX1_storm_4 17 rfl rfl)
theorem dX1_storm_111 : decode cX1_storm 111 = .ok (.goto 13, 3) := dk_167 0 13 (dk_at dksX1_storm_4 20 rfl rfl)
theorem dX1_storm_114 : decode cX1_storm 114 = .ok (.aload_n 0, 1) := dk_42 (dk_at dksX1_storm_4 23 rfl rfl)
theorem dX1_storm_115 : decode cX1_storm 115 = .ok (.aload 4, 2) := dk_25 4 (dk_at dksX1_storm_5 0 rfl rfl)
theorem dX1_storm_117 : decode cX1_storm 117 = .ok (.iconst 1, 1) := dk_4 (dk_at dksX1_storm_5 2 rfl rfl)
theorem dX1_storm_118 : decode cX1_storm 118 = .ok (.invokevirtual 130, 3) := dk_182 0 130 (dk_at dksX1_storm_5 3 rfl rfl)
theorem dX1_storm_121 : decode cX1_storm 121 = .ok (.iinc 2 1, 3) := dk_132 2 1 (dk_at dksX1_storm_5 6 rfl rfl)
theorem dX1_storm_124 : decode cX1_storm 124 = .ok (.iinc 3 1, 3) := dk_132 3 1 (dk_at dksX1_storm_5 9 rfl rfl)
theorem dX1_storm_127 : decode cX1_storm 127 = .ok (.goto (-62), 3) := dk_167 255 194 (dk_at dksX1_storm_5 12 rfl rfl)
theorem dX1_storm_130 : decode cX1_storm 130 = .ok (.aload_n 0, 1) := dk_42 (dk_at dksX1_storm_5 15 rfl rfl)
theorem dX1_storm_131 : decode cX1_storm 131 = .ok (.dup, 1) := dk_89 (dk_at dksX1_storm_5 16 rfl rfl)
theorem dX1_storm_132 : decode cX1_storm 132 = .ok (.getfield 63, 3) := dk_180 0 63 (dk_at dksX1_storm_5 17 rfl rfl)
theorem dX1_storm_135 : decode cX1_storm 135 = .ok (.iconst 1, 1) := dk_4 (dk_at dksX1_storm_5 20 rfl rfl)
theorem dX1_storm_136 : decode cX1_storm 136 = .ok (.iadd, 1) := dk_96 (dk_at dksX1_storm_5 21 rfl rfl)
theorem dX1_storm_137 : decode cX1_storm 137 = .ok (.putfield 63, 3) := dk_181 0 63 (dk_at dksX1_storm_6 0 rfl rfl)
theorem dX1_storm_140 : decode cX1_storm 140 = .ok (.iload_n 2, 1) := dk_28 (dk_at dksX1_storm_6 3 rfl rfl)
theorem dX1_storm_141 : decode cX1_storm 141 = .ok (.ireturn, 1) := dk_172 (dk_at dksX1_storm_6 4 rfl rfl)
abbrev cX1_over : ByteArray := prog_5_method_10_code
def yX1_over : MethodName := ⟨RX1, "over", "(LNailedOrders$Order;)I"⟩
def dkwX1_over_1 : List UInt8 := [100, 44, 43, 185, 0, 117, 2, 0, 100, 172]
abbrev dktX1_over_1 : List UInt8 := dkwX1_over_1 ++ []
def dkwX1_over_0 : List UInt8 := [42, 180, 0, 22, 43, 180, 0, 73, 185, 0, 42, 2, 0, 192, 0, 26, 77, 44, 185, 0, 38, 1, 0, 4]
abbrev dktX1_over_0 : List UInt8 := dkwX1_over_0 ++ dktX1_over_1
theorem dksX1_over_0 : cX1_over.data.toList.drop 0 = dktX1_over_0 := by decide +kernel
theorem dksX1_over_1 : cX1_over.data.toList.drop 24 = dktX1_over_1 := dk_seg dksX1_over_0 24 rfl rfl
theorem dX1_over_0 : decode cX1_over 0 = .ok (.aload_n 0, 1) := dk_42 (dk_at dksX1_over_0 0 rfl rfl)
theorem dX1_over_1 : decode cX1_over 1 = .ok (.getfield 22, 3) := dk_180 0 22 (dk_at dksX1_over_0 1 rfl rfl)
theorem dX1_over_4 : decode cX1_over 4 = .ok (.aload_n 1, 1) := dk_43 (dk_at dksX1_over_0 4 rfl rfl)
theorem dX1_over_5 : decode cX1_over 5 = .ok (.getfield 73, 3) := dk_180 0 73 (dk_at dksX1_over_0 5 rfl rfl)
theorem dX1_over_8 : decode cX1_over 8 = .ok (.invokeinterface 42 2, 5) := by decide +kernel
theorem dX1_over_13 : decode cX1_over 13 = .ok (.checkcast 26, 3) := dk_192 0 26 (dk_at dksX1_over_0 13 rfl rfl)
theorem dX1_over_16 : decode cX1_over 16 = .ok (.astore_n 2, 1) := dk_77 (dk_at dksX1_over_0 16 rfl rfl)
theorem dX1_over_17 : decode cX1_over 17 = .ok (.aload_n 2, 1) := dk_44 (dk_at dksX1_over_0 17 rfl rfl)
theorem dX1_over_18 : decode cX1_over 18 = .ok (.invokeinterface 38 1, 5) := by decide +kernel
theorem dX1_over_23 : decode cX1_over 23 = .ok (.iconst 1, 1) := dk_4 (dk_at dksX1_over_0 23 rfl rfl)
theorem dX1_over_24 : decode cX1_over 24 = .ok (.isub, 1) := dk_100 (dk_at dksX1_over_1 0 rfl rfl)
theorem dX1_over_25 : decode cX1_over 25 = .ok (.aload_n 2, 1) := dk_44 (dk_at dksX1_over_1 1 rfl rfl)
theorem dX1_over_26 : decode cX1_over 26 = .ok (.aload_n 1, 1) := dk_43 (dk_at dksX1_over_1 2 rfl rfl)
theorem dX1_over_27 : decode cX1_over 27 = .ok (.invokeinterface 117 2, 5) := by decide +kernel
theorem dX1_over_32 : decode cX1_over 32 = .ok (.isub, 1) := dk_100 (dk_at dksX1_over_1 8 rfl rfl)
theorem dX1_over_33 : decode cX1_over 33 = .ok (.ireturn, 1) := dk_172 (dk_at dksX1_over_1 9 rfl rfl)
abbrev cX1_value : ByteArray := prog_5_method_16_code
def yX1_value : MethodName := ⟨RX1, "value", "(I)F"⟩
def dkwX1_value_0 : List UInt8 := [42, 27, 3, 182, 0, 158, 174]
abbrev dktX1_value_0 : List UInt8 := dkwX1_value_0 ++ []
theorem dksX1_value_0 : cX1_value.data.toList.drop 0 = dktX1_value_0 := by decide +kernel
theorem dX1_value_0 : decode cX1_value 0 = .ok (.aload_n 0, 1) := dk_42 (dk_at dksX1_value_0 0 rfl rfl)
theorem dX1_value_1 : decode cX1_value 1 = .ok (.iload_n 1, 1) := dk_27 (dk_at dksX1_value_0 1 rfl rfl)
theorem dX1_value_2 : decode cX1_value 2 = .ok (.iconst 0, 1) := dk_3 (dk_at dksX1_value_0 2 rfl rfl)
theorem dX1_value_3 : decode cX1_value 3 = .ok (.invokevirtual 158, 3) := dk_182 0 158 (dk_at dksX1_value_0 3 rfl rfl)
theorem dX1_value_6 : decode cX1_value 6 = .ok (.freturn, 1) := dk_174 (dk_at dksX1_value_0 6 rfl rfl)
abbrev cX1_value_2 : ByteArray := prog_5_method_14_code
def yX1_value_2 : MethodName := ⟨RX1, "value", "(II)F"⟩
def dkwX1_value_2_1 : List UInt8 := [45, 28, 4, 27, 120, 128, 182, 0, 148, 174]
abbrev dktX1_value_2_1 : List UInt8 := dkwX1_value_2_1 ++ []
def dkwX1_value_2_0 : List UInt8 := [42, 27, 182, 0, 140, 78, 45, 198, 0, 12, 28, 27, 122, 4, 126, 4, 160, 0, 7, 184, 0, 144, 174, 42]
abbrev dktX1_value_2_0 : List UInt8 := dkwX1_value_2_0 ++ dktX1_value_2_1
theorem dksX1_value_2_0 : cX1_value_2.data.toList.drop 0 = dktX1_value_2_0 := by decide +kernel
theorem dksX1_value_2_1 : cX1_value_2.data.toList.drop 24 = dktX1_value_2_1 := dk_seg dksX1_value_2_0 24 rfl rfl
theorem dX1_value_2_0 : decode cX1_value_2 0 = .ok (.aload_n 0, 1) := dk_42 (dk_at dksX1_value_2_0 0 rfl rfl)
theorem dX1_value_2_1 : decode cX1_value_2 1 = .ok (.iload_n 1, 1) := dk_27 (dk_at dksX1_value_2_0 1 rfl rfl)
theorem dX1_value_2_2 : decode cX1_value_2 2 = .ok (.invokevirtual 140, 3) := dk_182 0 140 (dk_at dksX1_value_2_0 2 rfl rfl)
theorem dX1_value_2_5 : decode cX1_value_2 5 = .ok (.astore_n 3, 1) := dk_78 (dk_at dksX1_value_2_0 5 rfl rfl)
theorem dX1_value_2_6 : decode cX1_value_2 6 = .ok (.aload_n 3, 1) := dk_45 (dk_at dksX1_value_2_0 6 rfl rfl)
theorem dX1_value_2_7 : decode cX1_value_2 7 = .ok (.ifnull 12, 3) := dk_198 0 12 (dk_at dksX1_value_2_0 7 rfl rfl)
theorem dX1_value_2_10 : decode cX1_value_2 10 = .ok (.iload_n 2, 1) := dk_28 (dk_at dksX1_value_2_0 10 rfl rfl)
theorem dX1_value_2_11 : decode cX1_value_2 11 = .ok (.iload_n 1, 1) := dk_27 (dk_at dksX1_value_2_0 11 rfl rfl)
theorem dX1_value_2_12 : decode cX1_value_2 12 = .ok (.ishr, 1) := dk_122 (dk_at dksX1_value_2_0 12 rfl rfl)
theorem dX1_value_2_13 : decode cX1_value_2 13 = .ok (.iconst 1, 1) := dk_4 (dk_at dksX1_value_2_0 13 rfl rfl)
theorem dX1_value_2_14 : decode cX1_value_2 14 = .ok (.iand, 1) := dk_126 (dk_at dksX1_value_2_0 14 rfl rfl)
theorem dX1_value_2_15 : decode cX1_value_2 15 = .ok (.iconst 1, 1) := dk_4 (dk_at dksX1_value_2_0 15 rfl rfl)
theorem dX1_value_2_16 : decode cX1_value_2 16 = .ok (.if_icmp .ne 7, 3) := dk_160 0 7 (dk_at dksX1_value_2_0 16 rfl rfl)
theorem dX1_value_2_19 : decode cX1_value_2 19 = .ok (.invokestatic 144, 3) := dk_184 0 144 (dk_at dksX1_value_2_0 19 rfl rfl)
theorem dX1_value_2_22 : decode cX1_value_2 22 = .ok (.freturn, 1) := dk_174 (dk_at dksX1_value_2_0 22 rfl rfl)
theorem dX1_value_2_23 : decode cX1_value_2 23 = .ok (.aload_n 0, 1) := dk_42 (dk_at dksX1_value_2_0 23 rfl rfl)
theorem dX1_value_2_24 : decode cX1_value_2 24 = .ok (.aload_n 3, 1) := dk_45 (dk_at dksX1_value_2_1 0 rfl rfl)
theorem dX1_value_2_25 : decode cX1_value_2 25 = .ok (.iload_n 2, 1) := dk_28 (dk_at dksX1_value_2_1 1 rfl rfl)
theorem dX1_value_2_26 : decode cX1_value_2 26 = .ok (.iconst 1, 1) := dk_4 (dk_at dksX1_value_2_1 2 rfl rfl)
theorem dX1_value_2_27 : decode cX1_value_2 27 = .ok (.iload_n 1, 1) := dk_27 (dk_at dksX1_value_2_1 3 rfl rfl)
theorem dX1_value_2_28 : decode cX1_value_2 28 = .ok (.ishl, 1) := dk_120 (dk_at dksX1_value_2_1 4 rfl rfl)
theorem dX1_value_2_29 : decode cX1_value_2 29 = .ok (.ior, 1) := dk_128 (dk_at dksX1_value_2_1 5 rfl rfl)
theorem dX1_value_2_30 : decode cX1_value_2 30 = .ok (.invokevirtual 148, 3) := dk_182 0 148 (dk_at dksX1_value_2_1 6 rfl rfl)
theorem dX1_value_2_33 : decode cX1_value_2 33 = .ok (.freturn, 1) := dk_174 (dk_at dksX1_value_2_1 9 rfl rfl)
abbrev cX1_ruler : ByteArray := prog_5_method_13_code
def yX1_ruler : MethodName := ⟨RX1, "ruler", "(I)LNailedOrders$Order;"⟩
def dkwX1_ruler_3 : List UInt8 := [132, 4, 1, 167, 255, 203, 44, 176]
abbrev dktX1_ruler_3 : List UInt8 := dkwX1_ruler_3 ++ []
def dkwX1_ruler_2 : List UInt8 := [182, 0, 137, 42, 44, 182, 0, 137, 161, 0, 15, 45, 21, 4, 185, 0, 42, 2, 0, 192, 0, 46, 77]
abbrev dktX1_ruler_2 : List UInt8 := dkwX1_ruler_2 ++ dktX1_ruler_3
def dkwX1_ruler_1 : List UInt8 := [185, 0, 38, 1, 0, 162, 0, 48, 44, 198, 0, 26, 42, 45, 21, 4, 185, 0, 42, 2, 0, 192, 0, 46]
abbrev dktX1_ruler_1 : List UInt8 := dkwX1_ruler_1 ++ dktX1_ruler_2
def dkwX1_ruler_0 : List UInt8 := [1, 77, 42, 180, 0, 22, 27, 185, 0, 42, 2, 0, 192, 0, 26, 78, 3, 54, 4, 21, 4, 45]
abbrev dktX1_ruler_0 : List UInt8 := dkwX1_ruler_0 ++ dktX1_ruler_1
theorem dksX1_ruler_0 : cX1_ruler.data.toList.drop 0 = dktX1_ruler_0 := by decide +kernel
theorem dksX1_ruler_1 : cX1_ruler.data.toList.drop 22 = dktX1_ruler_1 := dk_seg dksX1_ruler_0 22 rfl rfl
theorem dksX1_ruler_2 : cX1_ruler.data.toList.drop 46 = dktX1_ruler_2 := dk_seg dksX1_ruler_1 24 rfl rfl
theorem dksX1_ruler_3 : cX1_ruler.data.toList.drop 69 = dktX1_ruler_3 := dk_seg dksX1_ruler_2 23 rfl rfl
theorem dX1_ruler_0 : decode cX1_ruler 0 = .ok (.aconst_null, 1) := dk_1 (dk_at dksX1_ruler_0 0 rfl rfl)
theorem dX1_ruler_1 : decode cX1_ruler 1 = .ok (.astore_n 2, 1) := dk_77 (dk_at dksX1_ruler_0 1 rfl rfl)
theorem dX1_ruler_2 : decode cX1_ruler 2 = .ok (.aload_n 0, 1) := dk_42 (dk_at dksX1_ruler_0 2 rfl rfl)
theorem dX1_ruler_3 : decode cX1_ruler 3 = .ok (.getfield 22, 3) := dk_180 0 22 (dk_at dksX1_ruler_0 3 rfl rfl)
theorem dX1_ruler_6 : decode cX1_ruler 6 = .ok (.iload_n 1, 1) := dk_27 (dk_at dksX1_ruler_0 6 rfl rfl)
theorem dX1_ruler_7 : decode cX1_ruler 7 = .ok (.invokeinterface 42 2, 5) := by decide +kernel
theorem dX1_ruler_12 : decode cX1_ruler 12 = .ok (.checkcast 26, 3) := dk_192 0 26 (dk_at dksX1_ruler_0 12 rfl rfl)
theorem dX1_ruler_15 : decode cX1_ruler 15 = .ok (.astore_n 3, 1) := dk_78 (dk_at dksX1_ruler_0 15 rfl rfl)
theorem dX1_ruler_16 : decode cX1_ruler 16 = .ok (.iconst 0, 1) := dk_3 (dk_at dksX1_ruler_0 16 rfl rfl)
theorem dX1_ruler_17 : decode cX1_ruler 17 = .ok (.istore 4, 2) := dk_54 4 (dk_at dksX1_ruler_0 17 rfl rfl)
theorem dX1_ruler_19 : decode cX1_ruler 19 = .ok (.iload 4, 2) := dk_21 4 (dk_at dksX1_ruler_0 19 rfl rfl)
theorem dX1_ruler_21 : decode cX1_ruler 21 = .ok (.aload_n 3, 1) := dk_45 (dk_at dksX1_ruler_0 21 rfl rfl)
theorem dX1_ruler_22 : decode cX1_ruler 22 = .ok (.invokeinterface 38 1, 5) := by decide +kernel
theorem dX1_ruler_27 : decode cX1_ruler 27 = .ok (.if_icmp .ge 48, 3) := dk_162 0 48 (dk_at dksX1_ruler_1 5 rfl rfl)
theorem dX1_ruler_30 : decode cX1_ruler 30 = .ok (.aload_n 2, 1) := dk_44 (dk_at dksX1_ruler_1 8 rfl rfl)
theorem dX1_ruler_31 : decode cX1_ruler 31 = .ok (.ifnull 26, 3) := dk_198 0 26 (dk_at dksX1_ruler_1 9 rfl rfl)
theorem dX1_ruler_34 : decode cX1_ruler 34 = .ok (.aload_n 0, 1) := dk_42 (dk_at dksX1_ruler_1 12 rfl rfl)
theorem dX1_ruler_35 : decode cX1_ruler 35 = .ok (.aload_n 3, 1) := dk_45 (dk_at dksX1_ruler_1 13 rfl rfl)
theorem dX1_ruler_36 : decode cX1_ruler 36 = .ok (.iload 4, 2) := dk_21 4 (dk_at dksX1_ruler_1 14 rfl rfl)
theorem dX1_ruler_38 : decode cX1_ruler 38 = .ok (.invokeinterface 42 2, 5) := by decide +kernel
theorem dX1_ruler_43 : decode cX1_ruler 43 = .ok (.checkcast 46, 3) := dk_192 0 46 (dk_at dksX1_ruler_1 21 rfl rfl)
theorem dX1_ruler_46 : decode cX1_ruler 46 = .ok (.invokevirtual 137, 3) := dk_182 0 137 (dk_at dksX1_ruler_2 0 rfl rfl)
theorem dX1_ruler_49 : decode cX1_ruler 49 = .ok (.aload_n 0, 1) := dk_42 (dk_at dksX1_ruler_2 3 rfl rfl)
theorem dX1_ruler_50 : decode cX1_ruler 50 = .ok (.aload_n 2, 1) := dk_44 (dk_at dksX1_ruler_2 4 rfl rfl)
theorem dX1_ruler_51 : decode cX1_ruler 51 = .ok (.invokevirtual 137, 3) := dk_182 0 137 (dk_at dksX1_ruler_2 5 rfl rfl)
theorem dX1_ruler_54 : decode cX1_ruler 54 = .ok (.if_icmp .lt 15, 3) := dk_161 0 15 (dk_at dksX1_ruler_2 8 rfl rfl)
theorem dX1_ruler_57 : decode cX1_ruler 57 = .ok (.aload_n 3, 1) := dk_45 (dk_at dksX1_ruler_2 11 rfl rfl)
theorem dX1_ruler_58 : decode cX1_ruler 58 = .ok (.iload 4, 2) := dk_21 4 (dk_at dksX1_ruler_2 12 rfl rfl)
theorem dX1_ruler_60 : decode cX1_ruler 60 = .ok (.invokeinterface 42 2, 5) := by decide +kernel
theorem dX1_ruler_65 : decode cX1_ruler 65 = .ok (.checkcast 46, 3) := dk_192 0 46 (dk_at dksX1_ruler_2 19 rfl rfl)
theorem dX1_ruler_68 : decode cX1_ruler 68 = .ok (.astore_n 2, 1) := dk_77 (dk_at dksX1_ruler_2 22 rfl rfl)
theorem dX1_ruler_69 : decode cX1_ruler 69 = .ok (.iinc 4 1, 3) := dk_132 4 1 (dk_at dksX1_ruler_3 0 rfl rfl)
theorem dX1_ruler_72 : decode cX1_ruler 72 = .ok (.goto (-53), 3) := dk_167 255 203 (dk_at dksX1_ruler_3 3 rfl rfl)
theorem dX1_ruler_75 : decode cX1_ruler 75 = .ok (.aload_n 2, 1) := dk_44 (dk_at dksX1_ruler_3 6 rfl rfl)
theorem dX1_ruler_76 : decode cX1_ruler 76 = .ok (.areturn, 1) := dk_176 (dk_at dksX1_ruler_3 7 rfl rfl)
abbrev cX1_rankOf : ByteArray := prog_5_method_12_code
def yX1_rankOf : MethodName := ⟨RX1, "rankOf", "(LNailedOrders$Order;)I"⟩
def dkwX1_rankOf_0 : List UInt8 := [42, 180, 0, 9, 43, 180, 0, 134, 46, 172]
abbrev dktX1_rankOf_0 : List UInt8 := dkwX1_rankOf_0 ++ []
theorem dksX1_rankOf_0 : cX1_rankOf.data.toList.drop 0 = dktX1_rankOf_0 := by decide +kernel
theorem dX1_rankOf_0 : decode cX1_rankOf 0 = .ok (.aload_n 0, 1) := dk_42 (dk_at dksX1_rankOf_0 0 rfl rfl)
theorem dX1_rankOf_1 : decode cX1_rankOf 1 = .ok (.getfield 9, 3) := dk_180 0 9 (dk_at dksX1_rankOf_0 1 rfl rfl)
theorem dX1_rankOf_4 : decode cX1_rankOf 4 = .ok (.aload_n 1, 1) := dk_43 (dk_at dksX1_rankOf_0 4 rfl rfl)
theorem dX1_rankOf_5 : decode cX1_rankOf 5 = .ok (.getfield 134, 3) := dk_180 0 134 (dk_at dksX1_rankOf_0 5 rfl rfl)
theorem dX1_rankOf_8 : decode cX1_rankOf 8 = .ok (.iaload, 1) := dk_46 (dk_at dksX1_rankOf_0 8 rfl rfl)
theorem dX1_rankOf_9 : decode cX1_rankOf 9 = .ok (.ireturn, 1) := dk_172 (dk_at dksX1_rankOf_0 9 rfl rfl)
abbrev cX1_valueOf : ByteArray := prog_5_method_15_code
def yX1_valueOf : MethodName := ⟨RX1, "valueOf", "(LNailedOrders$Order;I)F"⟩
def dkwX1_valueOf_2 : List UInt8 := [23, 4, 18, 169, 18, 170, 184, 0, 171, 153, 0, 8, 23, 4, 167, 0, 6, 184, 0, 144, 174]
abbrev dktX1_valueOf_2 : List UInt8 := dkwX1_valueOf_2 ++ []
def dkwX1_valueOf_1 : List UInt8 := [37, 184, 0, 162, 154, 0, 7, 184, 0, 144, 174, 37, 43, 182, 0, 166, 106, 43, 180, 0, 155, 98, 56, 4]
abbrev dktX1_valueOf_1 : List UInt8 := dkwX1_valueOf_1 ++ dktX1_valueOf_2
def dkwX1_valueOf_0 : List UInt8 := [43, 182, 0, 152, 16, 251, 160, 0, 8, 43, 180, 0, 155, 174, 42, 43, 182, 0, 152, 28, 182, 0, 158, 70]
abbrev dktX1_valueOf_0 : List UInt8 := dkwX1_valueOf_0 ++ dktX1_valueOf_1
theorem dksX1_valueOf_0 : cX1_valueOf.data.toList.drop 0 = dktX1_valueOf_0 := by decide +kernel
theorem dksX1_valueOf_1 : cX1_valueOf.data.toList.drop 24 = dktX1_valueOf_1 := dk_seg dksX1_valueOf_0 24 rfl rfl
theorem dksX1_valueOf_2 : cX1_valueOf.data.toList.drop 48 = dktX1_valueOf_2 := dk_seg dksX1_valueOf_1 24 rfl rfl
theorem dX1_valueOf_0 : decode cX1_valueOf 0 = .ok (.aload_n 1, 1) := dk_43 (dk_at dksX1_valueOf_0 0 rfl rfl)
theorem dX1_valueOf_1 : decode cX1_valueOf 1 = .ok (.invokevirtual 152, 3) := dk_182 0 152 (dk_at dksX1_valueOf_0 1 rfl rfl)
theorem dX1_valueOf_4 : decode cX1_valueOf 4 = .ok (.bipush (-5), 2) := dk_16 251 (dk_at dksX1_valueOf_0 4 rfl rfl)
theorem dX1_valueOf_6 : decode cX1_valueOf 6 = .ok (.if_icmp .ne 8, 3) := dk_160 0 8 (dk_at dksX1_valueOf_0 6 rfl rfl)
theorem dX1_valueOf_9 : decode cX1_valueOf 9 = .ok (.aload_n 1, 1) := dk_43 (dk_at dksX1_valueOf_0 9 rfl rfl)
theorem dX1_valueOf_10 : decode cX1_valueOf 10 = .ok (.getfield 155, 3) := dk_180 0 155 (dk_at dksX1_valueOf_0 10 rfl rfl)
theorem dX1_valueOf_13 : decode cX1_valueOf 13 = .ok (.freturn, 1) := dk_174 (dk_at dksX1_valueOf_0 13 rfl rfl)
theorem dX1_valueOf_14 : decode cX1_valueOf 14 = .ok (.aload_n 0, 1) := dk_42 (dk_at dksX1_valueOf_0 14 rfl rfl)
theorem dX1_valueOf_15 : decode cX1_valueOf 15 = .ok (.aload_n 1, 1) := dk_43 (dk_at dksX1_valueOf_0 15 rfl rfl)
theorem dX1_valueOf_16 : decode cX1_valueOf 16 = .ok (.invokevirtual 152, 3) := dk_182 0 152 (dk_at dksX1_valueOf_0 16 rfl rfl)
theorem dX1_valueOf_19 : decode cX1_valueOf 19 = .ok (.iload_n 2, 1) := dk_28 (dk_at dksX1_valueOf_0 19 rfl rfl)
theorem dX1_valueOf_20 : decode cX1_valueOf 20 = .ok (.invokevirtual 158, 3) := dk_182 0 158 (dk_at dksX1_valueOf_0 20 rfl rfl)
theorem dX1_valueOf_23 : decode cX1_valueOf 23 = .ok (.fstore_n 3, 1) := dk_70 (dk_at dksX1_valueOf_0 23 rfl rfl)
theorem dX1_valueOf_24 : decode cX1_valueOf 24 = .ok (.fload_n 3, 1) := dk_37 (dk_at dksX1_valueOf_1 0 rfl rfl)
theorem dX1_valueOf_25 : decode cX1_valueOf 25 = .ok (.invokestatic 162, 3) := dk_184 0 162 (dk_at dksX1_valueOf_1 1 rfl rfl)
theorem dX1_valueOf_28 : decode cX1_valueOf 28 = .ok (.ifCond .ne 7, 3) := dk_154 0 7 (dk_at dksX1_valueOf_1 4 rfl rfl)
theorem dX1_valueOf_31 : decode cX1_valueOf 31 = .ok (.invokestatic 144, 3) := dk_184 0 144 (dk_at dksX1_valueOf_1 7 rfl rfl)
theorem dX1_valueOf_34 : decode cX1_valueOf 34 = .ok (.freturn, 1) := dk_174 (dk_at dksX1_valueOf_1 10 rfl rfl)
theorem dX1_valueOf_35 : decode cX1_valueOf 35 = .ok (.fload_n 3, 1) := dk_37 (dk_at dksX1_valueOf_1 11 rfl rfl)
theorem dX1_valueOf_36 : decode cX1_valueOf 36 = .ok (.aload_n 1, 1) := dk_43 (dk_at dksX1_valueOf_1 12 rfl rfl)
theorem dX1_valueOf_37 : decode cX1_valueOf 37 = .ok (.invokevirtual 166, 3) := dk_182 0 166 (dk_at dksX1_valueOf_1 13 rfl rfl)
theorem dX1_valueOf_40 : decode cX1_valueOf 40 = .ok (.fmul, 1) := dk_106 (dk_at dksX1_valueOf_1 16 rfl rfl)
theorem dX1_valueOf_41 : decode cX1_valueOf 41 = .ok (.aload_n 1, 1) := dk_43 (dk_at dksX1_valueOf_1 17 rfl rfl)
theorem dX1_valueOf_42 : decode cX1_valueOf 42 = .ok (.getfield 155, 3) := dk_180 0 155 (dk_at dksX1_valueOf_1 18 rfl rfl)
theorem dX1_valueOf_45 : decode cX1_valueOf 45 = .ok (.fadd, 1) := dk_98 (dk_at dksX1_valueOf_1 21 rfl rfl)
theorem dX1_valueOf_46 : decode cX1_valueOf 46 = .ok (.fstore 4, 2) := dk_56 4 (dk_at dksX1_valueOf_1 22 rfl rfl)
theorem dX1_valueOf_48 : decode cX1_valueOf 48 = .ok (.fload 4, 2) := dk_23 4 (dk_at dksX1_valueOf_2 0 rfl rfl)
theorem dX1_valueOf_50 : decode cX1_valueOf 50 = .ok (.ldc 169, 2) := dk_18 169 (dk_at dksX1_valueOf_2 2 rfl rfl)
theorem dX1_valueOf_52 : decode cX1_valueOf 52 = .ok (.ldc 170, 2) := dk_18 170 (dk_at dksX1_valueOf_2 4 rfl rfl)
theorem dX1_valueOf_54 : decode cX1_valueOf 54 = .ok (.invokestatic 171, 3) := dk_184 0 171 (dk_at dksX1_valueOf_2 6 rfl rfl)
theorem dX1_valueOf_57 : decode cX1_valueOf 57 = .ok (.ifCond .eq 8, 3) := dk_153 0 8 (dk_at dksX1_valueOf_2 9 rfl rfl)
theorem dX1_valueOf_60 : decode cX1_valueOf 60 = .ok (.fload 4, 2) := dk_23 4 (dk_at dksX1_valueOf_2 12 rfl rfl)
theorem dX1_valueOf_62 : decode cX1_valueOf 62 = .ok (.goto 6, 3) := dk_167 0 6 (dk_at dksX1_valueOf_2 14 rfl rfl)
theorem dX1_valueOf_65 : decode cX1_valueOf 65 = .ok (.invokestatic 144, 3) := dk_184 0 144 (dk_at dksX1_valueOf_2 17 rfl rfl)
theorem dX1_valueOf_68 : decode cX1_valueOf 68 = .ok (.freturn, 1) := dk_174 (dk_at dksX1_valueOf_2 20 rfl rfl)
abbrev cX1_valueOf_2 : ByteArray := prog_5_method_17_code
def yX1_valueOf_2 : MethodName := ⟨RX1, "valueOf", "(LNailedOrders$Order;)F"⟩
def dkwX1_valueOf_2_0 : List UInt8 := [42, 43, 3, 182, 0, 148, 174]
abbrev dktX1_valueOf_2_0 : List UInt8 := dkwX1_valueOf_2_0 ++ []
theorem dksX1_valueOf_2_0 : cX1_valueOf_2.data.toList.drop 0 = dktX1_valueOf_2_0 := by decide +kernel
theorem dX1_valueOf_2_0 : decode cX1_valueOf_2 0 = .ok (.aload_n 0, 1) := dk_42 (dk_at dksX1_valueOf_2_0 0 rfl rfl)
theorem dX1_valueOf_2_1 : decode cX1_valueOf_2 1 = .ok (.aload_n 1, 1) := dk_43 (dk_at dksX1_valueOf_2_0 1 rfl rfl)
theorem dX1_valueOf_2_2 : decode cX1_valueOf_2 2 = .ok (.iconst 0, 1) := dk_3 (dk_at dksX1_valueOf_2_0 2 rfl rfl)
theorem dX1_valueOf_2_3 : decode cX1_valueOf_2 3 = .ok (.invokevirtual 148, 3) := dk_182 0 148 (dk_at dksX1_valueOf_2_0 3 rfl rfl)
theorem dX1_valueOf_2_6 : decode cX1_valueOf_2 6 = .ok (.freturn, 1) := dk_174 (dk_at dksX1_valueOf_2_0 6 rfl rfl)
abbrev cX1_against : ByteArray := prog_5_method_19_code
def yX1_against : MethodName := ⟨RX1, "against", "(I)LNailedOrders$Order;"⟩
def dkwX1_against_4 : List UInt8 := [182, 0, 178, 182, 0, 181, 153, 0, 6, 25, 5, 176, 132, 4, 255, 167, 255, 182, 1, 176]
abbrev dktX1_against_4 : List UInt8 := dkwX1_against_4 ++ []
def dkwX1_against_3 : List UInt8 := [25, 5, 182, 0, 137, 42, 44, 182, 0, 137, 160, 0, 24, 42, 42, 25, 5, 182, 0, 178, 42, 44]
abbrev dktX1_against_3 : List UInt8 := dkwX1_against_3 ++ dktX1_against_4
def dkwX1_against_2 : List UInt8 := [192, 0, 46, 58, 5, 25, 5, 44, 165, 0, 50, 25, 5, 180, 0, 134, 44, 180, 0, 134, 159, 0, 38, 42]
abbrev dktX1_against_2 : List UInt8 := dkwX1_against_2 ++ dktX1_against_3
def dkwX1_against_1 : List UInt8 := [185, 0, 38, 1, 0, 4, 100, 54, 4, 21, 4, 155, 0, 75, 45, 21, 4, 185, 0, 42, 2, 0]
abbrev dktX1_against_1 : List UInt8 := dkwX1_against_1 ++ dktX1_against_2
def dkwX1_against_0 : List UInt8 := [42, 27, 182, 0, 140, 77, 42, 180, 0, 22, 27, 185, 0, 42, 2, 0, 192, 0, 26, 78, 45]
abbrev dktX1_against_0 : List UInt8 := dkwX1_against_0 ++ dktX1_against_1
theorem dksX1_against_0 : cX1_against.data.toList.drop 0 = dktX1_against_0 := by decide +kernel
theorem dksX1_against_1 : cX1_against.data.toList.drop 21 = dktX1_against_1 := dk_seg dksX1_against_0 21 rfl rfl
theorem dksX1_against_2 : cX1_against.data.toList.drop 43 = dktX1_against_2 := dk_seg dksX1_against_1 22 rfl rfl
theorem dksX1_against_3 : cX1_against.data.toList.drop 67 = dktX1_against_3 := dk_seg dksX1_against_2 24 rfl rfl
theorem dksX1_against_4 : cX1_against.data.toList.drop 89 = dktX1_against_4 := dk_seg dksX1_against_3 22 rfl rfl
theorem dX1_against_0 : decode cX1_against 0 = .ok (.aload_n 0, 1) := dk_42 (dk_at dksX1_against_0 0 rfl rfl)
theorem dX1_against_1 : decode cX1_against 1 = .ok (.iload_n 1, 1) := dk_27 (dk_at dksX1_against_0 1 rfl rfl)
theorem dX1_against_2 : decode cX1_against 2 = .ok (.invokevirtual 140, 3) := dk_182 0 140 (dk_at dksX1_against_0 2 rfl rfl)
theorem dX1_against_5 : decode cX1_against 5 = .ok (.astore_n 2, 1) := dk_77 (dk_at dksX1_against_0 5 rfl rfl)
theorem dX1_against_6 : decode cX1_against 6 = .ok (.aload_n 0, 1) := dk_42 (dk_at dksX1_against_0 6 rfl rfl)
theorem dX1_against_7 : decode cX1_against 7 = .ok (.getfield 22, 3) := dk_180 0 22 (dk_at dksX1_against_0 7 rfl rfl)
theorem dX1_against_10 : decode cX1_against 10 = .ok (.iload_n 1, 1) := dk_27 (dk_at dksX1_against_0 10 rfl rfl)
theorem dX1_against_11 : decode cX1_against 11 = .ok (.invokeinterface 42 2, 5) := by decide +kernel
theorem dX1_against_16 : decode cX1_against 16 = .ok (.checkcast 26, 3) := dk_192 0 26 (dk_at dksX1_against_0 16 rfl rfl)
theorem dX1_against_19 : decode cX1_against 19 = .ok (.astore_n 3, 1) := dk_78 (dk_at dksX1_against_0 19 rfl rfl)
theorem dX1_against_20 : decode cX1_against 20 = .ok (.aload_n 3, 1) := dk_45 (dk_at dksX1_against_0 20 rfl rfl)
theorem dX1_against_21 : decode cX1_against 21 = .ok (.invokeinterface 38 1, 5) := by decide +kernel
theorem dX1_against_26 : decode cX1_against 26 = .ok (.iconst 1, 1) := dk_4 (dk_at dksX1_against_1 5 rfl rfl)
theorem dX1_against_27 : decode cX1_against 27 = .ok (.isub, 1) := dk_100 (dk_at dksX1_against_1 6 rfl rfl)
theorem dX1_against_28 : decode cX1_against 28 = .ok (.istore 4, 2) := dk_54 4 (dk_at dksX1_against_1 7 rfl rfl)
theorem dX1_against_30 : decode cX1_against 30 = .ok (.iload 4, 2) := dk_21 4 (dk_at dksX1_against_1 9 rfl rfl)
theorem dX1_against_32 : decode cX1_against 32 = .ok (.ifCond .lt 75, 3) := dk_155 0 75 (dk_at dksX1_against_1 11 rfl rfl)
theorem dX1_against_35 : decode cX1_against 35 = .ok (.aload_n 3, 1) := dk_45 (dk_at dksX1_against_1 14 rfl rfl)
theorem dX1_against_36 : decode cX1_against 36 = .ok (.iload 4, 2) := dk_21 4 (dk_at dksX1_against_1 15 rfl rfl)
theorem dX1_against_38 : decode cX1_against 38 = .ok (.invokeinterface 42 2, 5) := by decide +kernel
theorem dX1_against_43 : decode cX1_against 43 = .ok (.checkcast 46, 3) := dk_192 0 46 (dk_at dksX1_against_2 0 rfl rfl)
theorem dX1_against_46 : decode cX1_against 46 = .ok (.astore 5, 2) := dk_58 5 (dk_at dksX1_against_2 3 rfl rfl)
theorem dX1_against_48 : decode cX1_against 48 = .ok (.aload 5, 2) := dk_25 5 (dk_at dksX1_against_2 5 rfl rfl)
theorem dX1_against_50 : decode cX1_against 50 = .ok (.aload_n 2, 1) := dk_44 (dk_at dksX1_against_2 7 rfl rfl)
theorem dX1_against_51 : decode cX1_against 51 = .ok (.if_acmp .eq 50, 3) := dk_165 0 50 (dk_at dksX1_against_2 8 rfl rfl)
theorem dX1_against_54 : decode cX1_against 54 = .ok (.aload 5, 2) := dk_25 5 (dk_at dksX1_against_2 11 rfl rfl)
theorem dX1_against_56 : decode cX1_against 56 = .ok (.getfield 134, 3) := dk_180 0 134 (dk_at dksX1_against_2 13 rfl rfl)
theorem dX1_against_59 : decode cX1_against 59 = .ok (.aload_n 2, 1) := dk_44 (dk_at dksX1_against_2 16 rfl rfl)
theorem dX1_against_60 : decode cX1_against 60 = .ok (.getfield 134, 3) := dk_180 0 134 (dk_at dksX1_against_2 17 rfl rfl)
theorem dX1_against_63 : decode cX1_against 63 = .ok (.if_icmp .eq 38, 3) := dk_159 0 38 (dk_at dksX1_against_2 20 rfl rfl)
theorem dX1_against_66 : decode cX1_against 66 = .ok (.aload_n 0, 1) := dk_42 (dk_at dksX1_against_2 23 rfl rfl)
theorem dX1_against_67 : decode cX1_against 67 = .ok (.aload 5, 2) := dk_25 5 (dk_at dksX1_against_3 0 rfl rfl)
theorem dX1_against_69 : decode cX1_against 69 = .ok (.invokevirtual 137, 3) := dk_182 0 137 (dk_at dksX1_against_3 2 rfl rfl)
theorem dX1_against_72 : decode cX1_against 72 = .ok (.aload_n 0, 1) := dk_42 (dk_at dksX1_against_3 5 rfl rfl)
theorem dX1_against_73 : decode cX1_against 73 = .ok (.aload_n 2, 1) := dk_44 (dk_at dksX1_against_3 6 rfl rfl)
theorem dX1_against_74 : decode cX1_against 74 = .ok (.invokevirtual 137, 3) := dk_182 0 137 (dk_at dksX1_against_3 7 rfl rfl)
theorem dX1_against_77 : decode cX1_against 77 = .ok (.if_icmp .ne 24, 3) := dk_160 0 24 (dk_at dksX1_against_3 10 rfl rfl)
theorem dX1_against_80 : decode cX1_against 80 = .ok (.aload_n 0, 1) := dk_42 (dk_at dksX1_against_3 13 rfl rfl)
theorem dX1_against_81 : decode cX1_against 81 = .ok (.aload_n 0, 1) := dk_42 (dk_at dksX1_against_3 14 rfl rfl)
theorem dX1_against_82 : decode cX1_against 82 = .ok (.aload 5, 2) := dk_25 5 (dk_at dksX1_against_3 15 rfl rfl)
theorem dX1_against_84 : decode cX1_against 84 = .ok (.invokevirtual 178, 3) := dk_182 0 178 (dk_at dksX1_against_3 17 rfl rfl)
theorem dX1_against_87 : decode cX1_against 87 = .ok (.aload_n 0, 1) := dk_42 (dk_at dksX1_against_3 20 rfl rfl)
theorem dX1_against_88 : decode cX1_against 88 = .ok (.aload_n 2, 1) := dk_44 (dk_at dksX1_against_3 21 rfl rfl)
theorem dX1_against_89 : decode cX1_against 89 = .ok (.invokevirtual 178, 3) := dk_182 0 178 (dk_at dksX1_against_4 0 rfl rfl)
theorem dX1_against_92 : decode cX1_against 92 = .ok (.invokevirtual 181, 3) := dk_182 0 181 (dk_at dksX1_against_4 3 rfl rfl)
theorem dX1_against_95 : decode cX1_against 95 = .ok (.ifCond .eq 6, 3) := dk_153 0 6 (dk_at dksX1_against_4 6 rfl rfl)
theorem dX1_against_98 : decode cX1_against 98 = .ok (.aload 5, 2) := dk_25 5 (dk_at dksX1_against_4 9 rfl rfl)
theorem dX1_against_100 : decode cX1_against 100 = .ok (.areturn, 1) := dk_176 (dk_at dksX1_against_4 11 rfl rfl)
theorem dX1_against_101 : decode cX1_against 101 = .ok (.iinc 4 (-1), 3) := dk_132 4 255 (dk_at dksX1_against_4 12 rfl rfl)
theorem dX1_against_104 : decode cX1_against 104 = .ok (.goto (-74), 3) := dk_167 255 182 (dk_at dksX1_against_4 15 rfl rfl)
theorem dX1_against_107 : decode cX1_against 107 = .ok (.aconst_null, 1) := dk_1 (dk_at dksX1_against_4 18 rfl rfl)
theorem dX1_against_108 : decode cX1_against 108 = .ok (.areturn, 1) := dk_176 (dk_at dksX1_against_4 19 rfl rfl)
abbrev cX1_differ : ByteArray := prog_5_method_18_code
def yX1_differ : MethodName := ⟨RX1, "differ", "(FF)Z"⟩
def dkwX1_differ_2 : List UInt8 := [167, 0, 4, 3, 172]
abbrev dktX1_differ_2 : List UInt8 := dkwX1_differ_2 ++ []
def dkwX1_differ_1 : List UInt8 := [159, 0, 7, 4, 167, 0, 4, 3, 172, 35, 36, 102, 184, 0, 175, 42, 180, 0, 56, 149, 158, 0, 7, 4]
abbrev dktX1_differ_1 : List UInt8 := dkwX1_differ_1 ++ dktX1_differ_2
def dkwX1_differ_0 : List UInt8 := [35, 184, 0, 162, 153, 0, 10, 36, 184, 0, 162, 154, 0, 20, 35, 184, 0, 162, 36, 184, 0, 162]
abbrev dktX1_differ_0 : List UInt8 := dkwX1_differ_0 ++ dktX1_differ_1
theorem dksX1_differ_0 : cX1_differ.data.toList.drop 0 = dktX1_differ_0 := by decide +kernel
theorem dksX1_differ_1 : cX1_differ.data.toList.drop 22 = dktX1_differ_1 := dk_seg dksX1_differ_0 22 rfl rfl
theorem dksX1_differ_2 : cX1_differ.data.toList.drop 46 = dktX1_differ_2 := dk_seg dksX1_differ_1 24 rfl rfl
theorem dX1_differ_0 : decode cX1_differ 0 = .ok (.fload_n 1, 1) := dk_35 (dk_at dksX1_differ_0 0 rfl rfl)
theorem dX1_differ_1 : decode cX1_differ 1 = .ok (.invokestatic 162, 3) := dk_184 0 162 (dk_at dksX1_differ_0 1 rfl rfl)
theorem dX1_differ_4 : decode cX1_differ 4 = .ok (.ifCond .eq 10, 3) := dk_153 0 10 (dk_at dksX1_differ_0 4 rfl rfl)
theorem dX1_differ_7 : decode cX1_differ 7 = .ok (.fload_n 2, 1) := dk_36 (dk_at dksX1_differ_0 7 rfl rfl)
theorem dX1_differ_8 : decode cX1_differ 8 = .ok (.invokestatic 162, 3) := dk_184 0 162 (dk_at dksX1_differ_0 8 rfl rfl)
theorem dX1_differ_11 : decode cX1_differ 11 = .ok (.ifCond .ne 20, 3) := dk_154 0 20 (dk_at dksX1_differ_0 11 rfl rfl)
theorem dX1_differ_14 : decode cX1_differ 14 = .ok (.fload_n 1, 1) := dk_35 (dk_at dksX1_differ_0 14 rfl rfl)
theorem dX1_differ_15 : decode cX1_differ 15 = .ok (.invokestatic 162, 3) := dk_184 0 162 (dk_at dksX1_differ_0 15 rfl rfl)
theorem dX1_differ_18 : decode cX1_differ 18 = .ok (.fload_n 2, 1) := dk_36 (dk_at dksX1_differ_0 18 rfl rfl)
theorem dX1_differ_19 : decode cX1_differ 19 = .ok (.invokestatic 162, 3) := dk_184 0 162 (dk_at dksX1_differ_0 19 rfl rfl)
theorem dX1_differ_22 : decode cX1_differ 22 = .ok (.if_icmp .eq 7, 3) := dk_159 0 7 (dk_at dksX1_differ_1 0 rfl rfl)
theorem dX1_differ_25 : decode cX1_differ 25 = .ok (.iconst 1, 1) := dk_4 (dk_at dksX1_differ_1 3 rfl rfl)
theorem dX1_differ_26 : decode cX1_differ 26 = .ok (.goto 4, 3) := dk_167 0 4 (dk_at dksX1_differ_1 4 rfl rfl)
theorem dX1_differ_29 : decode cX1_differ 29 = .ok (.iconst 0, 1) := dk_3 (dk_at dksX1_differ_1 7 rfl rfl)
theorem dX1_differ_30 : decode cX1_differ 30 = .ok (.ireturn, 1) := dk_172 (dk_at dksX1_differ_1 8 rfl rfl)
theorem dX1_differ_31 : decode cX1_differ 31 = .ok (.fload_n 1, 1) := dk_35 (dk_at dksX1_differ_1 9 rfl rfl)
theorem dX1_differ_32 : decode cX1_differ 32 = .ok (.fload_n 2, 1) := dk_36 (dk_at dksX1_differ_1 10 rfl rfl)
theorem dX1_differ_33 : decode cX1_differ 33 = .ok (.fsub, 1) := dk_102 (dk_at dksX1_differ_1 11 rfl rfl)
theorem dX1_differ_34 : decode cX1_differ 34 = .ok (.invokestatic 175, 3) := dk_184 0 175 (dk_at dksX1_differ_1 12 rfl rfl)
theorem dX1_differ_37 : decode cX1_differ 37 = .ok (.aload_n 0, 1) := dk_42 (dk_at dksX1_differ_1 15 rfl rfl)
theorem dX1_differ_38 : decode cX1_differ 38 = .ok (.getfield 56, 3) := dk_180 0 56 (dk_at dksX1_differ_1 16 rfl rfl)
theorem dX1_differ_41 : decode cX1_differ 41 = .ok (.fcmp .l, 1) := dk_149 (dk_at dksX1_differ_1 19 rfl rfl)
theorem dX1_differ_42 : decode cX1_differ 42 = .ok (.ifCond .le 7, 3) := dk_158 0 7 (dk_at dksX1_differ_1 20 rfl rfl)
theorem dX1_differ_45 : decode cX1_differ 45 = .ok (.iconst 1, 1) := dk_4 (dk_at dksX1_differ_1 23 rfl rfl)
theorem dX1_differ_46 : decode cX1_differ 46 = .ok (.goto 4, 3) := dk_167 0 4 (dk_at dksX1_differ_2 0 rfl rfl)
theorem dX1_differ_49 : decode cX1_differ 49 = .ok (.iconst 0, 1) := dk_3 (dk_at dksX1_differ_2 3 rfl rfl)
theorem dX1_differ_50 : decode cX1_differ 50 = .ok (.ireturn, 1) := dk_172 (dk_at dksX1_differ_2 4 rfl rfl)
abbrev cX1_dependents : ByteArray := prog_5_method_24_code
def yX1_dependents : MethodName := ⟨RX1, "dependents", "(I)I"⟩
def dkwX1_dependents_1 : List UInt8 := [4, 29, 120, 167, 0, 4, 3, 128, 61, 132, 3, 1, 167, 255, 224, 28, 172]
abbrev dktX1_dependents_1 : List UInt8 := dkwX1_dependents_1 ++ []
def dkwX1_dependents_0 : List UInt8 := [3, 61, 3, 62, 29, 16, 16, 162, 0, 32, 28, 42, 29, 182, 0, 189, 27, 122, 4, 126, 4, 160, 0, 9]
abbrev dktX1_dependents_0 : List UInt8 := dkwX1_dependents_0 ++ dktX1_dependents_1
theorem dksX1_dependents_0 : cX1_dependents.data.toList.drop 0 = dktX1_dependents_0 := by decide +kernel
theorem dksX1_dependents_1 : cX1_dependents.data.toList.drop 24 = dktX1_dependents_1 := dk_seg dksX1_dependents_0 24 rfl rfl
theorem dX1_dependents_0 : decode cX1_dependents 0 = .ok (.iconst 0, 1) := dk_3 (dk_at dksX1_dependents_0 0 rfl rfl)
theorem dX1_dependents_1 : decode cX1_dependents 1 = .ok (.istore_n 2, 1) := dk_61 (dk_at dksX1_dependents_0 1 rfl rfl)
theorem dX1_dependents_2 : decode cX1_dependents 2 = .ok (.iconst 0, 1) := dk_3 (dk_at dksX1_dependents_0 2 rfl rfl)
theorem dX1_dependents_3 : decode cX1_dependents 3 = .ok (.istore_n 3, 1) := dk_62 (dk_at dksX1_dependents_0 3 rfl rfl)
theorem dX1_dependents_4 : decode cX1_dependents 4 = .ok (.iload_n 3, 1) := dk_29 (dk_at dksX1_dependents_0 4 rfl rfl)
theorem dX1_dependents_5 : decode cX1_dependents 5 = .ok (.bipush 16, 2) := dk_16 16 (dk_at dksX1_dependents_0 5 rfl rfl)
theorem dX1_dependents_7 : decode cX1_dependents 7 = .ok (.if_icmp .ge 32, 3) := dk_162 0 32 (dk_at dksX1_dependents_0 7 rfl rfl)
theorem dX1_dependents_10 : decode cX1_dependents 10 = .ok (.iload_n 2, 1) := dk_28 (dk_at dksX1_dependents_0 10 rfl rfl)
theorem dX1_dependents_11 : decode cX1_dependents 11 = .ok (.aload_n 0, 1) := dk_42 (dk_at dksX1_dependents_0 11 rfl rfl)
theorem dX1_dependents_12 : decode cX1_dependents 12 = .ok (.iload_n 3, 1) := dk_29 (dk_at dksX1_dependents_0 12 rfl rfl)
theorem dX1_dependents_13 : decode cX1_dependents 13 = .ok (.invokevirtual 189, 3) := dk_182 0 189 (dk_at dksX1_dependents_0 13 rfl rfl)
theorem dX1_dependents_16 : decode cX1_dependents 16 = .ok (.iload_n 1, 1) := dk_27 (dk_at dksX1_dependents_0 16 rfl rfl)
theorem dX1_dependents_17 : decode cX1_dependents 17 = .ok (.ishr, 1) := dk_122 (dk_at dksX1_dependents_0 17 rfl rfl)
theorem dX1_dependents_18 : decode cX1_dependents 18 = .ok (.iconst 1, 1) := dk_4 (dk_at dksX1_dependents_0 18 rfl rfl)
theorem dX1_dependents_19 : decode cX1_dependents 19 = .ok (.iand, 1) := dk_126 (dk_at dksX1_dependents_0 19 rfl rfl)
theorem dX1_dependents_20 : decode cX1_dependents 20 = .ok (.iconst 1, 1) := dk_4 (dk_at dksX1_dependents_0 20 rfl rfl)
theorem dX1_dependents_21 : decode cX1_dependents 21 = .ok (.if_icmp .ne 9, 3) := dk_160 0 9 (dk_at dksX1_dependents_0 21 rfl rfl)
theorem dX1_dependents_24 : decode cX1_dependents 24 = .ok (.iconst 1, 1) := dk_4 (dk_at dksX1_dependents_1 0 rfl rfl)
theorem dX1_dependents_25 : decode cX1_dependents 25 = .ok (.iload_n 3, 1) := dk_29 (dk_at dksX1_dependents_1 1 rfl rfl)
theorem dX1_dependents_26 : decode cX1_dependents 26 = .ok (.ishl, 1) := dk_120 (dk_at dksX1_dependents_1 2 rfl rfl)
theorem dX1_dependents_27 : decode cX1_dependents 27 = .ok (.goto 4, 3) := dk_167 0 4 (dk_at dksX1_dependents_1 3 rfl rfl)
theorem dX1_dependents_30 : decode cX1_dependents 30 = .ok (.iconst 0, 1) := dk_3 (dk_at dksX1_dependents_1 6 rfl rfl)
theorem dX1_dependents_31 : decode cX1_dependents 31 = .ok (.ior, 1) := dk_128 (dk_at dksX1_dependents_1 7 rfl rfl)
theorem dX1_dependents_32 : decode cX1_dependents 32 = .ok (.istore_n 2, 1) := dk_61 (dk_at dksX1_dependents_1 8 rfl rfl)
theorem dX1_dependents_33 : decode cX1_dependents 33 = .ok (.iinc 3 1, 3) := dk_132 3 1 (dk_at dksX1_dependents_1 9 rfl rfl)
theorem dX1_dependents_36 : decode cX1_dependents 36 = .ok (.goto (-32), 3) := dk_167 255 224 (dk_at dksX1_dependents_1 12 rfl rfl)
theorem dX1_dependents_39 : decode cX1_dependents 39 = .ok (.iload_n 2, 1) := dk_28 (dk_at dksX1_dependents_1 15 rfl rfl)
theorem dX1_dependents_40 : decode cX1_dependents 40 = .ok (.ireturn, 1) := dk_172 (dk_at dksX1_dependents_1 16 rfl rfl)
abbrev cX1_reached : ByteArray := prog_5_method_21_code
def yX1_reached : MethodName := ⟨RX1, "reached", "(I)I"⟩
def dkwX1_reached_1 : List UInt8 := [29, 120, 128, 61, 42, 29, 182, 0, 185, 62, 167, 255, 230, 28, 172]
abbrev dktX1_reached_1 : List UInt8 := dkwX1_reached_1 ++ []
def dkwX1_reached_0 : List UInt8 := [3, 61, 42, 27, 182, 0, 185, 62, 29, 16, 251, 159, 0, 26, 28, 29, 122, 4, 126, 154, 0, 18, 28, 4]
abbrev dktX1_reached_0 : List UInt8 := dkwX1_reached_0 ++ dktX1_reached_1
theorem dksX1_reached_0 : cX1_reached.data.toList.drop 0 = dktX1_reached_0 := by decide +kernel
theorem dksX1_reached_1 : cX1_reached.data.toList.drop 24 = dktX1_reached_1 := dk_seg dksX1_reached_0 24 rfl rfl
theorem dX1_reached_0 : decode cX1_reached 0 = .ok (.iconst 0, 1) := dk_3 (dk_at dksX1_reached_0 0 rfl rfl)
theorem dX1_reached_1 : decode cX1_reached 1 = .ok (.istore_n 2, 1) := dk_61 (dk_at dksX1_reached_0 1 rfl rfl)
theorem dX1_reached_2 : decode cX1_reached 2 = .ok (.aload_n 0, 1) := dk_42 (dk_at dksX1_reached_0 2 rfl rfl)
theorem dX1_reached_3 : decode cX1_reached 3 = .ok (.iload_n 1, 1) := dk_27 (dk_at dksX1_reached_0 3 rfl rfl)
theorem dX1_reached_4 : decode cX1_reached 4 = .ok (.invokevirtual 185, 3) := dk_182 0 185 (dk_at dksX1_reached_0 4 rfl rfl)
theorem dX1_reached_7 : decode cX1_reached 7 = .ok (.istore_n 3, 1) := dk_62 (dk_at dksX1_reached_0 7 rfl rfl)
theorem dX1_reached_8 : decode cX1_reached 8 = .ok (.iload_n 3, 1) := dk_29 (dk_at dksX1_reached_0 8 rfl rfl)
theorem dX1_reached_9 : decode cX1_reached 9 = .ok (.bipush (-5), 2) := dk_16 251 (dk_at dksX1_reached_0 9 rfl rfl)
theorem dX1_reached_11 : decode cX1_reached 11 = .ok (.if_icmp .eq 26, 3) := dk_159 0 26 (dk_at dksX1_reached_0 11 rfl rfl)
theorem dX1_reached_14 : decode cX1_reached 14 = .ok (.iload_n 2, 1) := dk_28 (dk_at dksX1_reached_0 14 rfl rfl)
theorem dX1_reached_15 : decode cX1_reached 15 = .ok (.iload_n 3, 1) := dk_29 (dk_at dksX1_reached_0 15 rfl rfl)
theorem dX1_reached_16 : decode cX1_reached 16 = .ok (.ishr, 1) := dk_122 (dk_at dksX1_reached_0 16 rfl rfl)
theorem dX1_reached_17 : decode cX1_reached 17 = .ok (.iconst 1, 1) := dk_4 (dk_at dksX1_reached_0 17 rfl rfl)
theorem dX1_reached_18 : decode cX1_reached 18 = .ok (.iand, 1) := dk_126 (dk_at dksX1_reached_0 18 rfl rfl)
theorem dX1_reached_19 : decode cX1_reached 19 = .ok (.ifCond .ne 18, 3) := dk_154 0 18 (dk_at dksX1_reached_0 19 rfl rfl)
theorem dX1_reached_22 : decode cX1_reached 22 = .ok (.iload_n 2, 1) := dk_28 (dk_at dksX1_reached_0 22 rfl rfl)
theorem dX1_reached_23 : decode cX1_reached 23 = .ok (.iconst 1, 1) := dk_4 (dk_at dksX1_reached_0 23 rfl rfl)
theorem dX1_reached_24 : decode cX1_reached 24 = .ok (.iload_n 3, 1) := dk_29 (dk_at dksX1_reached_1 0 rfl rfl)
theorem dX1_reached_25 : decode cX1_reached 25 = .ok (.ishl, 1) := dk_120 (dk_at dksX1_reached_1 1 rfl rfl)
theorem dX1_reached_26 : decode cX1_reached 26 = .ok (.ior, 1) := dk_128 (dk_at dksX1_reached_1 2 rfl rfl)
theorem dX1_reached_27 : decode cX1_reached 27 = .ok (.istore_n 2, 1) := dk_61 (dk_at dksX1_reached_1 3 rfl rfl)
theorem dX1_reached_28 : decode cX1_reached 28 = .ok (.aload_n 0, 1) := dk_42 (dk_at dksX1_reached_1 4 rfl rfl)
theorem dX1_reached_29 : decode cX1_reached 29 = .ok (.iload_n 3, 1) := dk_29 (dk_at dksX1_reached_1 5 rfl rfl)
theorem dX1_reached_30 : decode cX1_reached 30 = .ok (.invokevirtual 185, 3) := dk_182 0 185 (dk_at dksX1_reached_1 6 rfl rfl)
theorem dX1_reached_33 : decode cX1_reached 33 = .ok (.istore_n 3, 1) := dk_62 (dk_at dksX1_reached_1 9 rfl rfl)
theorem dX1_reached_34 : decode cX1_reached 34 = .ok (.goto (-26), 3) := dk_167 255 230 (dk_at dksX1_reached_1 10 rfl rfl)
theorem dX1_reached_37 : decode cX1_reached 37 = .ok (.iload_n 2, 1) := dk_28 (dk_at dksX1_reached_1 13 rfl rfl)
theorem dX1_reached_38 : decode cX1_reached 38 = .ok (.ireturn, 1) := dk_172 (dk_at dksX1_reached_1 14 rfl rfl)
abbrev cX1_linked : ByteArray := prog_5_method_20_code
def yX1_linked : MethodName := ⟨RX1, "linked", "(I)I"⟩
def dkwX1_linked_0 : List UInt8 := [42, 27, 182, 0, 140, 77, 44, 199, 0, 8, 16, 251, 167, 0, 7, 44, 182, 0, 152, 172]
abbrev dktX1_linked_0 : List UInt8 := dkwX1_linked_0 ++ []
theorem dksX1_linked_0 : cX1_linked.data.toList.drop 0 = dktX1_linked_0 := by decide +kernel
theorem dX1_linked_0 : decode cX1_linked 0 = .ok (.aload_n 0, 1) := dk_42 (dk_at dksX1_linked_0 0 rfl rfl)
theorem dX1_linked_1 : decode cX1_linked 1 = .ok (.iload_n 1, 1) := dk_27 (dk_at dksX1_linked_0 1 rfl rfl)
theorem dX1_linked_2 : decode cX1_linked 2 = .ok (.invokevirtual 140, 3) := dk_182 0 140 (dk_at dksX1_linked_0 2 rfl rfl)
theorem dX1_linked_5 : decode cX1_linked 5 = .ok (.astore_n 2, 1) := dk_77 (dk_at dksX1_linked_0 5 rfl rfl)
theorem dX1_linked_6 : decode cX1_linked 6 = .ok (.aload_n 2, 1) := dk_44 (dk_at dksX1_linked_0 6 rfl rfl)
theorem dX1_linked_7 : decode cX1_linked 7 = .ok (.ifnonnull 8, 3) := dk_199 0 8 (dk_at dksX1_linked_0 7 rfl rfl)
theorem dX1_linked_10 : decode cX1_linked 10 = .ok (.bipush (-5), 2) := dk_16 251 (dk_at dksX1_linked_0 10 rfl rfl)
theorem dX1_linked_12 : decode cX1_linked 12 = .ok (.goto 7, 3) := dk_167 0 7 (dk_at dksX1_linked_0 12 rfl rfl)
theorem dX1_linked_15 : decode cX1_linked 15 = .ok (.aload_n 2, 1) := dk_44 (dk_at dksX1_linked_0 15 rfl rfl)
theorem dX1_linked_16 : decode cX1_linked 16 = .ok (.invokevirtual 152, 3) := dk_182 0 152 (dk_at dksX1_linked_0 16 rfl rfl)
theorem dX1_linked_19 : decode cX1_linked 19 = .ok (.ireturn, 1) := dk_172 (dk_at dksX1_linked_0 19 rfl rfl)
abbrev cX1_links : ByteArray := prog_5_method_23_code
def yX1_links : MethodName := ⟨RX1, "links", "(I)I"⟩
def dkwX1_links_1 : List UInt8 := [16, 251, 172, 42, 29, 182, 0, 185, 62, 167, 255, 232, 28, 172]
abbrev dktX1_links_1 : List UInt8 := dkwX1_links_1 ++ []
def dkwX1_links_0 : List UInt8 := [3, 61, 42, 27, 182, 0, 185, 62, 29, 16, 251, 159, 0, 24, 132, 2, 1, 28, 16, 16, 164, 0, 6]
abbrev dktX1_links_0 : List UInt8 := dkwX1_links_0 ++ dktX1_links_1
theorem dksX1_links_0 : cX1_links.data.toList.drop 0 = dktX1_links_0 := by decide +kernel
theorem dksX1_links_1 : cX1_links.data.toList.drop 23 = dktX1_links_1 := dk_seg dksX1_links_0 23 rfl rfl
theorem dX1_links_0 : decode cX1_links 0 = .ok (.iconst 0, 1) := dk_3 (dk_at dksX1_links_0 0 rfl rfl)
theorem dX1_links_1 : decode cX1_links 1 = .ok (.istore_n 2, 1) := dk_61 (dk_at dksX1_links_0 1 rfl rfl)
theorem dX1_links_2 : decode cX1_links 2 = .ok (.aload_n 0, 1) := dk_42 (dk_at dksX1_links_0 2 rfl rfl)
theorem dX1_links_3 : decode cX1_links 3 = .ok (.iload_n 1, 1) := dk_27 (dk_at dksX1_links_0 3 rfl rfl)
theorem dX1_links_4 : decode cX1_links 4 = .ok (.invokevirtual 185, 3) := dk_182 0 185 (dk_at dksX1_links_0 4 rfl rfl)
theorem dX1_links_7 : decode cX1_links 7 = .ok (.istore_n 3, 1) := dk_62 (dk_at dksX1_links_0 7 rfl rfl)
theorem dX1_links_8 : decode cX1_links 8 = .ok (.iload_n 3, 1) := dk_29 (dk_at dksX1_links_0 8 rfl rfl)
theorem dX1_links_9 : decode cX1_links 9 = .ok (.bipush (-5), 2) := dk_16 251 (dk_at dksX1_links_0 9 rfl rfl)
theorem dX1_links_11 : decode cX1_links 11 = .ok (.if_icmp .eq 24, 3) := dk_159 0 24 (dk_at dksX1_links_0 11 rfl rfl)
theorem dX1_links_14 : decode cX1_links 14 = .ok (.iinc 2 1, 3) := dk_132 2 1 (dk_at dksX1_links_0 14 rfl rfl)
theorem dX1_links_17 : decode cX1_links 17 = .ok (.iload_n 2, 1) := dk_28 (dk_at dksX1_links_0 17 rfl rfl)
theorem dX1_links_18 : decode cX1_links 18 = .ok (.bipush 16, 2) := dk_16 16 (dk_at dksX1_links_0 18 rfl rfl)
theorem dX1_links_20 : decode cX1_links 20 = .ok (.if_icmp .le 6, 3) := dk_164 0 6 (dk_at dksX1_links_0 20 rfl rfl)
theorem dX1_links_23 : decode cX1_links 23 = .ok (.bipush (-5), 2) := dk_16 251 (dk_at dksX1_links_1 0 rfl rfl)
theorem dX1_links_25 : decode cX1_links 25 = .ok (.ireturn, 1) := dk_172 (dk_at dksX1_links_1 2 rfl rfl)
theorem dX1_links_26 : decode cX1_links 26 = .ok (.aload_n 0, 1) := dk_42 (dk_at dksX1_links_1 3 rfl rfl)
theorem dX1_links_27 : decode cX1_links 27 = .ok (.iload_n 3, 1) := dk_29 (dk_at dksX1_links_1 4 rfl rfl)
theorem dX1_links_28 : decode cX1_links 28 = .ok (.invokevirtual 185, 3) := dk_182 0 185 (dk_at dksX1_links_1 5 rfl rfl)
theorem dX1_links_31 : decode cX1_links 31 = .ok (.istore_n 3, 1) := dk_62 (dk_at dksX1_links_1 8 rfl rfl)
theorem dX1_links_32 : decode cX1_links 32 = .ok (.goto (-24), 3) := dk_167 255 232 (dk_at dksX1_links_1 9 rfl rfl)
theorem dX1_links_35 : decode cX1_links 35 = .ok (.iload_n 2, 1) := dk_28 (dk_at dksX1_links_1 12 rfl rfl)
theorem dX1_links_36 : decode cX1_links 36 = .ok (.ireturn, 1) := dk_172 (dk_at dksX1_links_1 13 rfl rfl)
abbrev cX1_isInRing : ByteArray := prog_5_method_22_code
def yX1_isInRing : MethodName := ⟨RX1, "isInRing", "(I)Z"⟩
def dkwX1_isInRing_0 : List UInt8 := [42, 27, 182, 0, 189, 27, 122, 4, 126, 4, 160, 0, 7, 4, 167, 0, 4, 3, 172]
abbrev dktX1_isInRing_0 : List UInt8 := dkwX1_isInRing_0 ++ []
theorem dksX1_isInRing_0 : cX1_isInRing.data.toList.drop 0 = dktX1_isInRing_0 := by decide +kernel
theorem dX1_isInRing_0 : decode cX1_isInRing 0 = .ok (.aload_n 0, 1) := dk_42 (dk_at dksX1_isInRing_0 0 rfl rfl)
theorem dX1_isInRing_1 : decode cX1_isInRing 1 = .ok (.iload_n 1, 1) := dk_27 (dk_at dksX1_isInRing_0 1 rfl rfl)
theorem dX1_isInRing_2 : decode cX1_isInRing 2 = .ok (.invokevirtual 189, 3) := dk_182 0 189 (dk_at dksX1_isInRing_0 2 rfl rfl)
theorem dX1_isInRing_5 : decode cX1_isInRing 5 = .ok (.iload_n 1, 1) := dk_27 (dk_at dksX1_isInRing_0 5 rfl rfl)
theorem dX1_isInRing_6 : decode cX1_isInRing 6 = .ok (.ishr, 1) := dk_122 (dk_at dksX1_isInRing_0 6 rfl rfl)
theorem dX1_isInRing_7 : decode cX1_isInRing 7 = .ok (.iconst 1, 1) := dk_4 (dk_at dksX1_isInRing_0 7 rfl rfl)
theorem dX1_isInRing_8 : decode cX1_isInRing 8 = .ok (.iand, 1) := dk_126 (dk_at dksX1_isInRing_0 8 rfl rfl)
theorem dX1_isInRing_9 : decode cX1_isInRing 9 = .ok (.iconst 1, 1) := dk_4 (dk_at dksX1_isInRing_0 9 rfl rfl)
theorem dX1_isInRing_10 : decode cX1_isInRing 10 = .ok (.if_icmp .ne 7, 3) := dk_160 0 7 (dk_at dksX1_isInRing_0 10 rfl rfl)
theorem dX1_isInRing_13 : decode cX1_isInRing 13 = .ok (.iconst 1, 1) := dk_4 (dk_at dksX1_isInRing_0 13 rfl rfl)
theorem dX1_isInRing_14 : decode cX1_isInRing 14 = .ok (.goto 4, 3) := dk_167 0 4 (dk_at dksX1_isInRing_0 14 rfl rfl)
theorem dX1_isInRing_17 : decode cX1_isInRing 17 = .ok (.iconst 0, 1) := dk_3 (dk_at dksX1_isInRing_0 17 rfl rfl)
theorem dX1_isInRing_18 : decode cX1_isInRing 18 = .ok (.ireturn, 1) := dk_172 (dk_at dksX1_isInRing_0 18 rfl rfl)
theorem q61 : (Jvm.Cond.initialized "NailedOrders$State") ∈ lw_all := lw_g (lw_at lw_m1 2 rfl) rfl
theorem q94 : (Jvm.Cond.instantiable "NailedOrders$State" (6 : Nat)) ∈ lw_all := lw_g (lw_at lw_m1 35 rfl) rfl
theorem q96 : (Jvm.Cond.instanceMethod ({ cls := "NailedOrders$State", name := "<init>", desc := "()V" } : Jvm.MethodName)) ∈ lw_all := lw_g (lw_at lw_m1 37 rfl) rfl
theorem q97 : (Jvm.Cond.code ({ cls := "NailedOrders$State", name := "<init>", desc := "()V" } : Jvm.MethodName) prog_5_method_1_code (2 : Nat) (Option.none : Option Jvm.ClassFile.FieldType)) ∈ lw_all := lw_g (lw_at lw_m1 38 rfl) rfl
theorem q98 : (Jvm.Cond.methodLink "NailedOrders$State" (3 : Nat) ({ cls := "java/lang/Object", name := "<init>", desc := "()V" } : Jvm.MethodName)) ∈ lw_all := lw_g (lw_at lw_m1 39 rfl) rfl
theorem q99 : (Jvm.Cond.classLink "NailedOrders$State" (15 : Nat) "java/util/ArrayList") ∈ lw_all := lw_g (lw_at lw_m1 40 rfl) rfl
theorem q101 : (Jvm.Cond.methodLink "NailedOrders$State" (17 : Nat) ({ cls := "java/util/ArrayList", name := "<init>", desc := "()V" } : Jvm.MethodName)) ∈ lw_all := lw_g (lw_at lw_m1 42 rfl) rfl
theorem q126 : (Jvm.Cond.interfaceEntry "NailedOrders$State" (25 : Nat)) ∈ lw_tbl := lw_at lw_m1 67 rfl
theorem q127 : (Jvm.Cond.methodLink "NailedOrders$State" (25 : Nat) ({ cls := "java/util/List", name := "add", desc := "(Ljava/lang/Object;)Z" } : Jvm.MethodName)) ∈ lw_all := lw_g (lw_at lw_m1 68 rfl) rfl
theorem q168 : (Jvm.Cond.selects "NailedOrders$State" ({ cls := "java/lang/Object", name := "getClass", desc := "()Ljava/lang/Class;" } : Jvm.MethodName) ({ cls := "java/lang/Object", name := "getClass", desc := "()Ljava/lang/Class;" } : Jvm.MethodName)) ∈ lw_all := lw_g (lw_at lw_m1 109 rfl) rfl
theorem q189 : (Jvm.Cond.fieldLink "NailedOrders$State" (9 : Nat) "NailedOrders$State" "ranks" "[I") ∈ lw_all := lw_g (lw_at lw_m1 130 rfl) rfl
theorem q191 : (Jvm.Cond.fieldLink "NailedOrders$State" (18 : Nat) "NailedOrders$State" "orders" "Ljava/util/List;") ∈ lw_all := lw_g (lw_at lw_m1 132 rfl) rfl
theorem q193 : (Jvm.Cond.fieldLink "NailedOrders$State" (22 : Nat) "NailedOrders$State" "stacks" "Ljava/util/List;") ∈ lw_all := lw_g (lw_at lw_m1 134 rfl) rfl
theorem q195 : (Jvm.Cond.fieldLink "NailedOrders$State" (56 : Nat) "NailedOrders$State" "tolerance" "F") ∈ lw_all := lw_g (lw_at lw_m1 136 rfl) rfl
theorem q197 : (Jvm.Cond.fieldLink "NailedOrders$State" (60 : Nat) "NailedOrders$State" "persons" "I") ∈ lw_all := lw_g (lw_at lw_m1 138 rfl) rfl
theorem q199 : (Jvm.Cond.fieldLink "NailedOrders$State" (63 : Nat) "NailedOrders$State" "storms" "I") ∈ lw_all := lw_g (lw_at lw_m1 140 rfl) rfl
theorem q201 : (Jvm.Cond.laysFinal "NailedOrders$State" "NailedOrders$State" "ranks" "[I") ∈ lw_all := lw_g (lw_at lw_m1 142 rfl) rfl
theorem q202 : (Jvm.Cond.soleField "NailedOrders$State" "ranks") ∈ lw_all := lw_g (lw_at lw_m1 143 rfl) rfl
theorem q203 : (Jvm.Cond.laysFinal "NailedOrders$State" "NailedOrders$State" "orders" "Ljava/util/List;") ∈ lw_all := lw_g (lw_at lw_m1 144 rfl) rfl
theorem q204 : (Jvm.Cond.soleField "NailedOrders$State" "orders") ∈ lw_all := lw_g (lw_at lw_m1 145 rfl) rfl
theorem q205 : (Jvm.Cond.laysFinal "NailedOrders$State" "NailedOrders$State" "stacks" "Ljava/util/List;") ∈ lw_all := lw_g (lw_at lw_m1 146 rfl) rfl
theorem q206 : (Jvm.Cond.soleField "NailedOrders$State" "stacks") ∈ lw_all := lw_g (lw_at lw_m1 147 rfl) rfl
theorem q207 : (Jvm.Cond.lays "NailedOrders$State" "NailedOrders$State" "tolerance" "F") ∈ lw_all := lw_g (lw_at lw_m1 148 rfl) rfl
theorem q208 : (Jvm.Cond.soleField "NailedOrders$State" "tolerance") ∈ lw_all := lw_g (lw_at lw_m1 149 rfl) rfl
theorem q209 : (Jvm.Cond.lays "NailedOrders$State" "NailedOrders$State" "persons" "I") ∈ lw_all := lw_g (lw_at lw_m1 150 rfl) rfl
theorem q210 : (Jvm.Cond.soleField "NailedOrders$State" "persons") ∈ lw_all := lw_g (lw_at lw_m1 151 rfl) rfl
theorem q211 : (Jvm.Cond.lays "NailedOrders$State" "NailedOrders$State" "storms" "I") ∈ lw_all := lw_g (lw_at lw_m1 152 rfl) rfl
theorem q212 : (Jvm.Cond.soleField "NailedOrders$State" "storms") ∈ lw_all := lw_g (lw_at lw_m1 153 rfl) rfl
theorem q213 : (Jvm.Cond.superclass "NailedOrders$State" "java/lang/Object") ∈ lw_all := lw_g (lw_at lw_m1 154 rfl) rfl
theorem q269 : (Jvm.Cond.instanceMethod ({ cls := "NailedOrders$State", name := "copy", desc := "()LNailedOrders$State;" } : Jvm.MethodName)) ∈ lw_all := lw_g (lw_at lw_m1 210 rfl) rfl
theorem q270 : (Jvm.Cond.selects "NailedOrders$State" ({ cls := "NailedOrders$State", name := "copy", desc := "()LNailedOrders$State;" } : Jvm.MethodName) ({ cls := "NailedOrders$State", name := "copy", desc := "()LNailedOrders$State;" } : Jvm.MethodName)) ∈ lw_all := lw_g (lw_at lw_m1 211 rfl) rfl
theorem q271 : (Jvm.Cond.code ({ cls := "NailedOrders$State", name := "copy", desc := "()LNailedOrders$State;" } : Jvm.MethodName) prog_5_method_2_code (4 : Nat) (Option.some (Jvm.ClassFile.FieldType.object "NailedOrders$State"))) ∈ lw_all := lw_g (lw_at lw_m1 212 rfl) rfl
theorem q272 : (Jvm.Cond.classLink "NailedOrders$State" (10 : Nat) "NailedOrders$State") ∈ lw_all := lw_g (lw_at lw_m1 213 rfl) rfl
theorem q273 : (Jvm.Cond.methodLink "NailedOrders$State" (31 : Nat) ({ cls := "NailedOrders$State", name := "<init>", desc := "()V" } : Jvm.MethodName)) ∈ lw_all := lw_g (lw_at lw_m1 214 rfl) rfl
theorem q274 : (Jvm.Cond.methodLink "NailedOrders$State" (32 : Nat) ({ cls := "java/lang/System", name := "arraycopy", desc := "(Ljava/lang/Object;ILjava/lang/Object;II)V" } : Jvm.MethodName)) ∈ lw_all := lw_g (lw_at lw_m1 215 rfl) rfl
theorem q275 : (Jvm.Cond.interfaceEntry "NailedOrders$State" (38 : Nat)) ∈ lw_tbl := lw_at lw_m1 216 rfl
theorem q276 : (Jvm.Cond.methodLink "NailedOrders$State" (38 : Nat) ({ cls := "java/util/List", name := "size", desc := "()I" } : Jvm.MethodName)) ∈ lw_all := lw_g (lw_at lw_m1 217 rfl) rfl
theorem q284 : (Jvm.Cond.interfaceEntry "NailedOrders$State" (42 : Nat)) ∈ lw_tbl := lw_at lw_m1 225 rfl
theorem q285 : (Jvm.Cond.methodLink "NailedOrders$State" (42 : Nat) ({ cls := "java/util/List", name := "get", desc := "(I)Ljava/lang/Object;" } : Jvm.MethodName)) ∈ lw_all := lw_g (lw_at lw_m1 226 rfl) rfl
theorem q303 : (Jvm.Cond.classLink "NailedOrders$State" (46 : Nat) "NailedOrders$Order") ∈ lw_all := lw_g (lw_at lw_m2 4 rfl) rfl
theorem q304 : (Jvm.Cond.methodLink "NailedOrders$State" (48 : Nat) ({ cls := "NailedOrders$Order", name := "copy", desc := "()LNailedOrders$Order;" } : Jvm.MethodName)) ∈ lw_all := lw_g (lw_at lw_m2 5 rfl) rfl
theorem q323 : (Jvm.Cond.fieldLink "NailedOrders$State" (52 : Nat) "NailedOrders$Order" "number" "I") ∈ lw_all := lw_g (lw_at lw_m2 24 rfl) rfl
theorem q330 : (Jvm.Cond.fieldLink "NailedOrders$State" (134 : Nat) "NailedOrders$Order" "person" "I") ∈ lw_all := lw_g (lw_at lw_m2 31 rfl) rfl
theorem q335 : (Jvm.Cond.fieldLink "NailedOrders$State" (73 : Nat) "NailedOrders$Order" "word" "I") ∈ lw_all := lw_g (lw_at lw_m2 36 rfl) rfl
theorem q340 : (Jvm.Cond.fieldLink "NailedOrders$State" (155 : Nat) "NailedOrders$Order" "real" "F") ∈ lw_all := lw_g (lw_at lw_m2 41 rfl) rfl
theorem q345 : (Jvm.Cond.fieldLink "NailedOrders$State" (124 : Nat) "NailedOrders$Order" "strength" "F") ∈ lw_all := lw_g (lw_at lw_m2 46 rfl) rfl
theorem q348 : (Jvm.Cond.fieldLink "NailedOrders$State" (111 : Nat) "NailedOrders$Order" "fate" "I") ∈ lw_all := lw_g (lw_at lw_m2 49 rfl) rfl
theorem q385 : (Jvm.Cond.classLink "NailedOrders$State" (26 : Nat) "java/util/List") ∈ lw_all := lw_g (lw_at lw_m2 86 rfl) rfl
theorem q413 : (Jvm.Cond.instanceMethod ({ cls := "NailedOrders$State", name := "isPerson", desc := "(I)Z" } : Jvm.MethodName)) ∈ lw_all := lw_g (lw_at lw_m2 114 rfl) rfl
theorem q414 : (Jvm.Cond.selects "NailedOrders$State" ({ cls := "NailedOrders$State", name := "isPerson", desc := "(I)Z" } : Jvm.MethodName) ({ cls := "NailedOrders$State", name := "isPerson", desc := "(I)Z" } : Jvm.MethodName)) ∈ lw_all := lw_g (lw_at lw_m2 115 rfl) rfl
theorem q415 : (Jvm.Cond.code ({ cls := "NailedOrders$State", name := "isPerson", desc := "(I)Z" } : Jvm.MethodName) prog_5_method_3_code (2 : Nat) (Option.some Jvm.ClassFile.FieldType.boolean)) ∈ lw_all := lw_g (lw_at lw_m2 116 rfl) rfl
theorem q416 : (Jvm.Cond.methodLinkNest "NailedOrders$State" (66 : Nat) ({ cls := "NailedOrders", name := "inRange", desc := "(III)Z" } : Jvm.MethodName) "NailedOrders") ∈ lw_tbl := lw_at lw_m2 117 rfl
theorem q441 : (Jvm.Cond.instanceMethod ({ cls := "NailedOrders$State", name := "nail", desc := "(IIII)I" } : Jvm.MethodName)) ∈ lw_all := lw_g (lw_at lw_m2 142 rfl) rfl
theorem q442 : (Jvm.Cond.selects "NailedOrders$State" ({ cls := "NailedOrders$State", name := "nail", desc := "(IIII)I" } : Jvm.MethodName) ({ cls := "NailedOrders$State", name := "nail", desc := "(IIII)I" } : Jvm.MethodName)) ∈ lw_all := lw_g (lw_at lw_m2 143 rfl) rfl
theorem q443 : (Jvm.Cond.code ({ cls := "NailedOrders$State", name := "nail", desc := "(IIII)I" } : Jvm.MethodName) prog_5_method_7_code (5 : Nat) (Option.some Jvm.ClassFile.FieldType.int)) ∈ lw_all := lw_g (lw_at lw_m2 144 rfl) rfl
theorem q444 : (Jvm.Cond.methodLink "NailedOrders$State" (76 : Nat) ({ cls := "NailedOrders$State", name := "isPerson", desc := "(I)Z" } : Jvm.MethodName)) ∈ lw_all := lw_g (lw_at lw_m2 145 rfl) rfl
theorem q445 : (Jvm.Cond.methodLinkNest "NailedOrders$State" (80 : Nat) ({ cls := "NailedOrders", name := "isWord", desc := "(I)Z" } : Jvm.MethodName) "NailedOrders") ∈ lw_tbl := lw_at lw_m2 146 rfl
theorem q448 : (Jvm.Cond.methodLinkNest "NailedOrders$State" (83 : Nat) ({ cls := "NailedOrders", name := "isNumber", desc := "(I)Z" } : Jvm.MethodName) "NailedOrders") ∈ lw_tbl := lw_at lw_m2 149 rfl
theorem q453 : (Jvm.Cond.methodLinkNest "NailedOrders$State" (86 : Nat) ({ cls := "NailedOrders", name := "isStrength", desc := "(I)Z" } : Jvm.MethodName) "NailedOrders") ∈ lw_tbl := lw_at lw_m2 154 rfl
theorem q458 : (Jvm.Cond.methodLink "NailedOrders$State" (89 : Nat) ({ cls := "NailedOrders$State", name := "isFull", desc := "()Z" } : Jvm.MethodName)) ∈ lw_all := lw_g (lw_at lw_m2 159 rfl) rfl
theorem q459 : (Jvm.Cond.instanceMethod ({ cls := "NailedOrders$State", name := "isFull", desc := "()Z" } : Jvm.MethodName)) ∈ lw_all := lw_g (lw_at lw_m2 160 rfl) rfl
theorem q460 : (Jvm.Cond.selects "NailedOrders$State" ({ cls := "NailedOrders$State", name := "isFull", desc := "()Z" } : Jvm.MethodName) ({ cls := "NailedOrders$State", name := "isFull", desc := "()Z" } : Jvm.MethodName)) ∈ lw_all := lw_g (lw_at lw_m2 161 rfl) rfl
theorem q461 : (Jvm.Cond.code ({ cls := "NailedOrders$State", name := "isFull", desc := "()Z" } : Jvm.MethodName) prog_5_method_5_code (1 : Nat) (Option.some Jvm.ClassFile.FieldType.boolean)) ∈ lw_all := lw_g (lw_at lw_m2 162 rfl) rfl
theorem q462 : (Jvm.Cond.methodLink "NailedOrders$State" (70 : Nat) ({ cls := "NailedOrders$State", name := "hanging", desc := "()I" } : Jvm.MethodName)) ∈ lw_all := lw_g (lw_at lw_m2 163 rfl) rfl
theorem q463 : (Jvm.Cond.instanceMethod ({ cls := "NailedOrders$State", name := "hanging", desc := "()I" } : Jvm.MethodName)) ∈ lw_all := lw_g (lw_at lw_m2 164 rfl) rfl
theorem q464 : (Jvm.Cond.selects "NailedOrders$State" ({ cls := "NailedOrders$State", name := "hanging", desc := "()I" } : Jvm.MethodName) ({ cls := "NailedOrders$State", name := "hanging", desc := "()I" } : Jvm.MethodName)) ∈ lw_all := lw_g (lw_at lw_m2 165 rfl) rfl
theorem q465 : (Jvm.Cond.code ({ cls := "NailedOrders$State", name := "hanging", desc := "()I" } : Jvm.MethodName) prog_5_method_4_code (3 : Nat) (Option.some Jvm.ClassFile.FieldType.int)) ∈ lw_all := lw_g (lw_at lw_m2 166 rfl) rfl
theorem q466 : (Jvm.Cond.methodLink "NailedOrders$State" (93 : Nat) ({ cls := "java/lang/Float", name := "intBitsToFloat", desc := "(I)F" } : Jvm.MethodName)) ∈ lw_all := lw_g (lw_at lw_m2 167 rfl) rfl
theorem q467 : (Jvm.Cond.methodLink "NailedOrders$State" (99 : Nat) ({ cls := "NailedOrders$Order", name := "<init>", desc := "(IIIFF)V" } : Jvm.MethodName)) ∈ lw_all := lw_g (lw_at lw_m2 168 rfl) rfl
theorem q468 : (Jvm.Cond.methodLink "NailedOrders$State" (102 : Nat) ({ cls := "NailedOrders$State", name := "hang", desc := "(LNailedOrders$Order;)I" } : Jvm.MethodName)) ∈ lw_all := lw_g (lw_at lw_m2 169 rfl) rfl
theorem q469 : (Jvm.Cond.instanceMethod ({ cls := "NailedOrders$State", name := "hang", desc := "(LNailedOrders$Order;)I" } : Jvm.MethodName)) ∈ lw_all := lw_g (lw_at lw_m2 170 rfl) rfl
theorem q470 : (Jvm.Cond.selects "NailedOrders$State" ({ cls := "NailedOrders$State", name := "hang", desc := "(LNailedOrders$Order;)I" } : Jvm.MethodName) ({ cls := "NailedOrders$State", name := "hang", desc := "(LNailedOrders$Order;)I" } : Jvm.MethodName)) ∈ lw_all := lw_g (lw_at lw_m2 171 rfl) rfl
theorem q471 : (Jvm.Cond.code ({ cls := "NailedOrders$State", name := "hang", desc := "(LNailedOrders$Order;)I" } : Jvm.MethodName) prog_5_method_6_code (2 : Nat) (Option.some Jvm.ClassFile.FieldType.int)) ∈ lw_all := lw_g (lw_at lw_m2 172 rfl) rfl
theorem q477 : (Jvm.Cond.instanceMethod ({ cls := "NailedOrders$State", name := "nailLink", desc := "(IIIIII)I" } : Jvm.MethodName)) ∈ lw_all := lw_g (lw_at lw_m2 178 rfl) rfl
theorem q478 : (Jvm.Cond.selects "NailedOrders$State" ({ cls := "NailedOrders$State", name := "nailLink", desc := "(IIIIII)I" } : Jvm.MethodName) ({ cls := "NailedOrders$State", name := "nailLink", desc := "(IIIIII)I" } : Jvm.MethodName)) ∈ lw_all := lw_g (lw_at lw_m2 179 rfl) rfl
theorem q479 : (Jvm.Cond.code ({ cls := "NailedOrders$State", name := "nailLink", desc := "(IIIIII)I" } : Jvm.MethodName) prog_5_method_8_code (7 : Nat) (Option.some Jvm.ClassFile.FieldType.int)) ∈ lw_all := lw_g (lw_at lw_m2 180 rfl) rfl
theorem q480 : (Jvm.Cond.classLink "NailedOrders$State" (106 : Nat) "NailedOrders$Link") ∈ lw_all := lw_g (lw_at lw_m2 181 rfl) rfl
theorem q481 : (Jvm.Cond.methodLink "NailedOrders$State" (108 : Nat) ({ cls := "NailedOrders$Link", name := "<init>", desc := "(IIIIFFF)V" } : Jvm.MethodName)) ∈ lw_all := lw_g (lw_at lw_m2 182 rfl) rfl
theorem q504 : (Jvm.Cond.instanceMethod ({ cls := "NailedOrders$State", name := "takeOff", desc := "(LNailedOrders$Order;I)V" } : Jvm.MethodName)) ∈ lw_all := lw_g (lw_at lw_m2 205 rfl) rfl
theorem q505 : (Jvm.Cond.selects "NailedOrders$State" ({ cls := "NailedOrders$State", name := "takeOff", desc := "(LNailedOrders$Order;I)V" } : Jvm.MethodName) ({ cls := "NailedOrders$State", name := "takeOff", desc := "(LNailedOrders$Order;I)V" } : Jvm.MethodName)) ∈ lw_all := lw_g (lw_at lw_m2 206 rfl) rfl
theorem q506 : (Jvm.Cond.code ({ cls := "NailedOrders$State", name := "takeOff", desc := "(LNailedOrders$Order;I)V" } : Jvm.MethodName) prog_5_method_9_code (3 : Nat) (Option.none : Option Jvm.ClassFile.FieldType)) ∈ lw_all := lw_g (lw_at lw_m2 207 rfl) rfl
theorem q507 : (Jvm.Cond.interfaceEntry "NailedOrders$State" (114 : Nat)) ∈ lw_tbl := lw_at lw_m2 208 rfl
theorem q508 : (Jvm.Cond.methodLink "NailedOrders$State" (114 : Nat) ({ cls := "java/util/List", name := "remove", desc := "(Ljava/lang/Object;)Z" } : Jvm.MethodName)) ∈ lw_all := lw_g (lw_at lw_m2 209 rfl) rfl
theorem q524 : (Jvm.Cond.selects "NailedOrders$State" ({ cls := "java/lang/Object", name := "equals", desc := "(Ljava/lang/Object;)Z" } : Jvm.MethodName) ({ cls := "java/lang/Object", name := "equals", desc := "(Ljava/lang/Object;)Z" } : Jvm.MethodName)) ∈ lw_all := lw_g (lw_at lw_m2 225 rfl) rfl
theorem q549 : (Jvm.Cond.instanceMethod ({ cls := "NailedOrders$State", name := "storm", desc := "(F)I" } : Jvm.MethodName)) ∈ lw_all := lw_g (lw_at lw_m3 10 rfl) rfl
theorem q550 : (Jvm.Cond.selects "NailedOrders$State" ({ cls := "NailedOrders$State", name := "storm", desc := "(F)I" } : Jvm.MethodName) ({ cls := "NailedOrders$State", name := "storm", desc := "(F)I" } : Jvm.MethodName)) ∈ lw_all := lw_g (lw_at lw_m3 11 rfl) rfl
theorem q551 : (Jvm.Cond.code ({ cls := "NailedOrders$State", name := "storm", desc := "(F)I" } : Jvm.MethodName) prog_5_method_11_code (5 : Nat) (Option.some Jvm.ClassFile.FieldType.int)) ∈ lw_all := lw_g (lw_at lw_m3 12 rfl) rfl
theorem q552 : (Jvm.Cond.methodLink "NailedOrders$State" (121 : Nat) ({ cls := "NailedOrders$Order", name := "hangs", desc := "()Z" } : Jvm.MethodName)) ∈ lw_all := lw_g (lw_at lw_m3 13 rfl) rfl
theorem q553 : (Jvm.Cond.methodLink "NailedOrders$State" (127 : Nat) ({ cls := "NailedOrders$State", name := "over", desc := "(LNailedOrders$Order;)I" } : Jvm.MethodName)) ∈ lw_all := lw_g (lw_at lw_m3 14 rfl) rfl
theorem q554 : (Jvm.Cond.instanceMethod ({ cls := "NailedOrders$State", name := "over", desc := "(LNailedOrders$Order;)I" } : Jvm.MethodName)) ∈ lw_all := lw_g (lw_at lw_m3 15 rfl) rfl
theorem q555 : (Jvm.Cond.selects "NailedOrders$State" ({ cls := "NailedOrders$State", name := "over", desc := "(LNailedOrders$Order;)I" } : Jvm.MethodName) ({ cls := "NailedOrders$State", name := "over", desc := "(LNailedOrders$Order;)I" } : Jvm.MethodName)) ∈ lw_all := lw_g (lw_at lw_m3 16 rfl) rfl
theorem q556 : (Jvm.Cond.code ({ cls := "NailedOrders$State", name := "over", desc := "(LNailedOrders$Order;)I" } : Jvm.MethodName) prog_5_method_10_code (3 : Nat) (Option.some Jvm.ClassFile.FieldType.int)) ∈ lw_all := lw_g (lw_at lw_m3 17 rfl) rfl
theorem q557 : (Jvm.Cond.interfaceEntry "NailedOrders$State" (117 : Nat)) ∈ lw_tbl := lw_at lw_m3 18 rfl
theorem q558 : (Jvm.Cond.methodLink "NailedOrders$State" (117 : Nat) ({ cls := "java/util/List", name := "indexOf", desc := "(Ljava/lang/Object;)I" } : Jvm.MethodName)) ∈ lw_all := lw_g (lw_at lw_m3 19 rfl) rfl
theorem q570 : (Jvm.Cond.methodLink "NailedOrders$State" (130 : Nat) ({ cls := "NailedOrders$State", name := "takeOff", desc := "(LNailedOrders$Order;I)V" } : Jvm.MethodName)) ∈ lw_all := lw_g (lw_at lw_m3 31 rfl) rfl
theorem q891 : (Jvm.Cond.instanceMethod ({ cls := "NailedOrders$State", name := "value", desc := "(I)F" } : Jvm.MethodName)) ∈ lw_all := lw_g (lw_at lw_m4 112 rfl) rfl
theorem q892 : (Jvm.Cond.selects "NailedOrders$State" ({ cls := "NailedOrders$State", name := "value", desc := "(I)F" } : Jvm.MethodName) ({ cls := "NailedOrders$State", name := "value", desc := "(I)F" } : Jvm.MethodName)) ∈ lw_all := lw_g (lw_at lw_m4 113 rfl) rfl
theorem q893 : (Jvm.Cond.code ({ cls := "NailedOrders$State", name := "value", desc := "(I)F" } : Jvm.MethodName) prog_5_method_16_code (2 : Nat) (Option.some Jvm.ClassFile.FieldType.float)) ∈ lw_all := lw_g (lw_at lw_m4 114 rfl) rfl
theorem q894 : (Jvm.Cond.methodLink "NailedOrders$State" (158 : Nat) ({ cls := "NailedOrders$State", name := "value", desc := "(II)F" } : Jvm.MethodName)) ∈ lw_all := lw_g (lw_at lw_m4 115 rfl) rfl
theorem q895 : (Jvm.Cond.privateMethod ({ cls := "NailedOrders$State", name := "value", desc := "(II)F" } : Jvm.MethodName)) ∈ lw_tbl := lw_at lw_m4 116 rfl
theorem q896 : (Jvm.Cond.instanceMethod ({ cls := "NailedOrders$State", name := "value", desc := "(II)F" } : Jvm.MethodName)) ∈ lw_all := lw_g (lw_at lw_m4 117 rfl) rfl
theorem q897 : (Jvm.Cond.code ({ cls := "NailedOrders$State", name := "value", desc := "(II)F" } : Jvm.MethodName) prog_5_method_14_code (4 : Nat) (Option.some Jvm.ClassFile.FieldType.float)) ∈ lw_all := lw_g (lw_at lw_m4 118 rfl) rfl
theorem q898 : (Jvm.Cond.methodLink "NailedOrders$State" (140 : Nat) ({ cls := "NailedOrders$State", name := "ruler", desc := "(I)LNailedOrders$Order;" } : Jvm.MethodName)) ∈ lw_all := lw_g (lw_at lw_m4 119 rfl) rfl
theorem q899 : (Jvm.Cond.instanceMethod ({ cls := "NailedOrders$State", name := "ruler", desc := "(I)LNailedOrders$Order;" } : Jvm.MethodName)) ∈ lw_all := lw_g (lw_at lw_m4 120 rfl) rfl
theorem q900 : (Jvm.Cond.selects "NailedOrders$State" ({ cls := "NailedOrders$State", name := "ruler", desc := "(I)LNailedOrders$Order;" } : Jvm.MethodName) ({ cls := "NailedOrders$State", name := "ruler", desc := "(I)LNailedOrders$Order;" } : Jvm.MethodName)) ∈ lw_all := lw_g (lw_at lw_m4 121 rfl) rfl
theorem q901 : (Jvm.Cond.code ({ cls := "NailedOrders$State", name := "ruler", desc := "(I)LNailedOrders$Order;" } : Jvm.MethodName) prog_5_method_13_code (5 : Nat) (Option.some (Jvm.ClassFile.FieldType.object "NailedOrders$Order"))) ∈ lw_all := lw_g (lw_at lw_m4 122 rfl) rfl
theorem q902 : (Jvm.Cond.methodLink "NailedOrders$State" (137 : Nat) ({ cls := "NailedOrders$State", name := "rankOf", desc := "(LNailedOrders$Order;)I" } : Jvm.MethodName)) ∈ lw_all := lw_g (lw_at lw_m4 123 rfl) rfl
theorem q903 : (Jvm.Cond.instanceMethod ({ cls := "NailedOrders$State", name := "rankOf", desc := "(LNailedOrders$Order;)I" } : Jvm.MethodName)) ∈ lw_all := lw_g (lw_at lw_m4 124 rfl) rfl
theorem q904 : (Jvm.Cond.selects "NailedOrders$State" ({ cls := "NailedOrders$State", name := "rankOf", desc := "(LNailedOrders$Order;)I" } : Jvm.MethodName) ({ cls := "NailedOrders$State", name := "rankOf", desc := "(LNailedOrders$Order;)I" } : Jvm.MethodName)) ∈ lw_all := lw_g (lw_at lw_m4 125 rfl) rfl
theorem q905 : (Jvm.Cond.code ({ cls := "NailedOrders$State", name := "rankOf", desc := "(LNailedOrders$Order;)I" } : Jvm.MethodName) prog_5_method_12_code (2 : Nat) (Option.some Jvm.ClassFile.FieldType.int)) ∈ lw_all := lw_g (lw_at lw_m4 126 rfl) rfl
theorem q906 : (Jvm.Cond.methodLinkNest "NailedOrders$State" (144 : Nat) ({ cls := "NailedOrders", name := "nothing", desc := "()F" } : Jvm.MethodName) "NailedOrders") ∈ lw_tbl := lw_at lw_m4 127 rfl
theorem q910 : (Jvm.Cond.methodLink "NailedOrders$State" (148 : Nat) ({ cls := "NailedOrders$State", name := "valueOf", desc := "(LNailedOrders$Order;I)F" } : Jvm.MethodName)) ∈ lw_all := lw_g (lw_at lw_m4 131 rfl) rfl
theorem q911 : (Jvm.Cond.privateMethod ({ cls := "NailedOrders$State", name := "valueOf", desc := "(LNailedOrders$Order;I)F" } : Jvm.MethodName)) ∈ lw_tbl := lw_at lw_m4 132 rfl
theorem q912 : (Jvm.Cond.instanceMethod ({ cls := "NailedOrders$State", name := "valueOf", desc := "(LNailedOrders$Order;I)F" } : Jvm.MethodName)) ∈ lw_all := lw_g (lw_at lw_m4 133 rfl) rfl
theorem q913 : (Jvm.Cond.code ({ cls := "NailedOrders$State", name := "valueOf", desc := "(LNailedOrders$Order;I)F" } : Jvm.MethodName) prog_5_method_15_code (5 : Nat) (Option.some Jvm.ClassFile.FieldType.float)) ∈ lw_all := lw_g (lw_at lw_m4 134 rfl) rfl
theorem q914 : (Jvm.Cond.methodLink "NailedOrders$State" (152 : Nat) ({ cls := "NailedOrders$Order", name := "other", desc := "()I" } : Jvm.MethodName)) ∈ lw_all := lw_g (lw_at lw_m4 135 rfl) rfl
theorem q922 : (Jvm.Cond.methodLinkNest "NailedOrders$State" (162 : Nat) ({ cls := "NailedOrders", name := "isThere", desc := "(F)Z" } : Jvm.MethodName) "NailedOrders") ∈ lw_tbl := lw_at lw_m4 143 rfl
theorem q925 : (Jvm.Cond.methodLink "NailedOrders$State" (166 : Nat) ({ cls := "NailedOrders$Order", name := "factor", desc := "()F" } : Jvm.MethodName)) ∈ lw_all := lw_g (lw_at lw_m4 146 rfl) rfl
theorem q933 : (Jvm.Cond.constantFloat "NailedOrders$State" (169 : Nat) (3463342888 : UInt32)) ∈ lw_all := lw_g (lw_at lw_m4 154 rfl) rfl
theorem q934 : (Jvm.Cond.constantFloat "NailedOrders$State" (170 : Nat) (1315859240 : UInt32)) ∈ lw_all := lw_g (lw_at lw_m4 155 rfl) rfl
theorem q935 : (Jvm.Cond.methodLinkNest "NailedOrders$State" (171 : Nat) ({ cls := "NailedOrders", name := "inRealRange", desc := "(FFF)Z" } : Jvm.MethodName) "NailedOrders") ∈ lw_tbl := lw_at lw_m4 156 rfl
theorem q942 : (Jvm.Cond.instanceMethod ({ cls := "NailedOrders$State", name := "valueOf", desc := "(LNailedOrders$Order;)F" } : Jvm.MethodName)) ∈ lw_all := lw_g (lw_at lw_m4 163 rfl) rfl
theorem q943 : (Jvm.Cond.selects "NailedOrders$State" ({ cls := "NailedOrders$State", name := "valueOf", desc := "(LNailedOrders$Order;)F" } : Jvm.MethodName) ({ cls := "NailedOrders$State", name := "valueOf", desc := "(LNailedOrders$Order;)F" } : Jvm.MethodName)) ∈ lw_all := lw_g (lw_at lw_m4 164 rfl) rfl
theorem q944 : (Jvm.Cond.code ({ cls := "NailedOrders$State", name := "valueOf", desc := "(LNailedOrders$Order;)F" } : Jvm.MethodName) prog_5_method_17_code (2 : Nat) (Option.some Jvm.ClassFile.FieldType.float)) ∈ lw_all := lw_g (lw_at lw_m4 165 rfl) rfl
theorem q955 : (Jvm.Cond.instanceMethod ({ cls := "NailedOrders$State", name := "against", desc := "(I)LNailedOrders$Order;" } : Jvm.MethodName)) ∈ lw_all := lw_g (lw_at lw_m4 176 rfl) rfl
theorem q956 : (Jvm.Cond.selects "NailedOrders$State" ({ cls := "NailedOrders$State", name := "against", desc := "(I)LNailedOrders$Order;" } : Jvm.MethodName) ({ cls := "NailedOrders$State", name := "against", desc := "(I)LNailedOrders$Order;" } : Jvm.MethodName)) ∈ lw_all := lw_g (lw_at lw_m4 177 rfl) rfl
theorem q957 : (Jvm.Cond.code ({ cls := "NailedOrders$State", name := "against", desc := "(I)LNailedOrders$Order;" } : Jvm.MethodName) prog_5_method_19_code (6 : Nat) (Option.some (Jvm.ClassFile.FieldType.object "NailedOrders$Order"))) ∈ lw_all := lw_g (lw_at lw_m4 178 rfl) rfl
theorem q958 : (Jvm.Cond.methodLink "NailedOrders$State" (178 : Nat) ({ cls := "NailedOrders$State", name := "valueOf", desc := "(LNailedOrders$Order;)F" } : Jvm.MethodName)) ∈ lw_all := lw_g (lw_at lw_m4 179 rfl) rfl
theorem q959 : (Jvm.Cond.methodLink "NailedOrders$State" (181 : Nat) ({ cls := "NailedOrders$State", name := "differ", desc := "(FF)Z" } : Jvm.MethodName)) ∈ lw_all := lw_g (lw_at lw_m4 180 rfl) rfl
theorem q960 : (Jvm.Cond.instanceMethod ({ cls := "NailedOrders$State", name := "differ", desc := "(FF)Z" } : Jvm.MethodName)) ∈ lw_all := lw_g (lw_at lw_m4 181 rfl) rfl
theorem q961 : (Jvm.Cond.selects "NailedOrders$State" ({ cls := "NailedOrders$State", name := "differ", desc := "(FF)Z" } : Jvm.MethodName) ({ cls := "NailedOrders$State", name := "differ", desc := "(FF)Z" } : Jvm.MethodName)) ∈ lw_all := lw_g (lw_at lw_m4 182 rfl) rfl
theorem q962 : (Jvm.Cond.code ({ cls := "NailedOrders$State", name := "differ", desc := "(FF)Z" } : Jvm.MethodName) prog_5_method_18_code (3 : Nat) (Option.some Jvm.ClassFile.FieldType.boolean)) ∈ lw_all := lw_g (lw_at lw_m4 183 rfl) rfl
theorem q963 : (Jvm.Cond.methodLinkNest "NailedOrders$State" (175 : Nat) ({ cls := "NailedOrders", name := "size", desc := "(F)F" } : Jvm.MethodName) "NailedOrders") ∈ lw_tbl := lw_at lw_m4 184 rfl
theorem q967 : (Jvm.Cond.instanceMethod ({ cls := "NailedOrders$State", name := "dependents", desc := "(I)I" } : Jvm.MethodName)) ∈ lw_all := lw_g (lw_at lw_m4 188 rfl) rfl
theorem q968 : (Jvm.Cond.selects "NailedOrders$State" ({ cls := "NailedOrders$State", name := "dependents", desc := "(I)I" } : Jvm.MethodName) ({ cls := "NailedOrders$State", name := "dependents", desc := "(I)I" } : Jvm.MethodName)) ∈ lw_all := lw_g (lw_at lw_m4 189 rfl) rfl
theorem q969 : (Jvm.Cond.code ({ cls := "NailedOrders$State", name := "dependents", desc := "(I)I" } : Jvm.MethodName) prog_5_method_24_code (4 : Nat) (Option.some Jvm.ClassFile.FieldType.int)) ∈ lw_all := lw_g (lw_at lw_m4 190 rfl) rfl
theorem q970 : (Jvm.Cond.methodLink "NailedOrders$State" (189 : Nat) ({ cls := "NailedOrders$State", name := "reached", desc := "(I)I" } : Jvm.MethodName)) ∈ lw_all := lw_g (lw_at lw_m4 191 rfl) rfl
theorem q971 : (Jvm.Cond.instanceMethod ({ cls := "NailedOrders$State", name := "reached", desc := "(I)I" } : Jvm.MethodName)) ∈ lw_all := lw_g (lw_at lw_m4 192 rfl) rfl
theorem q972 : (Jvm.Cond.selects "NailedOrders$State" ({ cls := "NailedOrders$State", name := "reached", desc := "(I)I" } : Jvm.MethodName) ({ cls := "NailedOrders$State", name := "reached", desc := "(I)I" } : Jvm.MethodName)) ∈ lw_all := lw_g (lw_at lw_m4 193 rfl) rfl
theorem q973 : (Jvm.Cond.code ({ cls := "NailedOrders$State", name := "reached", desc := "(I)I" } : Jvm.MethodName) prog_5_method_21_code (4 : Nat) (Option.some Jvm.ClassFile.FieldType.int)) ∈ lw_all := lw_g (lw_at lw_m4 194 rfl) rfl
theorem q974 : (Jvm.Cond.methodLink "NailedOrders$State" (185 : Nat) ({ cls := "NailedOrders$State", name := "linked", desc := "(I)I" } : Jvm.MethodName)) ∈ lw_all := lw_g (lw_at lw_m4 195 rfl) rfl
theorem q975 : (Jvm.Cond.instanceMethod ({ cls := "NailedOrders$State", name := "linked", desc := "(I)I" } : Jvm.MethodName)) ∈ lw_all := lw_g (lw_at lw_m4 196 rfl) rfl
theorem q976 : (Jvm.Cond.selects "NailedOrders$State" ({ cls := "NailedOrders$State", name := "linked", desc := "(I)I" } : Jvm.MethodName) ({ cls := "NailedOrders$State", name := "linked", desc := "(I)I" } : Jvm.MethodName)) ∈ lw_all := lw_g (lw_at lw_m4 197 rfl) rfl
theorem q977 : (Jvm.Cond.code ({ cls := "NailedOrders$State", name := "linked", desc := "(I)I" } : Jvm.MethodName) prog_5_method_20_code (3 : Nat) (Option.some Jvm.ClassFile.FieldType.int)) ∈ lw_all := lw_g (lw_at lw_m4 198 rfl) rfl
theorem q979 : (Jvm.Cond.instanceMethod ({ cls := "NailedOrders$State", name := "links", desc := "(I)I" } : Jvm.MethodName)) ∈ lw_all := lw_g (lw_at lw_m4 200 rfl) rfl
theorem q980 : (Jvm.Cond.selects "NailedOrders$State" ({ cls := "NailedOrders$State", name := "links", desc := "(I)I" } : Jvm.MethodName) ({ cls := "NailedOrders$State", name := "links", desc := "(I)I" } : Jvm.MethodName)) ∈ lw_all := lw_g (lw_at lw_m4 201 rfl) rfl
theorem q981 : (Jvm.Cond.code ({ cls := "NailedOrders$State", name := "links", desc := "(I)I" } : Jvm.MethodName) prog_5_method_23_code (4 : Nat) (Option.some Jvm.ClassFile.FieldType.int)) ∈ lw_all := lw_g (lw_at lw_m4 202 rfl) rfl
theorem q1030 : (Jvm.Cond.instanceMethod ({ cls := "NailedOrders$State", name := "isInRing", desc := "(I)Z" } : Jvm.MethodName)) ∈ lw_all := lw_g (lw_at lw_m5 11 rfl) rfl
theorem q1031 : (Jvm.Cond.selects "NailedOrders$State" ({ cls := "NailedOrders$State", name := "isInRing", desc := "(I)Z" } : Jvm.MethodName) ({ cls := "NailedOrders$State", name := "isInRing", desc := "(I)Z" } : Jvm.MethodName)) ∈ lw_all := lw_g (lw_at lw_m5 12 rfl) rfl
theorem q1032 : (Jvm.Cond.code ({ cls := "NailedOrders$State", name := "isInRing", desc := "(I)Z" } : Jvm.MethodName) prog_5_method_22_code (2 : Nat) (Option.some Jvm.ClassFile.FieldType.boolean)) ∈ lw_all := lw_g (lw_at lw_m5 13 rfl) rfl
theorem q1386 : (Jvm.Cond.castable "NailedOrders$State" "java/lang/Object") ∈ lw_tbl := lw_at lw_m6 127 rfl
theorem in_X1 : ∀ w ∈ wsX10, w ∈ lw_all := lw_in wsX10 [201, 203, 205, 207, 209, 211] (by decide +kernel) (by decide +kernel)
/-! NailedOrders -/
set_option maxRecDepth 100000
def RX0 : String := "NailedOrders"
def TX0 : u_T := fun k => match k with
  | 0 => ("NailedOrders", "state", "LNailedOrders$State;", false)
  | 1 => ("NailedOrders", "snapshot", "LNailedOrders$State;", false)
  | 2 => ("NailedOrders", "history", "Ljava/util/List;", true)
  | _ => ("NailedOrders", "text", "Ljava/lang/StringBuilder;", true)
def tyX0 : Nat → FieldType := fun k => match k with
  | 0 => .object "NailedOrders$State"
  | 1 => .object "NailedOrders$State"
  | 2 => .object "java/util/List"
  | _ => .object "java/lang/StringBuilder"
abbrev wsX00 : List Cond := u_ws RX0 TX0 4
theorem nmX0 : ∀ a, a < 4 → ∀ b, b < 4 → a ≠ b → (TX0 a).2.1 ≠ (TX0 b).2.1 := by decide +kernel
theorem tyX0_ok : ∀ k, k < 4 → parseFieldDescriptor (TX0 k).2.2.1 = some (tyX0 k) := by decide +kernel
abbrev cX0_init : ByteArray := prog_1_method_10_code
def yX0_init : MethodName := ⟨RX0, "<init>", "()V"⟩
def dkwX0_init_1 : List UInt8 := [181, 0, 44, 42, 187, 0, 48, 89, 183, 0, 50, 181, 0, 51, 177]
abbrev dktX0_init_1 : List UInt8 := dkwX0_init_1 ++ []
def dkwX0_init_0 : List UInt8 := [42, 183, 0, 28, 42, 187, 0, 34, 89, 183, 0, 36, 181, 0, 37, 42, 187, 0, 41, 89, 183, 0, 43]
abbrev dktX0_init_0 : List UInt8 := dkwX0_init_0 ++ dktX0_init_1
theorem dksX0_init_0 : cX0_init.data.toList.drop 0 = dktX0_init_0 := by decide +kernel
theorem dksX0_init_1 : cX0_init.data.toList.drop 23 = dktX0_init_1 := dk_seg dksX0_init_0 23 rfl rfl
theorem dX0_init_0 : decode cX0_init 0 = .ok (.aload_n 0, 1) := dk_42 (dk_at dksX0_init_0 0 rfl rfl)
theorem dX0_init_1 : decode cX0_init 1 = .ok (.invokespecial 28, 3) := dk_183 0 28 (dk_at dksX0_init_0 1 rfl rfl)
theorem dX0_init_4 : decode cX0_init 4 = .ok (.aload_n 0, 1) := dk_42 (dk_at dksX0_init_0 4 rfl rfl)
theorem dX0_init_5 : decode cX0_init 5 = .ok (.new 34, 3) := dk_187 0 34 (dk_at dksX0_init_0 5 rfl rfl)
theorem dX0_init_8 : decode cX0_init 8 = .ok (.dup, 1) := dk_89 (dk_at dksX0_init_0 8 rfl rfl)
theorem dX0_init_9 : decode cX0_init 9 = .ok (.invokespecial 36, 3) := dk_183 0 36 (dk_at dksX0_init_0 9 rfl rfl)
theorem dX0_init_12 : decode cX0_init 12 = .ok (.putfield 37, 3) := dk_181 0 37 (dk_at dksX0_init_0 12 rfl rfl)
theorem dX0_init_15 : decode cX0_init 15 = .ok (.aload_n 0, 1) := dk_42 (dk_at dksX0_init_0 15 rfl rfl)
theorem dX0_init_16 : decode cX0_init 16 = .ok (.new 41, 3) := dk_187 0 41 (dk_at dksX0_init_0 16 rfl rfl)
theorem dX0_init_19 : decode cX0_init 19 = .ok (.dup, 1) := dk_89 (dk_at dksX0_init_0 19 rfl rfl)
theorem dX0_init_20 : decode cX0_init 20 = .ok (.invokespecial 43, 3) := dk_183 0 43 (dk_at dksX0_init_0 20 rfl rfl)
theorem dX0_init_23 : decode cX0_init 23 = .ok (.putfield 44, 3) := dk_181 0 44 (dk_at dksX0_init_1 0 rfl rfl)
theorem dX0_init_26 : decode cX0_init 26 = .ok (.aload_n 0, 1) := dk_42 (dk_at dksX0_init_1 3 rfl rfl)
theorem dX0_init_27 : decode cX0_init 27 = .ok (.new 48, 3) := dk_187 0 48 (dk_at dksX0_init_1 4 rfl rfl)
theorem dX0_init_30 : decode cX0_init 30 = .ok (.dup, 1) := dk_89 (dk_at dksX0_init_1 7 rfl rfl)
theorem dX0_init_31 : decode cX0_init 31 = .ok (.invokespecial 50, 3) := dk_183 0 50 (dk_at dksX0_init_1 8 rfl rfl)
theorem dX0_init_34 : decode cX0_init 34 = .ok (.putfield 51, 3) := dk_181 0 51 (dk_at dksX0_init_1 11 rfl rfl)
theorem dX0_init_37 : decode cX0_init 37 = .ok (.return_, 1) := dk_177 (dk_at dksX0_init_1 14 rfl rfl)
abbrev cX0_addPerson : ByteArray := prog_1_method_14_code
def yX0_addPerson : MethodName := ⟨RX0, "addPerson", "(I)I"⟩
def dkwX0_addPerson_2 : List UInt8 := [180, 0, 77, 4, 96, 181, 0, 77, 42, 44, 44, 180, 0, 77, 4, 100, 182, 0, 89, 172]
abbrev dktX0_addPerson_2 : List UInt8 := dkwX0_addPerson_2 ++ []
def dkwX0_addPerson_1 : List UInt8 := [16, 253, 172, 42, 180, 0, 37, 182, 0, 81, 77, 44, 180, 0, 85, 44, 180, 0, 77, 27, 79, 44, 89]
abbrev dktX0_addPerson_1 : List UInt8 := dkwX0_addPerson_1 ++ dktX0_addPerson_2
def dkwX0_addPerson_0 : List UInt8 := [27, 4, 8, 184, 0, 3, 154, 0, 6, 16, 254, 172, 42, 180, 0, 37, 180, 0, 77, 16, 6, 160, 0, 6]
abbrev dktX0_addPerson_0 : List UInt8 := dkwX0_addPerson_0 ++ dktX0_addPerson_1
theorem dksX0_addPerson_0 : cX0_addPerson.data.toList.drop 0 = dktX0_addPerson_0 := by decide +kernel
theorem dksX0_addPerson_1 : cX0_addPerson.data.toList.drop 24 = dktX0_addPerson_1 := dk_seg dksX0_addPerson_0 24 rfl rfl
theorem dksX0_addPerson_2 : cX0_addPerson.data.toList.drop 47 = dktX0_addPerson_2 := dk_seg dksX0_addPerson_1 23 rfl rfl
theorem dX0_addPerson_0 : decode cX0_addPerson 0 = .ok (.iload_n 1, 1) := dk_27 (dk_at dksX0_addPerson_0 0 rfl rfl)
theorem dX0_addPerson_1 : decode cX0_addPerson 1 = .ok (.iconst 1, 1) := dk_4 (dk_at dksX0_addPerson_0 1 rfl rfl)
theorem dX0_addPerson_2 : decode cX0_addPerson 2 = .ok (.iconst 5, 1) := dk_8 (dk_at dksX0_addPerson_0 2 rfl rfl)
theorem dX0_addPerson_3 : decode cX0_addPerson 3 = .ok (.invokestatic 3, 3) := dk_184 0 3 (dk_at dksX0_addPerson_0 3 rfl rfl)
theorem dX0_addPerson_6 : decode cX0_addPerson 6 = .ok (.ifCond .ne 6, 3) := dk_154 0 6 (dk_at dksX0_addPerson_0 6 rfl rfl)
theorem dX0_addPerson_9 : decode cX0_addPerson 9 = .ok (.bipush (-2), 2) := dk_16 254 (dk_at dksX0_addPerson_0 9 rfl rfl)
theorem dX0_addPerson_11 : decode cX0_addPerson 11 = .ok (.ireturn, 1) := dk_172 (dk_at dksX0_addPerson_0 11 rfl rfl)
theorem dX0_addPerson_12 : decode cX0_addPerson 12 = .ok (.aload_n 0, 1) := dk_42 (dk_at dksX0_addPerson_0 12 rfl rfl)
theorem dX0_addPerson_13 : decode cX0_addPerson 13 = .ok (.getfield 37, 3) := dk_180 0 37 (dk_at dksX0_addPerson_0 13 rfl rfl)
theorem dX0_addPerson_16 : decode cX0_addPerson 16 = .ok (.getfield 77, 3) := dk_180 0 77 (dk_at dksX0_addPerson_0 16 rfl rfl)
theorem dX0_addPerson_19 : decode cX0_addPerson 19 = .ok (.bipush 6, 2) := dk_16 6 (dk_at dksX0_addPerson_0 19 rfl rfl)
theorem dX0_addPerson_21 : decode cX0_addPerson 21 = .ok (.if_icmp .ne 6, 3) := dk_160 0 6 (dk_at dksX0_addPerson_0 21 rfl rfl)
theorem dX0_addPerson_24 : decode cX0_addPerson 24 = .ok (.bipush (-3), 2) := dk_16 253 (dk_at dksX0_addPerson_1 0 rfl rfl)
theorem dX0_addPerson_26 : decode cX0_addPerson 26 = .ok (.ireturn, 1) := dk_172 (dk_at dksX0_addPerson_1 2 rfl rfl)
theorem dX0_addPerson_27 : decode cX0_addPerson 27 = .ok (.aload_n 0, 1) := dk_42 (dk_at dksX0_addPerson_1 3 rfl rfl)
theorem dX0_addPerson_28 : decode cX0_addPerson 28 = .ok (.getfield 37, 3) := dk_180 0 37 (dk_at dksX0_addPerson_1 4 rfl rfl)
theorem dX0_addPerson_31 : decode cX0_addPerson 31 = .ok (.invokevirtual 81, 3) := dk_182 0 81 (dk_at dksX0_addPerson_1 7 rfl rfl)
theorem dX0_addPerson_34 : decode cX0_addPerson 34 = .ok (.astore_n 2, 1) := dk_77 (dk_at dksX0_addPerson_1 10 rfl rfl)
theorem dX0_addPerson_35 : decode cX0_addPerson 35 = .ok (.aload_n 2, 1) := dk_44 (dk_at dksX0_addPerson_1 11 rfl rfl)
theorem dX0_addPerson_36 : decode cX0_addPerson 36 = .ok (.getfield 85, 3) := dk_180 0 85 (dk_at dksX0_addPerson_1 12 rfl rfl)
theorem dX0_addPerson_39 : decode cX0_addPerson 39 = .ok (.aload_n 2, 1) := dk_44 (dk_at dksX0_addPerson_1 15 rfl rfl)
theorem dX0_addPerson_40 : decode cX0_addPerson 40 = .ok (.getfield 77, 3) := dk_180 0 77 (dk_at dksX0_addPerson_1 16 rfl rfl)
theorem dX0_addPerson_43 : decode cX0_addPerson 43 = .ok (.iload_n 1, 1) := dk_27 (dk_at dksX0_addPerson_1 19 rfl rfl)
theorem dX0_addPerson_44 : decode cX0_addPerson 44 = .ok (.iastore, 1) := dk_79 (dk_at dksX0_addPerson_1 20 rfl rfl)
theorem dX0_addPerson_45 : decode cX0_addPerson 45 = .ok (.aload_n 2, 1) := dk_44 (dk_at dksX0_addPerson_1 21 rfl rfl)
theorem dX0_addPerson_46 : decode cX0_addPerson 46 = .ok (.dup, 1) := dk_89 (dk_at dksX0_addPerson_1 22 rfl rfl)
theorem dX0_addPerson_47 : decode cX0_addPerson 47 = .ok (.getfield 77, 3) := dk_180 0 77 (dk_at dksX0_addPerson_2 0 rfl rfl)
theorem dX0_addPerson_50 : decode cX0_addPerson 50 = .ok (.iconst 1, 1) := dk_4 (dk_at dksX0_addPerson_2 3 rfl rfl)
theorem dX0_addPerson_51 : decode cX0_addPerson 51 = .ok (.iadd, 1) := dk_96 (dk_at dksX0_addPerson_2 4 rfl rfl)
theorem dX0_addPerson_52 : decode cX0_addPerson 52 = .ok (.putfield 77, 3) := dk_181 0 77 (dk_at dksX0_addPerson_2 5 rfl rfl)
theorem dX0_addPerson_55 : decode cX0_addPerson 55 = .ok (.aload_n 0, 1) := dk_42 (dk_at dksX0_addPerson_2 8 rfl rfl)
theorem dX0_addPerson_56 : decode cX0_addPerson 56 = .ok (.aload_n 2, 1) := dk_44 (dk_at dksX0_addPerson_2 9 rfl rfl)
theorem dX0_addPerson_57 : decode cX0_addPerson 57 = .ok (.aload_n 2, 1) := dk_44 (dk_at dksX0_addPerson_2 10 rfl rfl)
theorem dX0_addPerson_58 : decode cX0_addPerson 58 = .ok (.getfield 77, 3) := dk_180 0 77 (dk_at dksX0_addPerson_2 11 rfl rfl)
theorem dX0_addPerson_61 : decode cX0_addPerson 61 = .ok (.iconst 1, 1) := dk_4 (dk_at dksX0_addPerson_2 14 rfl rfl)
theorem dX0_addPerson_62 : decode cX0_addPerson 62 = .ok (.isub, 1) := dk_100 (dk_at dksX0_addPerson_2 15 rfl rfl)
theorem dX0_addPerson_63 : decode cX0_addPerson 63 = .ok (.invokevirtual 89, 3) := dk_182 0 89 (dk_at dksX0_addPerson_2 16 rfl rfl)
theorem dX0_addPerson_66 : decode cX0_addPerson 66 = .ok (.ireturn, 1) := dk_172 (dk_at dksX0_addPerson_2 19 rfl rfl)
abbrev cX0_inRange : ByteArray := prog_1_method_1_code
def yX0_inRange : MethodName := ⟨RX0, "inRange", "(III)Z"⟩
def dkwX0_inRange_0 : List UInt8 := [26, 27, 161, 0, 12, 26, 28, 163, 0, 7, 4, 167, 0, 4, 3, 172]
abbrev dktX0_inRange_0 : List UInt8 := dkwX0_inRange_0 ++ []
theorem dksX0_inRange_0 : cX0_inRange.data.toList.drop 0 = dktX0_inRange_0 := by decide +kernel
theorem dX0_inRange_0 : decode cX0_inRange 0 = .ok (.iload_n 0, 1) := dk_26 (dk_at dksX0_inRange_0 0 rfl rfl)
theorem dX0_inRange_1 : decode cX0_inRange 1 = .ok (.iload_n 1, 1) := dk_27 (dk_at dksX0_inRange_0 1 rfl rfl)
theorem dX0_inRange_2 : decode cX0_inRange 2 = .ok (.if_icmp .lt 12, 3) := dk_161 0 12 (dk_at dksX0_inRange_0 2 rfl rfl)
theorem dX0_inRange_5 : decode cX0_inRange 5 = .ok (.iload_n 0, 1) := dk_26 (dk_at dksX0_inRange_0 5 rfl rfl)
theorem dX0_inRange_6 : decode cX0_inRange 6 = .ok (.iload_n 2, 1) := dk_28 (dk_at dksX0_inRange_0 6 rfl rfl)
theorem dX0_inRange_7 : decode cX0_inRange 7 = .ok (.if_icmp .gt 7, 3) := dk_163 0 7 (dk_at dksX0_inRange_0 7 rfl rfl)
theorem dX0_inRange_10 : decode cX0_inRange 10 = .ok (.iconst 1, 1) := dk_4 (dk_at dksX0_inRange_0 10 rfl rfl)
theorem dX0_inRange_11 : decode cX0_inRange 11 = .ok (.goto 4, 3) := dk_167 0 4 (dk_at dksX0_inRange_0 11 rfl rfl)
theorem dX0_inRange_14 : decode cX0_inRange 14 = .ok (.iconst 0, 1) := dk_3 (dk_at dksX0_inRange_0 14 rfl rfl)
theorem dX0_inRange_15 : decode cX0_inRange 15 = .ok (.ireturn, 1) := dk_172 (dk_at dksX0_inRange_0 15 rfl rfl)
abbrev cX0_accept : ByteArray := prog_1_method_13_code
def yX0_accept : MethodName := ⟨RX0, "accept", "(LNailedOrders$State;I)I"⟩
def dkwX0_accept_2 : List UInt8 := [181, 0, 37, 28, 172]
abbrev dktX0_accept_2 : List UInt8 := dkwX0_accept_2 ++ []
def dkwX0_accept_1 : List UInt8 := [185, 0, 70, 2, 0, 87, 42, 180, 0, 44, 42, 180, 0, 37, 185, 0, 73, 2, 0, 87, 42, 43]
abbrev dktX0_accept_1 : List UInt8 := dkwX0_accept_1 ++ dktX0_accept_2
def dkwX0_accept_0 : List UInt8 := [28, 156, 0, 5, 28, 172, 42, 180, 0, 44, 185, 0, 58, 1, 0, 7, 160, 0, 14, 42, 180, 0, 44, 3]
abbrev dktX0_accept_0 : List UInt8 := dkwX0_accept_0 ++ dktX0_accept_1
theorem dksX0_accept_0 : cX0_accept.data.toList.drop 0 = dktX0_accept_0 := by decide +kernel
theorem dksX0_accept_1 : cX0_accept.data.toList.drop 24 = dktX0_accept_1 := dk_seg dksX0_accept_0 24 rfl rfl
theorem dksX0_accept_2 : cX0_accept.data.toList.drop 46 = dktX0_accept_2 := dk_seg dksX0_accept_1 22 rfl rfl
theorem dX0_accept_0 : decode cX0_accept 0 = .ok (.iload_n 2, 1) := dk_28 (dk_at dksX0_accept_0 0 rfl rfl)
theorem dX0_accept_1 : decode cX0_accept 1 = .ok (.ifCond .ge 5, 3) := dk_156 0 5 (dk_at dksX0_accept_0 1 rfl rfl)
theorem dX0_accept_4 : decode cX0_accept 4 = .ok (.iload_n 2, 1) := dk_28 (dk_at dksX0_accept_0 4 rfl rfl)
theorem dX0_accept_5 : decode cX0_accept 5 = .ok (.ireturn, 1) := dk_172 (dk_at dksX0_accept_0 5 rfl rfl)
theorem dX0_accept_6 : decode cX0_accept 6 = .ok (.aload_n 0, 1) := dk_42 (dk_at dksX0_accept_0 6 rfl rfl)
theorem dX0_accept_7 : decode cX0_accept 7 = .ok (.getfield 44, 3) := dk_180 0 44 (dk_at dksX0_accept_0 7 rfl rfl)
theorem dX0_accept_10 : decode cX0_accept 10 = .ok (.invokeinterface 58 1, 5) := by decide +kernel
theorem dX0_accept_15 : decode cX0_accept 15 = .ok (.iconst 4, 1) := dk_7 (dk_at dksX0_accept_0 15 rfl rfl)
theorem dX0_accept_16 : decode cX0_accept 16 = .ok (.if_icmp .ne 14, 3) := dk_160 0 14 (dk_at dksX0_accept_0 16 rfl rfl)
theorem dX0_accept_19 : decode cX0_accept 19 = .ok (.aload_n 0, 1) := dk_42 (dk_at dksX0_accept_0 19 rfl rfl)
theorem dX0_accept_20 : decode cX0_accept 20 = .ok (.getfield 44, 3) := dk_180 0 44 (dk_at dksX0_accept_0 20 rfl rfl)
theorem dX0_accept_23 : decode cX0_accept 23 = .ok (.iconst 0, 1) := dk_3 (dk_at dksX0_accept_0 23 rfl rfl)
theorem dX0_accept_24 : decode cX0_accept 24 = .ok (.invokeinterface 70 2, 5) := by decide +kernel
theorem dX0_accept_29 : decode cX0_accept 29 = .ok (.pop, 1) := dk_87 (dk_at dksX0_accept_1 5 rfl rfl)
theorem dX0_accept_30 : decode cX0_accept 30 = .ok (.aload_n 0, 1) := dk_42 (dk_at dksX0_accept_1 6 rfl rfl)
theorem dX0_accept_31 : decode cX0_accept 31 = .ok (.getfield 44, 3) := dk_180 0 44 (dk_at dksX0_accept_1 7 rfl rfl)
theorem dX0_accept_34 : decode cX0_accept 34 = .ok (.aload_n 0, 1) := dk_42 (dk_at dksX0_accept_1 10 rfl rfl)
theorem dX0_accept_35 : decode cX0_accept 35 = .ok (.getfield 37, 3) := dk_180 0 37 (dk_at dksX0_accept_1 11 rfl rfl)
theorem dX0_accept_38 : decode cX0_accept 38 = .ok (.invokeinterface 73 2, 5) := by decide +kernel
theorem dX0_accept_43 : decode cX0_accept 43 = .ok (.pop, 1) := dk_87 (dk_at dksX0_accept_1 19 rfl rfl)
theorem dX0_accept_44 : decode cX0_accept 44 = .ok (.aload_n 0, 1) := dk_42 (dk_at dksX0_accept_1 20 rfl rfl)
theorem dX0_accept_45 : decode cX0_accept 45 = .ok (.aload_n 1, 1) := dk_43 (dk_at dksX0_accept_1 21 rfl rfl)
theorem dX0_accept_46 : decode cX0_accept 46 = .ok (.putfield 37, 3) := dk_181 0 37 (dk_at dksX0_accept_2 0 rfl rfl)
theorem dX0_accept_49 : decode cX0_accept 49 = .ok (.iload_n 2, 1) := dk_28 (dk_at dksX0_accept_2 3 rfl rfl)
theorem dX0_accept_50 : decode cX0_accept 50 = .ok (.ireturn, 1) := dk_172 (dk_at dksX0_accept_2 4 rfl rfl)
abbrev cX0_setRank : ByteArray := prog_1_method_15_code
def yX0_setRank : MethodName := ⟨RX0, "setRank", "(II)I"⟩
def dkwX0_setRank_2 : List UInt8 := [182, 0, 81, 58, 4, 25, 4, 180, 0, 85, 27, 28, 79, 42, 25, 4, 29, 182, 0, 89, 172]
abbrev dktX0_setRank_2 : List UInt8 := dkwX0_setRank_2 ++ []
def dkwX0_setRank_1 : List UInt8 := [172, 42, 180, 0, 37, 180, 0, 85, 27, 46, 62, 29, 28, 160, 0, 6, 16, 251, 172, 42, 180, 0, 37]
abbrev dktX0_setRank_1 : List UInt8 := dkwX0_setRank_1 ++ dktX0_setRank_2
def dkwX0_setRank_0 : List UInt8 := [42, 180, 0, 37, 27, 182, 0, 93, 154, 0, 5, 2, 172, 28, 4, 8, 184, 0, 3, 154, 0, 6, 16, 254]
abbrev dktX0_setRank_0 : List UInt8 := dkwX0_setRank_0 ++ dktX0_setRank_1
theorem dksX0_setRank_0 : cX0_setRank.data.toList.drop 0 = dktX0_setRank_0 := by decide +kernel
theorem dksX0_setRank_1 : cX0_setRank.data.toList.drop 24 = dktX0_setRank_1 := dk_seg dksX0_setRank_0 24 rfl rfl
theorem dksX0_setRank_2 : cX0_setRank.data.toList.drop 47 = dktX0_setRank_2 := dk_seg dksX0_setRank_1 23 rfl rfl
theorem dX0_setRank_0 : decode cX0_setRank 0 = .ok (.aload_n 0, 1) := dk_42 (dk_at dksX0_setRank_0 0 rfl rfl)
theorem dX0_setRank_1 : decode cX0_setRank 1 = .ok (.getfield 37, 3) := dk_180 0 37 (dk_at dksX0_setRank_0 1 rfl rfl)
theorem dX0_setRank_4 : decode cX0_setRank 4 = .ok (.iload_n 1, 1) := dk_27 (dk_at dksX0_setRank_0 4 rfl rfl)
theorem dX0_setRank_5 : decode cX0_setRank 5 = .ok (.invokevirtual 93, 3) := dk_182 0 93 (dk_at dksX0_setRank_0 5 rfl rfl)
theorem dX0_setRank_8 : decode cX0_setRank 8 = .ok (.ifCond .ne 5, 3) := dk_154 0 5 (dk_at dksX0_setRank_0 8 rfl rfl)
theorem dX0_setRank_11 : decode cX0_setRank 11 = .ok (.iconst (-1), 1) := dk_2 (dk_at dksX0_setRank_0 11 rfl rfl)
theorem dX0_setRank_12 : decode cX0_setRank 12 = .ok (.ireturn, 1) := dk_172 (dk_at dksX0_setRank_0 12 rfl rfl)
theorem dX0_setRank_13 : decode cX0_setRank 13 = .ok (.iload_n 2, 1) := dk_28 (dk_at dksX0_setRank_0 13 rfl rfl)
theorem dX0_setRank_14 : decode cX0_setRank 14 = .ok (.iconst 1, 1) := dk_4 (dk_at dksX0_setRank_0 14 rfl rfl)
theorem dX0_setRank_15 : decode cX0_setRank 15 = .ok (.iconst 5, 1) := dk_8 (dk_at dksX0_setRank_0 15 rfl rfl)
theorem dX0_setRank_16 : decode cX0_setRank 16 = .ok (.invokestatic 3, 3) := dk_184 0 3 (dk_at dksX0_setRank_0 16 rfl rfl)
theorem dX0_setRank_19 : decode cX0_setRank 19 = .ok (.ifCond .ne 6, 3) := dk_154 0 6 (dk_at dksX0_setRank_0 19 rfl rfl)
theorem dX0_setRank_22 : decode cX0_setRank 22 = .ok (.bipush (-2), 2) := dk_16 254 (dk_at dksX0_setRank_0 22 rfl rfl)
theorem dX0_setRank_24 : decode cX0_setRank 24 = .ok (.ireturn, 1) := dk_172 (dk_at dksX0_setRank_1 0 rfl rfl)
theorem dX0_setRank_25 : decode cX0_setRank 25 = .ok (.aload_n 0, 1) := dk_42 (dk_at dksX0_setRank_1 1 rfl rfl)
theorem dX0_setRank_26 : decode cX0_setRank 26 = .ok (.getfield 37, 3) := dk_180 0 37 (dk_at dksX0_setRank_1 2 rfl rfl)
theorem dX0_setRank_29 : decode cX0_setRank 29 = .ok (.getfield 85, 3) := dk_180 0 85 (dk_at dksX0_setRank_1 5 rfl rfl)
theorem dX0_setRank_32 : decode cX0_setRank 32 = .ok (.iload_n 1, 1) := dk_27 (dk_at dksX0_setRank_1 8 rfl rfl)
theorem dX0_setRank_33 : decode cX0_setRank 33 = .ok (.iaload, 1) := dk_46 (dk_at dksX0_setRank_1 9 rfl rfl)
theorem dX0_setRank_34 : decode cX0_setRank 34 = .ok (.istore_n 3, 1) := dk_62 (dk_at dksX0_setRank_1 10 rfl rfl)
theorem dX0_setRank_35 : decode cX0_setRank 35 = .ok (.iload_n 3, 1) := dk_29 (dk_at dksX0_setRank_1 11 rfl rfl)
theorem dX0_setRank_36 : decode cX0_setRank 36 = .ok (.iload_n 2, 1) := dk_28 (dk_at dksX0_setRank_1 12 rfl rfl)
theorem dX0_setRank_37 : decode cX0_setRank 37 = .ok (.if_icmp .ne 6, 3) := dk_160 0 6 (dk_at dksX0_setRank_1 13 rfl rfl)
theorem dX0_setRank_40 : decode cX0_setRank 40 = .ok (.bipush (-5), 2) := dk_16 251 (dk_at dksX0_setRank_1 16 rfl rfl)
theorem dX0_setRank_42 : decode cX0_setRank 42 = .ok (.ireturn, 1) := dk_172 (dk_at dksX0_setRank_1 18 rfl rfl)
theorem dX0_setRank_43 : decode cX0_setRank 43 = .ok (.aload_n 0, 1) := dk_42 (dk_at dksX0_setRank_1 19 rfl rfl)
theorem dX0_setRank_44 : decode cX0_setRank 44 = .ok (.getfield 37, 3) := dk_180 0 37 (dk_at dksX0_setRank_1 20 rfl rfl)
theorem dX0_setRank_47 : decode cX0_setRank 47 = .ok (.invokevirtual 81, 3) := dk_182 0 81 (dk_at dksX0_setRank_2 0 rfl rfl)
theorem dX0_setRank_50 : decode cX0_setRank 50 = .ok (.astore 4, 2) := dk_58 4 (dk_at dksX0_setRank_2 3 rfl rfl)
theorem dX0_setRank_52 : decode cX0_setRank 52 = .ok (.aload 4, 2) := dk_25 4 (dk_at dksX0_setRank_2 5 rfl rfl)
theorem dX0_setRank_54 : decode cX0_setRank 54 = .ok (.getfield 85, 3) := dk_180 0 85 (dk_at dksX0_setRank_2 7 rfl rfl)
theorem dX0_setRank_57 : decode cX0_setRank 57 = .ok (.iload_n 1, 1) := dk_27 (dk_at dksX0_setRank_2 10 rfl rfl)
theorem dX0_setRank_58 : decode cX0_setRank 58 = .ok (.iload_n 2, 1) := dk_28 (dk_at dksX0_setRank_2 11 rfl rfl)
theorem dX0_setRank_59 : decode cX0_setRank 59 = .ok (.iastore, 1) := dk_79 (dk_at dksX0_setRank_2 12 rfl rfl)
theorem dX0_setRank_60 : decode cX0_setRank 60 = .ok (.aload_n 0, 1) := dk_42 (dk_at dksX0_setRank_2 13 rfl rfl)
theorem dX0_setRank_61 : decode cX0_setRank 61 = .ok (.aload 4, 2) := dk_25 4 (dk_at dksX0_setRank_2 14 rfl rfl)
theorem dX0_setRank_63 : decode cX0_setRank 63 = .ok (.iload_n 3, 1) := dk_29 (dk_at dksX0_setRank_2 16 rfl rfl)
theorem dX0_setRank_64 : decode cX0_setRank 64 = .ok (.invokevirtual 89, 3) := dk_182 0 89 (dk_at dksX0_setRank_2 17 rfl rfl)
theorem dX0_setRank_67 : decode cX0_setRank 67 = .ok (.ireturn, 1) := dk_172 (dk_at dksX0_setRank_2 20 rfl rfl)
abbrev cX0_setTolerance : ByteArray := prog_1_method_16_code
def yX0_setTolerance : MethodName := ⟨RX0, "setTolerance", "(I)I"⟩
def dkwX0_setTolerance_2 : List UInt8 := [16, 251, 172, 42, 180, 0, 37, 182, 0, 81, 78, 45, 36, 181, 0, 97, 42, 45, 4, 182, 0, 89, 172]
abbrev dktX0_setTolerance_2 : List UInt8 := dkwX0_setTolerance_2 ++ []
def dkwX0_setTolerance_1 : List UInt8 := [184, 0, 22, 154, 0, 6, 16, 254, 172, 42, 180, 0, 37, 180, 0, 97, 184, 0, 101, 27, 160, 0, 6]
abbrev dktX0_setTolerance_1 : List UInt8 := dkwX0_setTolerance_1 ++ dktX0_setTolerance_2
def dkwX0_setTolerance_0 : List UInt8 := [27, 155, 0, 10, 27, 184, 0, 10, 154, 0, 6, 16, 254, 172, 27, 184, 0, 14, 69, 36, 11, 18, 96]
abbrev dktX0_setTolerance_0 : List UInt8 := dkwX0_setTolerance_0 ++ dktX0_setTolerance_1
theorem dksX0_setTolerance_0 : cX0_setTolerance.data.toList.drop 0 = dktX0_setTolerance_0 := by decide +kernel
theorem dksX0_setTolerance_1 : cX0_setTolerance.data.toList.drop 23 = dktX0_setTolerance_1 := dk_seg dksX0_setTolerance_0 23 rfl rfl
theorem dksX0_setTolerance_2 : cX0_setTolerance.data.toList.drop 46 = dktX0_setTolerance_2 := dk_seg dksX0_setTolerance_1 23 rfl rfl
theorem dX0_setTolerance_0 : decode cX0_setTolerance 0 = .ok (.iload_n 1, 1) := dk_27 (dk_at dksX0_setTolerance_0 0 rfl rfl)
theorem dX0_setTolerance_1 : decode cX0_setTolerance 1 = .ok (.ifCond .lt 10, 3) := dk_155 0 10 (dk_at dksX0_setTolerance_0 1 rfl rfl)
theorem dX0_setTolerance_4 : decode cX0_setTolerance 4 = .ok (.iload_n 1, 1) := dk_27 (dk_at dksX0_setTolerance_0 4 rfl rfl)
theorem dX0_setTolerance_5 : decode cX0_setTolerance 5 = .ok (.invokestatic 10, 3) := dk_184 0 10 (dk_at dksX0_setTolerance_0 5 rfl rfl)
theorem dX0_setTolerance_8 : decode cX0_setTolerance 8 = .ok (.ifCond .ne 6, 3) := dk_154 0 6 (dk_at dksX0_setTolerance_0 8 rfl rfl)
theorem dX0_setTolerance_11 : decode cX0_setTolerance 11 = .ok (.bipush (-2), 2) := dk_16 254 (dk_at dksX0_setTolerance_0 11 rfl rfl)
theorem dX0_setTolerance_13 : decode cX0_setTolerance 13 = .ok (.ireturn, 1) := dk_172 (dk_at dksX0_setTolerance_0 13 rfl rfl)
theorem dX0_setTolerance_14 : decode cX0_setTolerance 14 = .ok (.iload_n 1, 1) := dk_27 (dk_at dksX0_setTolerance_0 14 rfl rfl)
theorem dX0_setTolerance_15 : decode cX0_setTolerance 15 = .ok (.invokestatic 14, 3) := dk_184 0 14 (dk_at dksX0_setTolerance_0 15 rfl rfl)
theorem dX0_setTolerance_18 : decode cX0_setTolerance 18 = .ok (.fstore_n 2, 1) := dk_69 (dk_at dksX0_setTolerance_0 18 rfl rfl)
theorem dX0_setTolerance_19 : decode cX0_setTolerance 19 = .ok (.fload_n 2, 1) := dk_36 (dk_at dksX0_setTolerance_0 19 rfl rfl)
theorem dX0_setTolerance_20 : decode cX0_setTolerance 20 = .ok (.fconst 0, 1) := dk_11 (dk_at dksX0_setTolerance_0 20 rfl rfl)
theorem dX0_setTolerance_21 : decode cX0_setTolerance 21 = .ok (.ldc 96, 2) := dk_18 96 (dk_at dksX0_setTolerance_0 21 rfl rfl)
theorem dX0_setTolerance_23 : decode cX0_setTolerance 23 = .ok (.invokestatic 22, 3) := dk_184 0 22 (dk_at dksX0_setTolerance_1 0 rfl rfl)
theorem dX0_setTolerance_26 : decode cX0_setTolerance 26 = .ok (.ifCond .ne 6, 3) := dk_154 0 6 (dk_at dksX0_setTolerance_1 3 rfl rfl)
theorem dX0_setTolerance_29 : decode cX0_setTolerance 29 = .ok (.bipush (-2), 2) := dk_16 254 (dk_at dksX0_setTolerance_1 6 rfl rfl)
theorem dX0_setTolerance_31 : decode cX0_setTolerance 31 = .ok (.ireturn, 1) := dk_172 (dk_at dksX0_setTolerance_1 8 rfl rfl)
theorem dX0_setTolerance_32 : decode cX0_setTolerance 32 = .ok (.aload_n 0, 1) := dk_42 (dk_at dksX0_setTolerance_1 9 rfl rfl)
theorem dX0_setTolerance_33 : decode cX0_setTolerance 33 = .ok (.getfield 37, 3) := dk_180 0 37 (dk_at dksX0_setTolerance_1 10 rfl rfl)
theorem dX0_setTolerance_36 : decode cX0_setTolerance 36 = .ok (.getfield 97, 3) := dk_180 0 97 (dk_at dksX0_setTolerance_1 13 rfl rfl)
theorem dX0_setTolerance_39 : decode cX0_setTolerance 39 = .ok (.invokestatic 101, 3) := dk_184 0 101 (dk_at dksX0_setTolerance_1 16 rfl rfl)
theorem dX0_setTolerance_42 : decode cX0_setTolerance 42 = .ok (.iload_n 1, 1) := dk_27 (dk_at dksX0_setTolerance_1 19 rfl rfl)
theorem dX0_setTolerance_43 : decode cX0_setTolerance 43 = .ok (.if_icmp .ne 6, 3) := dk_160 0 6 (dk_at dksX0_setTolerance_1 20 rfl rfl)
theorem dX0_setTolerance_46 : decode cX0_setTolerance 46 = .ok (.bipush (-5), 2) := dk_16 251 (dk_at dksX0_setTolerance_2 0 rfl rfl)
theorem dX0_setTolerance_48 : decode cX0_setTolerance 48 = .ok (.ireturn, 1) := dk_172 (dk_at dksX0_setTolerance_2 2 rfl rfl)
theorem dX0_setTolerance_49 : decode cX0_setTolerance 49 = .ok (.aload_n 0, 1) := dk_42 (dk_at dksX0_setTolerance_2 3 rfl rfl)
theorem dX0_setTolerance_50 : decode cX0_setTolerance 50 = .ok (.getfield 37, 3) := dk_180 0 37 (dk_at dksX0_setTolerance_2 4 rfl rfl)
theorem dX0_setTolerance_53 : decode cX0_setTolerance 53 = .ok (.invokevirtual 81, 3) := dk_182 0 81 (dk_at dksX0_setTolerance_2 7 rfl rfl)
theorem dX0_setTolerance_56 : decode cX0_setTolerance 56 = .ok (.astore_n 3, 1) := dk_78 (dk_at dksX0_setTolerance_2 10 rfl rfl)
theorem dX0_setTolerance_57 : decode cX0_setTolerance 57 = .ok (.aload_n 3, 1) := dk_45 (dk_at dksX0_setTolerance_2 11 rfl rfl)
theorem dX0_setTolerance_58 : decode cX0_setTolerance 58 = .ok (.fload_n 2, 1) := dk_36 (dk_at dksX0_setTolerance_2 12 rfl rfl)
theorem dX0_setTolerance_59 : decode cX0_setTolerance 59 = .ok (.putfield 97, 3) := dk_181 0 97 (dk_at dksX0_setTolerance_2 13 rfl rfl)
theorem dX0_setTolerance_62 : decode cX0_setTolerance 62 = .ok (.aload_n 0, 1) := dk_42 (dk_at dksX0_setTolerance_2 16 rfl rfl)
theorem dX0_setTolerance_63 : decode cX0_setTolerance 63 = .ok (.aload_n 3, 1) := dk_45 (dk_at dksX0_setTolerance_2 17 rfl rfl)
theorem dX0_setTolerance_64 : decode cX0_setTolerance 64 = .ok (.iconst 1, 1) := dk_4 (dk_at dksX0_setTolerance_2 18 rfl rfl)
theorem dX0_setTolerance_65 : decode cX0_setTolerance 65 = .ok (.invokevirtual 89, 3) := dk_182 0 89 (dk_at dksX0_setTolerance_2 19 rfl rfl)
theorem dX0_setTolerance_68 : decode cX0_setTolerance 68 = .ok (.ireturn, 1) := dk_172 (dk_at dksX0_setTolerance_2 22 rfl rfl)
abbrev cX0_isReal : ByteArray := prog_1_method_7_code
def yX0_isReal : MethodName := ⟨RX0, "isReal", "(I)Z"⟩
def dkwX0_isReal_0 : List UInt8 := [26, 18, 8, 126, 18, 9, 163, 0, 7, 4, 167, 0, 4, 3, 172]
abbrev dktX0_isReal_0 : List UInt8 := dkwX0_isReal_0 ++ []
theorem dksX0_isReal_0 : cX0_isReal.data.toList.drop 0 = dktX0_isReal_0 := by decide +kernel
theorem dX0_isReal_0 : decode cX0_isReal 0 = .ok (.iload_n 0, 1) := dk_26 (dk_at dksX0_isReal_0 0 rfl rfl)
theorem dX0_isReal_1 : decode cX0_isReal 1 = .ok (.ldc 8, 2) := dk_18 8 (dk_at dksX0_isReal_0 1 rfl rfl)
theorem dX0_isReal_3 : decode cX0_isReal 3 = .ok (.iand, 1) := dk_126 (dk_at dksX0_isReal_0 3 rfl rfl)
theorem dX0_isReal_4 : decode cX0_isReal 4 = .ok (.ldc 9, 2) := dk_18 9 (dk_at dksX0_isReal_0 4 rfl rfl)
theorem dX0_isReal_6 : decode cX0_isReal 6 = .ok (.if_icmp .gt 7, 3) := dk_163 0 7 (dk_at dksX0_isReal_0 6 rfl rfl)
theorem dX0_isReal_9 : decode cX0_isReal 9 = .ok (.iconst 1, 1) := dk_4 (dk_at dksX0_isReal_0 9 rfl rfl)
theorem dX0_isReal_10 : decode cX0_isReal 10 = .ok (.goto 4, 3) := dk_167 0 4 (dk_at dksX0_isReal_0 10 rfl rfl)
theorem dX0_isReal_13 : decode cX0_isReal 13 = .ok (.iconst 0, 1) := dk_3 (dk_at dksX0_isReal_0 13 rfl rfl)
theorem dX0_isReal_14 : decode cX0_isReal 14 = .ok (.ireturn, 1) := dk_172 (dk_at dksX0_isReal_0 14 rfl rfl)
abbrev cX0_inRealRange : ByteArray := prog_1_method_3_code
def yX0_inRealRange : MethodName := ⟨RX0, "inRealRange", "(FFF)Z"⟩
def dkwX0_inRealRange_0 : List UInt8 := [34, 35, 149, 155, 0, 13, 34, 36, 150, 157, 0, 7, 4, 167, 0, 4, 3, 172]
abbrev dktX0_inRealRange_0 : List UInt8 := dkwX0_inRealRange_0 ++ []
theorem dksX0_inRealRange_0 : cX0_inRealRange.data.toList.drop 0 = dktX0_inRealRange_0 := by decide +kernel
theorem dX0_inRealRange_0 : decode cX0_inRealRange 0 = .ok (.fload_n 0, 1) := dk_34 (dk_at dksX0_inRealRange_0 0 rfl rfl)
theorem dX0_inRealRange_1 : decode cX0_inRealRange 1 = .ok (.fload_n 1, 1) := dk_35 (dk_at dksX0_inRealRange_0 1 rfl rfl)
theorem dX0_inRealRange_2 : decode cX0_inRealRange 2 = .ok (.fcmp .l, 1) := dk_149 (dk_at dksX0_inRealRange_0 2 rfl rfl)
theorem dX0_inRealRange_3 : decode cX0_inRealRange 3 = .ok (.ifCond .lt 13, 3) := dk_155 0 13 (dk_at dksX0_inRealRange_0 3 rfl rfl)
theorem dX0_inRealRange_6 : decode cX0_inRealRange 6 = .ok (.fload_n 0, 1) := dk_34 (dk_at dksX0_inRealRange_0 6 rfl rfl)
theorem dX0_inRealRange_7 : decode cX0_inRealRange 7 = .ok (.fload_n 2, 1) := dk_36 (dk_at dksX0_inRealRange_0 7 rfl rfl)
theorem dX0_inRealRange_8 : decode cX0_inRealRange 8 = .ok (.fcmp .g, 1) := dk_150 (dk_at dksX0_inRealRange_0 8 rfl rfl)
theorem dX0_inRealRange_9 : decode cX0_inRealRange 9 = .ok (.ifCond .gt 7, 3) := dk_157 0 7 (dk_at dksX0_inRealRange_0 9 rfl rfl)
theorem dX0_inRealRange_12 : decode cX0_inRealRange 12 = .ok (.iconst 1, 1) := dk_4 (dk_at dksX0_inRealRange_0 12 rfl rfl)
theorem dX0_inRealRange_13 : decode cX0_inRealRange 13 = .ok (.goto 4, 3) := dk_167 0 4 (dk_at dksX0_inRealRange_0 13 rfl rfl)
theorem dX0_inRealRange_16 : decode cX0_inRealRange 16 = .ok (.iconst 0, 1) := dk_3 (dk_at dksX0_inRealRange_0 16 rfl rfl)
theorem dX0_inRealRange_17 : decode cX0_inRealRange 17 = .ok (.ireturn, 1) := dk_172 (dk_at dksX0_inRealRange_0 17 rfl rfl)
abbrev cX0_nail : ByteArray := prog_1_method_17_code
def yX0_nail : MethodName := ⟨RX0, "nail", "(IIII)I"⟩
def dkwX0_nail_1 : List UInt8 := [182, 0, 89, 172]
abbrev dktX0_nail_1 : List UInt8 := dkwX0_nail_1 ++ []
def dkwX0_nail_0 : List UInt8 := [42, 180, 0, 37, 182, 0, 81, 58, 5, 42, 25, 5, 25, 5, 27, 28, 29, 21, 4, 182, 0, 105]
abbrev dktX0_nail_0 : List UInt8 := dkwX0_nail_0 ++ dktX0_nail_1
theorem dksX0_nail_0 : cX0_nail.data.toList.drop 0 = dktX0_nail_0 := by decide +kernel
theorem dksX0_nail_1 : cX0_nail.data.toList.drop 22 = dktX0_nail_1 := dk_seg dksX0_nail_0 22 rfl rfl
theorem dX0_nail_0 : decode cX0_nail 0 = .ok (.aload_n 0, 1) := dk_42 (dk_at dksX0_nail_0 0 rfl rfl)
theorem dX0_nail_1 : decode cX0_nail 1 = .ok (.getfield 37, 3) := dk_180 0 37 (dk_at dksX0_nail_0 1 rfl rfl)
theorem dX0_nail_4 : decode cX0_nail 4 = .ok (.invokevirtual 81, 3) := dk_182 0 81 (dk_at dksX0_nail_0 4 rfl rfl)
theorem dX0_nail_7 : decode cX0_nail 7 = .ok (.astore 5, 2) := dk_58 5 (dk_at dksX0_nail_0 7 rfl rfl)
theorem dX0_nail_9 : decode cX0_nail 9 = .ok (.aload_n 0, 1) := dk_42 (dk_at dksX0_nail_0 9 rfl rfl)
theorem dX0_nail_10 : decode cX0_nail 10 = .ok (.aload 5, 2) := dk_25 5 (dk_at dksX0_nail_0 10 rfl rfl)
theorem dX0_nail_12 : decode cX0_nail 12 = .ok (.aload 5, 2) := dk_25 5 (dk_at dksX0_nail_0 12 rfl rfl)
theorem dX0_nail_14 : decode cX0_nail 14 = .ok (.iload_n 1, 1) := dk_27 (dk_at dksX0_nail_0 14 rfl rfl)
theorem dX0_nail_15 : decode cX0_nail 15 = .ok (.iload_n 2, 1) := dk_28 (dk_at dksX0_nail_0 15 rfl rfl)
theorem dX0_nail_16 : decode cX0_nail 16 = .ok (.iload_n 3, 1) := dk_29 (dk_at dksX0_nail_0 16 rfl rfl)
theorem dX0_nail_17 : decode cX0_nail 17 = .ok (.iload 4, 2) := dk_21 4 (dk_at dksX0_nail_0 17 rfl rfl)
theorem dX0_nail_19 : decode cX0_nail 19 = .ok (.invokevirtual 105, 3) := dk_182 0 105 (dk_at dksX0_nail_0 19 rfl rfl)
theorem dX0_nail_22 : decode cX0_nail 22 = .ok (.invokevirtual 89, 3) := dk_182 0 89 (dk_at dksX0_nail_1 0 rfl rfl)
theorem dX0_nail_25 : decode cX0_nail 25 = .ok (.ireturn, 1) := dk_172 (dk_at dksX0_nail_1 3 rfl rfl)
abbrev cX0_isWord : ByteArray := prog_1_method_2_code
def yX0_isWord : MethodName := ⟨RX0, "isWord", "(I)Z"⟩
def dkwX0_isWord_0 : List UInt8 := [26, 3, 16, 15, 184, 0, 3, 172]
abbrev dktX0_isWord_0 : List UInt8 := dkwX0_isWord_0 ++ []
theorem dksX0_isWord_0 : cX0_isWord.data.toList.drop 0 = dktX0_isWord_0 := by decide +kernel
theorem dX0_isWord_0 : decode cX0_isWord 0 = .ok (.iload_n 0, 1) := dk_26 (dk_at dksX0_isWord_0 0 rfl rfl)
theorem dX0_isWord_1 : decode cX0_isWord 1 = .ok (.iconst 0, 1) := dk_3 (dk_at dksX0_isWord_0 1 rfl rfl)
theorem dX0_isWord_2 : decode cX0_isWord 2 = .ok (.bipush 15, 2) := dk_16 15 (dk_at dksX0_isWord_0 2 rfl rfl)
theorem dX0_isWord_4 : decode cX0_isWord 4 = .ok (.invokestatic 3, 3) := dk_184 0 3 (dk_at dksX0_isWord_0 4 rfl rfl)
theorem dX0_isWord_7 : decode cX0_isWord 7 = .ok (.ireturn, 1) := dk_172 (dk_at dksX0_isWord_0 7 rfl rfl)
abbrev cX0_isNumber : ByteArray := prog_1_method_8_code
def yX0_isNumber : MethodName := ⟨RX0, "isNumber", "(I)Z"⟩
def dkwX0_isNumber_1 : List UInt8 := [167, 0, 4, 3, 172]
abbrev dktX0_isNumber_1 : List UInt8 := dkwX0_isNumber_1 ++ []
def dkwX0_isNumber_0 : List UInt8 := [26, 184, 0, 10, 153, 0, 21, 26, 184, 0, 14, 18, 20, 18, 21, 184, 0, 22, 153, 0, 7, 4]
abbrev dktX0_isNumber_0 : List UInt8 := dkwX0_isNumber_0 ++ dktX0_isNumber_1
theorem dksX0_isNumber_0 : cX0_isNumber.data.toList.drop 0 = dktX0_isNumber_0 := by decide +kernel
theorem dksX0_isNumber_1 : cX0_isNumber.data.toList.drop 22 = dktX0_isNumber_1 := dk_seg dksX0_isNumber_0 22 rfl rfl
theorem dX0_isNumber_0 : decode cX0_isNumber 0 = .ok (.iload_n 0, 1) := dk_26 (dk_at dksX0_isNumber_0 0 rfl rfl)
theorem dX0_isNumber_1 : decode cX0_isNumber 1 = .ok (.invokestatic 10, 3) := dk_184 0 10 (dk_at dksX0_isNumber_0 1 rfl rfl)
theorem dX0_isNumber_4 : decode cX0_isNumber 4 = .ok (.ifCond .eq 21, 3) := dk_153 0 21 (dk_at dksX0_isNumber_0 4 rfl rfl)
theorem dX0_isNumber_7 : decode cX0_isNumber 7 = .ok (.iload_n 0, 1) := dk_26 (dk_at dksX0_isNumber_0 7 rfl rfl)
theorem dX0_isNumber_8 : decode cX0_isNumber 8 = .ok (.invokestatic 14, 3) := dk_184 0 14 (dk_at dksX0_isNumber_0 8 rfl rfl)
theorem dX0_isNumber_11 : decode cX0_isNumber 11 = .ok (.ldc 20, 2) := dk_18 20 (dk_at dksX0_isNumber_0 11 rfl rfl)
theorem dX0_isNumber_13 : decode cX0_isNumber 13 = .ok (.ldc 21, 2) := dk_18 21 (dk_at dksX0_isNumber_0 13 rfl rfl)
theorem dX0_isNumber_15 : decode cX0_isNumber 15 = .ok (.invokestatic 22, 3) := dk_184 0 22 (dk_at dksX0_isNumber_0 15 rfl rfl)
theorem dX0_isNumber_18 : decode cX0_isNumber 18 = .ok (.ifCond .eq 7, 3) := dk_153 0 7 (dk_at dksX0_isNumber_0 18 rfl rfl)
theorem dX0_isNumber_21 : decode cX0_isNumber 21 = .ok (.iconst 1, 1) := dk_4 (dk_at dksX0_isNumber_0 21 rfl rfl)
theorem dX0_isNumber_22 : decode cX0_isNumber 22 = .ok (.goto 4, 3) := dk_167 0 4 (dk_at dksX0_isNumber_1 0 rfl rfl)
theorem dX0_isNumber_25 : decode cX0_isNumber 25 = .ok (.iconst 0, 1) := dk_3 (dk_at dksX0_isNumber_1 3 rfl rfl)
theorem dX0_isNumber_26 : decode cX0_isNumber 26 = .ok (.ireturn, 1) := dk_172 (dk_at dksX0_isNumber_1 4 rfl rfl)
abbrev cX0_isStrength : ByteArray := prog_1_method_9_code
def yX0_isStrength : MethodName := ⟨RX0, "isStrength", "(I)Z"⟩
def dkwX0_isStrength_1 : List UInt8 := [167, 0, 4, 3, 172]
abbrev dktX0_isStrength_1 : List UInt8 := dkwX0_isStrength_1 ++ []
def dkwX0_isStrength_0 : List UInt8 := [26, 184, 0, 10, 153, 0, 21, 26, 184, 0, 14, 18, 26, 18, 27, 184, 0, 22, 153, 0, 7, 4]
abbrev dktX0_isStrength_0 : List UInt8 := dkwX0_isStrength_0 ++ dktX0_isStrength_1
theorem dksX0_isStrength_0 : cX0_isStrength.data.toList.drop 0 = dktX0_isStrength_0 := by decide +kernel
theorem dksX0_isStrength_1 : cX0_isStrength.data.toList.drop 22 = dktX0_isStrength_1 := dk_seg dksX0_isStrength_0 22 rfl rfl
theorem dX0_isStrength_0 : decode cX0_isStrength 0 = .ok (.iload_n 0, 1) := dk_26 (dk_at dksX0_isStrength_0 0 rfl rfl)
theorem dX0_isStrength_1 : decode cX0_isStrength 1 = .ok (.invokestatic 10, 3) := dk_184 0 10 (dk_at dksX0_isStrength_0 1 rfl rfl)
theorem dX0_isStrength_4 : decode cX0_isStrength 4 = .ok (.ifCond .eq 21, 3) := dk_153 0 21 (dk_at dksX0_isStrength_0 4 rfl rfl)
theorem dX0_isStrength_7 : decode cX0_isStrength 7 = .ok (.iload_n 0, 1) := dk_26 (dk_at dksX0_isStrength_0 7 rfl rfl)
theorem dX0_isStrength_8 : decode cX0_isStrength 8 = .ok (.invokestatic 14, 3) := dk_184 0 14 (dk_at dksX0_isStrength_0 8 rfl rfl)
theorem dX0_isStrength_11 : decode cX0_isStrength 11 = .ok (.ldc 26, 2) := dk_18 26 (dk_at dksX0_isStrength_0 11 rfl rfl)
theorem dX0_isStrength_13 : decode cX0_isStrength 13 = .ok (.ldc 27, 2) := dk_18 27 (dk_at dksX0_isStrength_0 13 rfl rfl)
theorem dX0_isStrength_15 : decode cX0_isStrength 15 = .ok (.invokestatic 22, 3) := dk_184 0 22 (dk_at dksX0_isStrength_0 15 rfl rfl)
theorem dX0_isStrength_18 : decode cX0_isStrength 18 = .ok (.ifCond .eq 7, 3) := dk_153 0 7 (dk_at dksX0_isStrength_0 18 rfl rfl)
theorem dX0_isStrength_21 : decode cX0_isStrength 21 = .ok (.iconst 1, 1) := dk_4 (dk_at dksX0_isStrength_0 21 rfl rfl)
theorem dX0_isStrength_22 : decode cX0_isStrength 22 = .ok (.goto 4, 3) := dk_167 0 4 (dk_at dksX0_isStrength_1 0 rfl rfl)
theorem dX0_isStrength_25 : decode cX0_isStrength 25 = .ok (.iconst 0, 1) := dk_3 (dk_at dksX0_isStrength_1 3 rfl rfl)
theorem dX0_isStrength_26 : decode cX0_isStrength 26 = .ok (.ireturn, 1) := dk_172 (dk_at dksX0_isStrength_1 4 rfl rfl)
abbrev cX0_nailLink : ByteArray := prog_1_method_18_code
def yX0_nailLink : MethodName := ⟨RX0, "nailLink", "(IIIIII)I"⟩
def dkwX0_nailLink_1 : List UInt8 := [182, 0, 109, 182, 0, 89, 172]
abbrev dktX0_nailLink_1 : List UInt8 := dkwX0_nailLink_1 ++ []
def dkwX0_nailLink_0 : List UInt8 := [42, 180, 0, 37, 182, 0, 81, 58, 7, 42, 25, 7, 25, 7, 27, 28, 29, 21, 4, 21, 5, 21, 6]
abbrev dktX0_nailLink_0 : List UInt8 := dkwX0_nailLink_0 ++ dktX0_nailLink_1
theorem dksX0_nailLink_0 : cX0_nailLink.data.toList.drop 0 = dktX0_nailLink_0 := by decide +kernel
theorem dksX0_nailLink_1 : cX0_nailLink.data.toList.drop 23 = dktX0_nailLink_1 := dk_seg dksX0_nailLink_0 23 rfl rfl
theorem dX0_nailLink_0 : decode cX0_nailLink 0 = .ok (.aload_n 0, 1) := dk_42 (dk_at dksX0_nailLink_0 0 rfl rfl)
theorem dX0_nailLink_1 : decode cX0_nailLink 1 = .ok (.getfield 37, 3) := dk_180 0 37 (dk_at dksX0_nailLink_0 1 rfl rfl)
theorem dX0_nailLink_4 : decode cX0_nailLink 4 = .ok (.invokevirtual 81, 3) := dk_182 0 81 (dk_at dksX0_nailLink_0 4 rfl rfl)
theorem dX0_nailLink_7 : decode cX0_nailLink 7 = .ok (.astore 7, 2) := dk_58 7 (dk_at dksX0_nailLink_0 7 rfl rfl)
theorem dX0_nailLink_9 : decode cX0_nailLink 9 = .ok (.aload_n 0, 1) := dk_42 (dk_at dksX0_nailLink_0 9 rfl rfl)
theorem dX0_nailLink_10 : decode cX0_nailLink 10 = .ok (.aload 7, 2) := dk_25 7 (dk_at dksX0_nailLink_0 10 rfl rfl)
theorem dX0_nailLink_12 : decode cX0_nailLink 12 = .ok (.aload 7, 2) := dk_25 7 (dk_at dksX0_nailLink_0 12 rfl rfl)
theorem dX0_nailLink_14 : decode cX0_nailLink 14 = .ok (.iload_n 1, 1) := dk_27 (dk_at dksX0_nailLink_0 14 rfl rfl)
theorem dX0_nailLink_15 : decode cX0_nailLink 15 = .ok (.iload_n 2, 1) := dk_28 (dk_at dksX0_nailLink_0 15 rfl rfl)
theorem dX0_nailLink_16 : decode cX0_nailLink 16 = .ok (.iload_n 3, 1) := dk_29 (dk_at dksX0_nailLink_0 16 rfl rfl)
theorem dX0_nailLink_17 : decode cX0_nailLink 17 = .ok (.iload 4, 2) := dk_21 4 (dk_at dksX0_nailLink_0 17 rfl rfl)
theorem dX0_nailLink_19 : decode cX0_nailLink 19 = .ok (.iload 5, 2) := dk_21 5 (dk_at dksX0_nailLink_0 19 rfl rfl)
theorem dX0_nailLink_21 : decode cX0_nailLink 21 = .ok (.iload 6, 2) := dk_21 6 (dk_at dksX0_nailLink_0 21 rfl rfl)
theorem dX0_nailLink_23 : decode cX0_nailLink 23 = .ok (.invokevirtual 109, 3) := dk_182 0 109 (dk_at dksX0_nailLink_1 0 rfl rfl)
theorem dX0_nailLink_26 : decode cX0_nailLink 26 = .ok (.invokevirtual 89, 3) := dk_182 0 89 (dk_at dksX0_nailLink_1 3 rfl rfl)
theorem dX0_nailLink_29 : decode cX0_nailLink 29 = .ok (.ireturn, 1) := dk_172 (dk_at dksX0_nailLink_1 6 rfl rfl)
abbrev cX0_tear : ByteArray := prog_1_method_19_code
def yX0_tear : MethodName := ⟨RX0, "tear", "(I)I"⟩
def dkwX0_tear_3 : List UInt8 := [185, 0, 58, 1, 0, 182, 0, 89, 172]
abbrev dktX0_tear_3 : List UInt8 := dkwX0_tear_3 ++ []
def dkwX0_tear_2 : List UInt8 := [5, 182, 0, 124, 42, 44, 44, 180, 0, 128, 45, 180, 0, 131, 185, 0, 64, 2, 0, 192, 0, 59]
abbrev dktX0_tear_2 : List UInt8 := dkwX0_tear_2 ++ dktX0_tear_3
def dkwX0_tear_1 : List UInt8 := [42, 180, 0, 37, 182, 0, 81, 77, 44, 180, 0, 55, 27, 185, 0, 64, 2, 0, 192, 0, 68, 78, 44, 45]
abbrev dktX0_tear_1 : List UInt8 := dkwX0_tear_1 ++ dktX0_tear_2
def dkwX0_tear_0 : List UInt8 := [42, 27, 182, 0, 113, 154, 0, 5, 2, 172, 42, 27, 182, 0, 116, 182, 0, 120, 154, 0, 6, 16, 251, 172]
abbrev dktX0_tear_0 : List UInt8 := dkwX0_tear_0 ++ dktX0_tear_1
theorem dksX0_tear_0 : cX0_tear.data.toList.drop 0 = dktX0_tear_0 := by decide +kernel
theorem dksX0_tear_1 : cX0_tear.data.toList.drop 24 = dktX0_tear_1 := dk_seg dksX0_tear_0 24 rfl rfl
theorem dksX0_tear_2 : cX0_tear.data.toList.drop 48 = dktX0_tear_2 := dk_seg dksX0_tear_1 24 rfl rfl
theorem dksX0_tear_3 : cX0_tear.data.toList.drop 70 = dktX0_tear_3 := dk_seg dksX0_tear_2 22 rfl rfl
theorem dX0_tear_0 : decode cX0_tear 0 = .ok (.aload_n 0, 1) := dk_42 (dk_at dksX0_tear_0 0 rfl rfl)
theorem dX0_tear_1 : decode cX0_tear 1 = .ok (.iload_n 1, 1) := dk_27 (dk_at dksX0_tear_0 1 rfl rfl)
theorem dX0_tear_2 : decode cX0_tear 2 = .ok (.invokevirtual 113, 3) := dk_182 0 113 (dk_at dksX0_tear_0 2 rfl rfl)
theorem dX0_tear_5 : decode cX0_tear 5 = .ok (.ifCond .ne 5, 3) := dk_154 0 5 (dk_at dksX0_tear_0 5 rfl rfl)
theorem dX0_tear_8 : decode cX0_tear 8 = .ok (.iconst (-1), 1) := dk_2 (dk_at dksX0_tear_0 8 rfl rfl)
theorem dX0_tear_9 : decode cX0_tear 9 = .ok (.ireturn, 1) := dk_172 (dk_at dksX0_tear_0 9 rfl rfl)
theorem dX0_tear_10 : decode cX0_tear 10 = .ok (.aload_n 0, 1) := dk_42 (dk_at dksX0_tear_0 10 rfl rfl)
theorem dX0_tear_11 : decode cX0_tear 11 = .ok (.iload_n 1, 1) := dk_27 (dk_at dksX0_tear_0 11 rfl rfl)
theorem dX0_tear_12 : decode cX0_tear 12 = .ok (.invokevirtual 116, 3) := dk_182 0 116 (dk_at dksX0_tear_0 12 rfl rfl)
theorem dX0_tear_15 : decode cX0_tear 15 = .ok (.invokevirtual 120, 3) := dk_182 0 120 (dk_at dksX0_tear_0 15 rfl rfl)
theorem dX0_tear_18 : decode cX0_tear 18 = .ok (.ifCond .ne 6, 3) := dk_154 0 6 (dk_at dksX0_tear_0 18 rfl rfl)
theorem dX0_tear_21 : decode cX0_tear 21 = .ok (.bipush (-5), 2) := dk_16 251 (dk_at dksX0_tear_0 21 rfl rfl)
theorem dX0_tear_23 : decode cX0_tear 23 = .ok (.ireturn, 1) := dk_172 (dk_at dksX0_tear_0 23 rfl rfl)
theorem dX0_tear_24 : decode cX0_tear 24 = .ok (.aload_n 0, 1) := dk_42 (dk_at dksX0_tear_1 0 rfl rfl)
theorem dX0_tear_25 : decode cX0_tear 25 = .ok (.getfield 37, 3) := dk_180 0 37 (dk_at dksX0_tear_1 1 rfl rfl)
theorem dX0_tear_28 : decode cX0_tear 28 = .ok (.invokevirtual 81, 3) := dk_182 0 81 (dk_at dksX0_tear_1 4 rfl rfl)
theorem dX0_tear_31 : decode cX0_tear 31 = .ok (.astore_n 2, 1) := dk_77 (dk_at dksX0_tear_1 7 rfl rfl)
theorem dX0_tear_32 : decode cX0_tear 32 = .ok (.aload_n 2, 1) := dk_44 (dk_at dksX0_tear_1 8 rfl rfl)
theorem dX0_tear_33 : decode cX0_tear 33 = .ok (.getfield 55, 3) := dk_180 0 55 (dk_at dksX0_tear_1 9 rfl rfl)
theorem dX0_tear_36 : decode cX0_tear 36 = .ok (.iload_n 1, 1) := dk_27 (dk_at dksX0_tear_1 12 rfl rfl)
theorem dX0_tear_37 : decode cX0_tear 37 = .ok (.invokeinterface 64 2, 5) := by decide +kernel
theorem dX0_tear_42 : decode cX0_tear 42 = .ok (.checkcast 68, 3) := dk_192 0 68 (dk_at dksX0_tear_1 18 rfl rfl)
theorem dX0_tear_45 : decode cX0_tear 45 = .ok (.astore_n 3, 1) := dk_78 (dk_at dksX0_tear_1 21 rfl rfl)
theorem dX0_tear_46 : decode cX0_tear 46 = .ok (.aload_n 2, 1) := dk_44 (dk_at dksX0_tear_1 22 rfl rfl)
theorem dX0_tear_47 : decode cX0_tear 47 = .ok (.aload_n 3, 1) := dk_45 (dk_at dksX0_tear_1 23 rfl rfl)
theorem dX0_tear_48 : decode cX0_tear 48 = .ok (.iconst 2, 1) := dk_5 (dk_at dksX0_tear_2 0 rfl rfl)
theorem dX0_tear_49 : decode cX0_tear 49 = .ok (.invokevirtual 124, 3) := dk_182 0 124 (dk_at dksX0_tear_2 1 rfl rfl)
theorem dX0_tear_52 : decode cX0_tear 52 = .ok (.aload_n 0, 1) := dk_42 (dk_at dksX0_tear_2 4 rfl rfl)
theorem dX0_tear_53 : decode cX0_tear 53 = .ok (.aload_n 2, 1) := dk_44 (dk_at dksX0_tear_2 5 rfl rfl)
theorem dX0_tear_54 : decode cX0_tear 54 = .ok (.aload_n 2, 1) := dk_44 (dk_at dksX0_tear_2 6 rfl rfl)
theorem dX0_tear_55 : decode cX0_tear 55 = .ok (.getfield 128, 3) := dk_180 0 128 (dk_at dksX0_tear_2 7 rfl rfl)
theorem dX0_tear_58 : decode cX0_tear 58 = .ok (.aload_n 3, 1) := dk_45 (dk_at dksX0_tear_2 10 rfl rfl)
theorem dX0_tear_59 : decode cX0_tear 59 = .ok (.getfield 131, 3) := dk_180 0 131 (dk_at dksX0_tear_2 11 rfl rfl)
theorem dX0_tear_62 : decode cX0_tear 62 = .ok (.invokeinterface 64 2, 5) := by decide +kernel
theorem dX0_tear_67 : decode cX0_tear 67 = .ok (.checkcast 59, 3) := dk_192 0 59 (dk_at dksX0_tear_2 19 rfl rfl)
theorem dX0_tear_70 : decode cX0_tear 70 = .ok (.invokeinterface 58 1, 5) := by decide +kernel
theorem dX0_tear_75 : decode cX0_tear 75 = .ok (.invokevirtual 89, 3) := dk_182 0 89 (dk_at dksX0_tear_3 5 rfl rfl)
theorem dX0_tear_78 : decode cX0_tear 78 = .ok (.ireturn, 1) := dk_172 (dk_at dksX0_tear_3 8 rfl rfl)
abbrev cX0_isOrder : ByteArray := prog_1_method_11_code
def yX0_isOrder : MethodName := ⟨RX0, "isOrder", "(I)Z"⟩
def dkwX0_isOrder_0 : List UInt8 := [27, 3, 42, 180, 0, 37, 180, 0, 55, 185, 0, 58, 1, 0, 4, 100, 184, 0, 3, 172]
abbrev dktX0_isOrder_0 : List UInt8 := dkwX0_isOrder_0 ++ []
theorem dksX0_isOrder_0 : cX0_isOrder.data.toList.drop 0 = dktX0_isOrder_0 := by decide +kernel
theorem dX0_isOrder_0 : decode cX0_isOrder 0 = .ok (.iload_n 1, 1) := dk_27 (dk_at dksX0_isOrder_0 0 rfl rfl)
theorem dX0_isOrder_1 : decode cX0_isOrder 1 = .ok (.iconst 0, 1) := dk_3 (dk_at dksX0_isOrder_0 1 rfl rfl)
theorem dX0_isOrder_2 : decode cX0_isOrder 2 = .ok (.aload_n 0, 1) := dk_42 (dk_at dksX0_isOrder_0 2 rfl rfl)
theorem dX0_isOrder_3 : decode cX0_isOrder 3 = .ok (.getfield 37, 3) := dk_180 0 37 (dk_at dksX0_isOrder_0 3 rfl rfl)
theorem dX0_isOrder_6 : decode cX0_isOrder 6 = .ok (.getfield 55, 3) := dk_180 0 55 (dk_at dksX0_isOrder_0 6 rfl rfl)
theorem dX0_isOrder_9 : decode cX0_isOrder 9 = .ok (.invokeinterface 58 1, 5) := by decide +kernel
theorem dX0_isOrder_14 : decode cX0_isOrder 14 = .ok (.iconst 1, 1) := dk_4 (dk_at dksX0_isOrder_0 14 rfl rfl)
theorem dX0_isOrder_15 : decode cX0_isOrder 15 = .ok (.isub, 1) := dk_100 (dk_at dksX0_isOrder_0 15 rfl rfl)
theorem dX0_isOrder_16 : decode cX0_isOrder 16 = .ok (.invokestatic 3, 3) := dk_184 0 3 (dk_at dksX0_isOrder_0 16 rfl rfl)
theorem dX0_isOrder_19 : decode cX0_isOrder 19 = .ok (.ireturn, 1) := dk_172 (dk_at dksX0_isOrder_0 19 rfl rfl)
abbrev cX0_orderOf : ByteArray := prog_1_method_12_code
def yX0_orderOf : MethodName := ⟨RX0, "orderOf", "(I)LNailedOrders$Order;"⟩
def dkwX0_orderOf_0 : List UInt8 := [42, 180, 0, 37, 180, 0, 55, 27, 185, 0, 64, 2, 0, 192, 0, 68, 176]
abbrev dktX0_orderOf_0 : List UInt8 := dkwX0_orderOf_0 ++ []
theorem dksX0_orderOf_0 : cX0_orderOf.data.toList.drop 0 = dktX0_orderOf_0 := by decide +kernel
theorem dX0_orderOf_0 : decode cX0_orderOf 0 = .ok (.aload_n 0, 1) := dk_42 (dk_at dksX0_orderOf_0 0 rfl rfl)
theorem dX0_orderOf_1 : decode cX0_orderOf 1 = .ok (.getfield 37, 3) := dk_180 0 37 (dk_at dksX0_orderOf_0 1 rfl rfl)
theorem dX0_orderOf_4 : decode cX0_orderOf 4 = .ok (.getfield 55, 3) := dk_180 0 55 (dk_at dksX0_orderOf_0 4 rfl rfl)
theorem dX0_orderOf_7 : decode cX0_orderOf 7 = .ok (.iload_n 1, 1) := dk_27 (dk_at dksX0_orderOf_0 7 rfl rfl)
theorem dX0_orderOf_8 : decode cX0_orderOf 8 = .ok (.invokeinterface 64 2, 5) := by decide +kernel
theorem dX0_orderOf_13 : decode cX0_orderOf 13 = .ok (.checkcast 68, 3) := dk_192 0 68 (dk_at dksX0_orderOf_0 13 rfl rfl)
theorem dX0_orderOf_16 : decode cX0_orderOf 16 = .ok (.areturn, 1) := dk_176 (dk_at dksX0_orderOf_0 16 rfl rfl)
abbrev cX0_hammer : ByteArray := prog_1_method_20_code
def yX0_hammer : MethodName := ⟨RX0, "hammer", "(I)I"⟩
def dkwX0_hammer_3 : List UInt8 := [182, 0, 89, 172]
abbrev dktX0_hammer_3 : List UInt8 := dkwX0_hammer_3 ++ []
def dkwX0_hammer_2 : List UInt8 := [180, 0, 134, 18, 27, 45, 180, 0, 134, 102, 18, 137, 106, 98, 181, 0, 134, 42, 44, 45, 182, 0, 138]
abbrev dktX0_hammer_2 : List UInt8 := dkwX0_hammer_2 ++ dktX0_hammer_3
def dkwX0_hammer_1 : List UInt8 := [42, 180, 0, 37, 182, 0, 81, 77, 44, 180, 0, 55, 27, 185, 0, 64, 2, 0, 192, 0, 68, 78, 45, 45]
abbrev dktX0_hammer_1 : List UInt8 := dkwX0_hammer_1 ++ dktX0_hammer_2
def dkwX0_hammer_0 : List UInt8 := [42, 27, 182, 0, 113, 154, 0, 5, 2, 172, 42, 27, 182, 0, 116, 182, 0, 120, 154, 0, 6, 16, 252, 172]
abbrev dktX0_hammer_0 : List UInt8 := dkwX0_hammer_0 ++ dktX0_hammer_1
theorem dksX0_hammer_0 : cX0_hammer.data.toList.drop 0 = dktX0_hammer_0 := by decide +kernel
theorem dksX0_hammer_1 : cX0_hammer.data.toList.drop 24 = dktX0_hammer_1 := dk_seg dksX0_hammer_0 24 rfl rfl
theorem dksX0_hammer_2 : cX0_hammer.data.toList.drop 48 = dktX0_hammer_2 := dk_seg dksX0_hammer_1 24 rfl rfl
theorem dksX0_hammer_3 : cX0_hammer.data.toList.drop 71 = dktX0_hammer_3 := dk_seg dksX0_hammer_2 23 rfl rfl
theorem dX0_hammer_0 : decode cX0_hammer 0 = .ok (.aload_n 0, 1) := dk_42 (dk_at dksX0_hammer_0 0 rfl rfl)
theorem dX0_hammer_1 : decode cX0_hammer 1 = .ok (.iload_n 1, 1) := dk_27 (dk_at dksX0_hammer_0 1 rfl rfl)
theorem dX0_hammer_2 : decode cX0_hammer 2 = .ok (.invokevirtual 113, 3) := dk_182 0 113 (dk_at dksX0_hammer_0 2 rfl rfl)
theorem dX0_hammer_5 : decode cX0_hammer 5 = .ok (.ifCond .ne 5, 3) := dk_154 0 5 (dk_at dksX0_hammer_0 5 rfl rfl)
theorem dX0_hammer_8 : decode cX0_hammer 8 = .ok (.iconst (-1), 1) := dk_2 (dk_at dksX0_hammer_0 8 rfl rfl)
theorem dX0_hammer_9 : decode cX0_hammer 9 = .ok (.ireturn, 1) := dk_172 (dk_at dksX0_hammer_0 9 rfl rfl)
theorem dX0_hammer_10 : decode cX0_hammer 10 = .ok (.aload_n 0, 1) := dk_42 (dk_at dksX0_hammer_0 10 rfl rfl)
theorem dX0_hammer_11 : decode cX0_hammer 11 = .ok (.iload_n 1, 1) := dk_27 (dk_at dksX0_hammer_0 11 rfl rfl)
theorem dX0_hammer_12 : decode cX0_hammer 12 = .ok (.invokevirtual 116, 3) := dk_182 0 116 (dk_at dksX0_hammer_0 12 rfl rfl)
theorem dX0_hammer_15 : decode cX0_hammer 15 = .ok (.invokevirtual 120, 3) := dk_182 0 120 (dk_at dksX0_hammer_0 15 rfl rfl)
theorem dX0_hammer_18 : decode cX0_hammer 18 = .ok (.ifCond .ne 6, 3) := dk_154 0 6 (dk_at dksX0_hammer_0 18 rfl rfl)
theorem dX0_hammer_21 : decode cX0_hammer 21 = .ok (.bipush (-4), 2) := dk_16 252 (dk_at dksX0_hammer_0 21 rfl rfl)
theorem dX0_hammer_23 : decode cX0_hammer 23 = .ok (.ireturn, 1) := dk_172 (dk_at dksX0_hammer_0 23 rfl rfl)
theorem dX0_hammer_24 : decode cX0_hammer 24 = .ok (.aload_n 0, 1) := dk_42 (dk_at dksX0_hammer_1 0 rfl rfl)
theorem dX0_hammer_25 : decode cX0_hammer 25 = .ok (.getfield 37, 3) := dk_180 0 37 (dk_at dksX0_hammer_1 1 rfl rfl)
theorem dX0_hammer_28 : decode cX0_hammer 28 = .ok (.invokevirtual 81, 3) := dk_182 0 81 (dk_at dksX0_hammer_1 4 rfl rfl)
theorem dX0_hammer_31 : decode cX0_hammer 31 = .ok (.astore_n 2, 1) := dk_77 (dk_at dksX0_hammer_1 7 rfl rfl)
theorem dX0_hammer_32 : decode cX0_hammer 32 = .ok (.aload_n 2, 1) := dk_44 (dk_at dksX0_hammer_1 8 rfl rfl)
theorem dX0_hammer_33 : decode cX0_hammer 33 = .ok (.getfield 55, 3) := dk_180 0 55 (dk_at dksX0_hammer_1 9 rfl rfl)
theorem dX0_hammer_36 : decode cX0_hammer 36 = .ok (.iload_n 1, 1) := dk_27 (dk_at dksX0_hammer_1 12 rfl rfl)
theorem dX0_hammer_37 : decode cX0_hammer 37 = .ok (.invokeinterface 64 2, 5) := by decide +kernel
theorem dX0_hammer_42 : decode cX0_hammer 42 = .ok (.checkcast 68, 3) := dk_192 0 68 (dk_at dksX0_hammer_1 18 rfl rfl)
theorem dX0_hammer_45 : decode cX0_hammer 45 = .ok (.astore_n 3, 1) := dk_78 (dk_at dksX0_hammer_1 21 rfl rfl)
theorem dX0_hammer_46 : decode cX0_hammer 46 = .ok (.aload_n 3, 1) := dk_45 (dk_at dksX0_hammer_1 22 rfl rfl)
theorem dX0_hammer_47 : decode cX0_hammer 47 = .ok (.aload_n 3, 1) := dk_45 (dk_at dksX0_hammer_1 23 rfl rfl)
theorem dX0_hammer_48 : decode cX0_hammer 48 = .ok (.getfield 134, 3) := dk_180 0 134 (dk_at dksX0_hammer_2 0 rfl rfl)
theorem dX0_hammer_51 : decode cX0_hammer 51 = .ok (.ldc 27, 2) := dk_18 27 (dk_at dksX0_hammer_2 3 rfl rfl)
theorem dX0_hammer_53 : decode cX0_hammer 53 = .ok (.aload_n 3, 1) := dk_45 (dk_at dksX0_hammer_2 5 rfl rfl)
theorem dX0_hammer_54 : decode cX0_hammer 54 = .ok (.getfield 134, 3) := dk_180 0 134 (dk_at dksX0_hammer_2 6 rfl rfl)
theorem dX0_hammer_57 : decode cX0_hammer 57 = .ok (.fsub, 1) := dk_102 (dk_at dksX0_hammer_2 9 rfl rfl)
theorem dX0_hammer_58 : decode cX0_hammer 58 = .ok (.ldc 137, 2) := dk_18 137 (dk_at dksX0_hammer_2 10 rfl rfl)
theorem dX0_hammer_60 : decode cX0_hammer 60 = .ok (.fmul, 1) := dk_106 (dk_at dksX0_hammer_2 12 rfl rfl)
theorem dX0_hammer_61 : decode cX0_hammer 61 = .ok (.fadd, 1) := dk_98 (dk_at dksX0_hammer_2 13 rfl rfl)
theorem dX0_hammer_62 : decode cX0_hammer 62 = .ok (.putfield 134, 3) := dk_181 0 134 (dk_at dksX0_hammer_2 14 rfl rfl)
theorem dX0_hammer_65 : decode cX0_hammer 65 = .ok (.aload_n 0, 1) := dk_42 (dk_at dksX0_hammer_2 17 rfl rfl)
theorem dX0_hammer_66 : decode cX0_hammer 66 = .ok (.aload_n 2, 1) := dk_44 (dk_at dksX0_hammer_2 18 rfl rfl)
theorem dX0_hammer_67 : decode cX0_hammer 67 = .ok (.aload_n 3, 1) := dk_45 (dk_at dksX0_hammer_2 19 rfl rfl)
theorem dX0_hammer_68 : decode cX0_hammer 68 = .ok (.invokevirtual 138, 3) := dk_182 0 138 (dk_at dksX0_hammer_2 20 rfl rfl)
theorem dX0_hammer_71 : decode cX0_hammer 71 = .ok (.invokevirtual 89, 3) := dk_182 0 89 (dk_at dksX0_hammer_3 0 rfl rfl)
theorem dX0_hammer_74 : decode cX0_hammer 74 = .ok (.ireturn, 1) := dk_172 (dk_at dksX0_hammer_3 3 rfl rfl)
abbrev cX0_storm : ByteArray := prog_1_method_21_code
def yX0_storm : MethodName := ⟨RX0, "storm", "(I)I"⟩
def dkwX0_storm_1 : List UInt8 := [184, 0, 14, 182, 0, 144, 182, 0, 89, 172]
abbrev dktX0_storm_1 : List UInt8 := dkwX0_storm_1 ++ []
def dkwX0_storm_0 : List UInt8 := [27, 184, 0, 141, 154, 0, 6, 16, 254, 172, 42, 180, 0, 37, 182, 0, 81, 77, 42, 44, 44, 27]
abbrev dktX0_storm_0 : List UInt8 := dkwX0_storm_0 ++ dktX0_storm_1
theorem dksX0_storm_0 : cX0_storm.data.toList.drop 0 = dktX0_storm_0 := by decide +kernel
theorem dksX0_storm_1 : cX0_storm.data.toList.drop 22 = dktX0_storm_1 := dk_seg dksX0_storm_0 22 rfl rfl
theorem dX0_storm_0 : decode cX0_storm 0 = .ok (.iload_n 1, 1) := dk_27 (dk_at dksX0_storm_0 0 rfl rfl)
theorem dX0_storm_1 : decode cX0_storm 1 = .ok (.invokestatic 141, 3) := dk_184 0 141 (dk_at dksX0_storm_0 1 rfl rfl)
theorem dX0_storm_4 : decode cX0_storm 4 = .ok (.ifCond .ne 6, 3) := dk_154 0 6 (dk_at dksX0_storm_0 4 rfl rfl)
theorem dX0_storm_7 : decode cX0_storm 7 = .ok (.bipush (-2), 2) := dk_16 254 (dk_at dksX0_storm_0 7 rfl rfl)
theorem dX0_storm_9 : decode cX0_storm 9 = .ok (.ireturn, 1) := dk_172 (dk_at dksX0_storm_0 9 rfl rfl)
theorem dX0_storm_10 : decode cX0_storm 10 = .ok (.aload_n 0, 1) := dk_42 (dk_at dksX0_storm_0 10 rfl rfl)
theorem dX0_storm_11 : decode cX0_storm 11 = .ok (.getfield 37, 3) := dk_180 0 37 (dk_at dksX0_storm_0 11 rfl rfl)
theorem dX0_storm_14 : decode cX0_storm 14 = .ok (.invokevirtual 81, 3) := dk_182 0 81 (dk_at dksX0_storm_0 14 rfl rfl)
theorem dX0_storm_17 : decode cX0_storm 17 = .ok (.astore_n 2, 1) := dk_77 (dk_at dksX0_storm_0 17 rfl rfl)
theorem dX0_storm_18 : decode cX0_storm 18 = .ok (.aload_n 0, 1) := dk_42 (dk_at dksX0_storm_0 18 rfl rfl)
theorem dX0_storm_19 : decode cX0_storm 19 = .ok (.aload_n 2, 1) := dk_44 (dk_at dksX0_storm_0 19 rfl rfl)
theorem dX0_storm_20 : decode cX0_storm 20 = .ok (.aload_n 2, 1) := dk_44 (dk_at dksX0_storm_0 20 rfl rfl)
theorem dX0_storm_21 : decode cX0_storm 21 = .ok (.iload_n 1, 1) := dk_27 (dk_at dksX0_storm_0 21 rfl rfl)
theorem dX0_storm_22 : decode cX0_storm 22 = .ok (.invokestatic 14, 3) := dk_184 0 14 (dk_at dksX0_storm_1 0 rfl rfl)
theorem dX0_storm_25 : decode cX0_storm 25 = .ok (.invokevirtual 144, 3) := dk_182 0 144 (dk_at dksX0_storm_1 3 rfl rfl)
theorem dX0_storm_28 : decode cX0_storm 28 = .ok (.invokevirtual 89, 3) := dk_182 0 89 (dk_at dksX0_storm_1 6 rfl rfl)
theorem dX0_storm_31 : decode cX0_storm 31 = .ok (.ireturn, 1) := dk_172 (dk_at dksX0_storm_1 9 rfl rfl)
abbrev cX0_type : ByteArray := prog_1_method_22_code
def yX0_type : MethodName := ⟨RX0, "type", "(C)I"⟩
def dkwX0_type_1 : List UInt8 := [42, 180, 0, 51, 182, 0, 147, 172]
abbrev dktX0_type_1 : List UInt8 := dkwX0_type_1 ++ []
def dkwX0_type_0 : List UInt8 := [42, 180, 0, 51, 182, 0, 147, 16, 60, 160, 0, 6, 16, 253, 172, 42, 180, 0, 51, 27, 182, 0, 150, 87]
abbrev dktX0_type_0 : List UInt8 := dkwX0_type_0 ++ dktX0_type_1
theorem dksX0_type_0 : cX0_type.data.toList.drop 0 = dktX0_type_0 := by decide +kernel
theorem dksX0_type_1 : cX0_type.data.toList.drop 24 = dktX0_type_1 := dk_seg dksX0_type_0 24 rfl rfl
theorem dX0_type_0 : decode cX0_type 0 = .ok (.aload_n 0, 1) := dk_42 (dk_at dksX0_type_0 0 rfl rfl)
theorem dX0_type_1 : decode cX0_type 1 = .ok (.getfield 51, 3) := dk_180 0 51 (dk_at dksX0_type_0 1 rfl rfl)
theorem dX0_type_4 : decode cX0_type 4 = .ok (.invokevirtual 147, 3) := dk_182 0 147 (dk_at dksX0_type_0 4 rfl rfl)
theorem dX0_type_7 : decode cX0_type 7 = .ok (.bipush 60, 2) := dk_16 60 (dk_at dksX0_type_0 7 rfl rfl)
theorem dX0_type_9 : decode cX0_type 9 = .ok (.if_icmp .ne 6, 3) := dk_160 0 6 (dk_at dksX0_type_0 9 rfl rfl)
theorem dX0_type_12 : decode cX0_type 12 = .ok (.bipush (-3), 2) := dk_16 253 (dk_at dksX0_type_0 12 rfl rfl)
theorem dX0_type_14 : decode cX0_type 14 = .ok (.ireturn, 1) := dk_172 (dk_at dksX0_type_0 14 rfl rfl)
theorem dX0_type_15 : decode cX0_type 15 = .ok (.aload_n 0, 1) := dk_42 (dk_at dksX0_type_0 15 rfl rfl)
theorem dX0_type_16 : decode cX0_type 16 = .ok (.getfield 51, 3) := dk_180 0 51 (dk_at dksX0_type_0 16 rfl rfl)
theorem dX0_type_19 : decode cX0_type 19 = .ok (.iload_n 1, 1) := dk_27 (dk_at dksX0_type_0 19 rfl rfl)
theorem dX0_type_20 : decode cX0_type 20 = .ok (.invokevirtual 150, 3) := dk_182 0 150 (dk_at dksX0_type_0 20 rfl rfl)
theorem dX0_type_23 : decode cX0_type 23 = .ok (.pop, 1) := dk_87 (dk_at dksX0_type_0 23 rfl rfl)
theorem dX0_type_24 : decode cX0_type 24 = .ok (.aload_n 0, 1) := dk_42 (dk_at dksX0_type_1 0 rfl rfl)
theorem dX0_type_25 : decode cX0_type 25 = .ok (.getfield 51, 3) := dk_180 0 51 (dk_at dksX0_type_1 1 rfl rfl)
theorem dX0_type_28 : decode cX0_type 28 = .ok (.invokevirtual 147, 3) := dk_182 0 147 (dk_at dksX0_type_1 4 rfl rfl)
theorem dX0_type_31 : decode cX0_type 31 = .ok (.ireturn, 1) := dk_172 (dk_at dksX0_type_1 7 rfl rfl)
abbrev cX0_clearText : ByteArray := prog_1_method_23_code
def yX0_clearText : MethodName := ⟨RX0, "clearText", "()I"⟩
def dkwX0_clearText_0 : List UInt8 := [42, 180, 0, 51, 182, 0, 147, 60, 42, 180, 0, 51, 3, 182, 0, 154, 27, 172]
abbrev dktX0_clearText_0 : List UInt8 := dkwX0_clearText_0 ++ []
theorem dksX0_clearText_0 : cX0_clearText.data.toList.drop 0 = dktX0_clearText_0 := by decide +kernel
theorem dX0_clearText_0 : decode cX0_clearText 0 = .ok (.aload_n 0, 1) := dk_42 (dk_at dksX0_clearText_0 0 rfl rfl)
theorem dX0_clearText_1 : decode cX0_clearText 1 = .ok (.getfield 51, 3) := dk_180 0 51 (dk_at dksX0_clearText_0 1 rfl rfl)
theorem dX0_clearText_4 : decode cX0_clearText 4 = .ok (.invokevirtual 147, 3) := dk_182 0 147 (dk_at dksX0_clearText_0 4 rfl rfl)
theorem dX0_clearText_7 : decode cX0_clearText 7 = .ok (.istore_n 1, 1) := dk_60 (dk_at dksX0_clearText_0 7 rfl rfl)
theorem dX0_clearText_8 : decode cX0_clearText 8 = .ok (.aload_n 0, 1) := dk_42 (dk_at dksX0_clearText_0 8 rfl rfl)
theorem dX0_clearText_9 : decode cX0_clearText 9 = .ok (.getfield 51, 3) := dk_180 0 51 (dk_at dksX0_clearText_0 9 rfl rfl)
theorem dX0_clearText_12 : decode cX0_clearText 12 = .ok (.iconst 0, 1) := dk_3 (dk_at dksX0_clearText_0 12 rfl rfl)
theorem dX0_clearText_13 : decode cX0_clearText 13 = .ok (.invokevirtual 154, 3) := dk_182 0 154 (dk_at dksX0_clearText_0 13 rfl rfl)
theorem dX0_clearText_16 : decode cX0_clearText 16 = .ok (.iload_n 1, 1) := dk_27 (dk_at dksX0_clearText_0 16 rfl rfl)
theorem dX0_clearText_17 : decode cX0_clearText 17 = .ok (.ireturn, 1) := dk_172 (dk_at dksX0_clearText_0 17 rfl rfl)
abbrev cX0_readOrders : ByteArray := prog_1_method_24_code
def yX0_readOrders : MethodName := ⟨RX0, "readOrders", "(II)I"⟩
def dkwX0_readOrders_5 : List UInt8 := [185, 0, 58, 1, 0, 182, 0, 89, 172]
abbrev dktX0_readOrders_5 : List UInt8 := dkwX0_readOrders_5 ++ []
def dkwX0_readOrders_4 : List UInt8 := [182, 0, 173, 54, 6, 21, 6, 156, 0, 6, 21, 6, 172, 132, 5, 1, 167, 255, 214, 42, 25, 4, 45]
abbrev dktX0_readOrders_4 : List UInt8 := dkwX0_readOrders_4 ++ dktX0_readOrders_5
def dkwX0_readOrders_3 : List UInt8 := [185, 0, 58, 1, 0, 162, 0, 37, 45, 21, 5, 185, 0, 64, 2, 0, 192, 0, 171, 25, 4, 27, 28]
abbrev dktX0_readOrders_3 : List UInt8 := dkwX0_readOrders_3 ++ dktX0_readOrders_4
def dkwX0_readOrders_2 : List UInt8 := [180, 0, 168, 100, 172, 42, 180, 0, 37, 182, 0, 81, 58, 4, 3, 54, 5, 21, 5, 45]
abbrev dktX0_readOrders_2 : List UInt8 := dkwX0_readOrders_2 ++ dktX0_readOrders_3
def dkwX0_readOrders_1 : List UInt8 := [187, 0, 158, 89, 42, 180, 0, 51, 183, 0, 160, 182, 0, 163, 78, 167, 0, 14, 58, 4, 16, 156, 25, 4]
abbrev dktX0_readOrders_1 : List UInt8 := dkwX0_readOrders_1 ++ dktX0_readOrders_2
def dkwX0_readOrders_0 : List UInt8 := [42, 180, 0, 37, 27, 182, 0, 93, 154, 0, 5, 2, 172, 28, 184, 0, 141, 154, 0, 6, 16, 254, 172]
abbrev dktX0_readOrders_0 : List UInt8 := dkwX0_readOrders_0 ++ dktX0_readOrders_1
theorem dksX0_readOrders_0 : cX0_readOrders.data.toList.drop 0 = dktX0_readOrders_0 := by decide +kernel
theorem dksX0_readOrders_1 : cX0_readOrders.data.toList.drop 23 = dktX0_readOrders_1 := dk_seg dksX0_readOrders_0 23 rfl rfl
theorem dksX0_readOrders_2 : cX0_readOrders.data.toList.drop 47 = dktX0_readOrders_2 := dk_seg dksX0_readOrders_1 24 rfl rfl
theorem dksX0_readOrders_3 : cX0_readOrders.data.toList.drop 67 = dktX0_readOrders_3 := dk_seg dksX0_readOrders_2 20 rfl rfl
theorem dksX0_readOrders_4 : cX0_readOrders.data.toList.drop 90 = dktX0_readOrders_4 := dk_seg dksX0_readOrders_3 23 rfl rfl
theorem dksX0_readOrders_5 : cX0_readOrders.data.toList.drop 113 = dktX0_readOrders_5 := dk_seg dksX0_readOrders_4 23 rfl rfl
theorem dX0_readOrders_0 : decode cX0_readOrders 0 = .ok (.aload_n 0, 1) := dk_42 (dk_at dksX0_readOrders_0 0 rfl rfl)
theorem dX0_readOrders_1 : decode cX0_readOrders 1 = .ok (.getfield 37, 3) := dk_180 0 37 (dk_at dksX0_readOrders_0 1 rfl rfl)
theorem dX0_readOrders_4 : decode cX0_readOrders 4 = .ok (.iload_n 1, 1) := dk_27 (dk_at dksX0_readOrders_0 4 rfl rfl)
theorem dX0_readOrders_5 : decode cX0_readOrders 5 = .ok (.invokevirtual 93, 3) := dk_182 0 93 (dk_at dksX0_readOrders_0 5 rfl rfl)
theorem dX0_readOrders_8 : decode cX0_readOrders 8 = .ok (.ifCond .ne 5, 3) := dk_154 0 5 (dk_at dksX0_readOrders_0 8 rfl rfl)
theorem dX0_readOrders_11 : decode cX0_readOrders 11 = .ok (.iconst (-1), 1) := dk_2 (dk_at dksX0_readOrders_0 11 rfl rfl)
theorem dX0_readOrders_12 : decode cX0_readOrders 12 = .ok (.ireturn, 1) := dk_172 (dk_at dksX0_readOrders_0 12 rfl rfl)
theorem dX0_readOrders_13 : decode cX0_readOrders 13 = .ok (.iload_n 2, 1) := dk_28 (dk_at dksX0_readOrders_0 13 rfl rfl)
theorem dX0_readOrders_14 : decode cX0_readOrders 14 = .ok (.invokestatic 141, 3) := dk_184 0 141 (dk_at dksX0_readOrders_0 14 rfl rfl)
theorem dX0_readOrders_17 : decode cX0_readOrders 17 = .ok (.ifCond .ne 6, 3) := dk_154 0 6 (dk_at dksX0_readOrders_0 17 rfl rfl)
theorem dX0_readOrders_20 : decode cX0_readOrders 20 = .ok (.bipush (-2), 2) := dk_16 254 (dk_at dksX0_readOrders_0 20 rfl rfl)
theorem dX0_readOrders_22 : decode cX0_readOrders 22 = .ok (.ireturn, 1) := dk_172 (dk_at dksX0_readOrders_0 22 rfl rfl)
theorem dX0_readOrders_23 : decode cX0_readOrders 23 = .ok (.new 158, 3) := dk_187 0 158 (dk_at dksX0_readOrders_1 0 rfl rfl)
theorem dX0_readOrders_26 : decode cX0_readOrders 26 = .ok (.dup, 1) := dk_89 (dk_at dksX0_readOrders_1 3 rfl rfl)
theorem dX0_readOrders_27 : decode cX0_readOrders 27 = .ok (.aload_n 0, 1) := dk_42 (dk_at dksX0_readOrders_1 4 rfl rfl)
theorem dX0_readOrders_28 : decode cX0_readOrders 28 = .ok (.getfield 51, 3) := dk_180 0 51 (dk_at dksX0_readOrders_1 5 rfl rfl)
theorem dX0_readOrders_31 : decode cX0_readOrders 31 = .ok (.invokespecial 160, 3) := dk_183 0 160 (dk_at dksX0_readOrders_1 8 rfl rfl)
theorem dX0_readOrders_34 : decode cX0_readOrders 34 = .ok (.invokevirtual 163, 3) := dk_182 0 163 (dk_at dksX0_readOrders_1 11 rfl rfl)
theorem dX0_readOrders_37 : decode cX0_readOrders 37 = .ok (.astore_n 3, 1) := dk_78 (dk_at dksX0_readOrders_1 14 rfl rfl)
theorem dX0_readOrders_38 : decode cX0_readOrders 38 = .ok (.goto 14, 3) := dk_167 0 14 (dk_at dksX0_readOrders_1 15 rfl rfl)
theorem dX0_readOrders_41 : decode cX0_readOrders 41 = .ok (.astore 4, 2) := dk_58 4 (dk_at dksX0_readOrders_1 18 rfl rfl)
theorem dX0_readOrders_43 : decode cX0_readOrders 43 = .ok (.bipush (-100), 2) := dk_16 156 (dk_at dksX0_readOrders_1 20 rfl rfl)
theorem dX0_readOrders_45 : decode cX0_readOrders 45 = .ok (.aload 4, 2) := dk_25 4 (dk_at dksX0_readOrders_1 22 rfl rfl)
theorem dX0_readOrders_47 : decode cX0_readOrders 47 = .ok (.getfield 168, 3) := dk_180 0 168 (dk_at dksX0_readOrders_2 0 rfl rfl)
theorem dX0_readOrders_50 : decode cX0_readOrders 50 = .ok (.isub, 1) := dk_100 (dk_at dksX0_readOrders_2 3 rfl rfl)
theorem dX0_readOrders_51 : decode cX0_readOrders 51 = .ok (.ireturn, 1) := dk_172 (dk_at dksX0_readOrders_2 4 rfl rfl)
theorem dX0_readOrders_52 : decode cX0_readOrders 52 = .ok (.aload_n 0, 1) := dk_42 (dk_at dksX0_readOrders_2 5 rfl rfl)
theorem dX0_readOrders_53 : decode cX0_readOrders 53 = .ok (.getfield 37, 3) := dk_180 0 37 (dk_at dksX0_readOrders_2 6 rfl rfl)
theorem dX0_readOrders_56 : decode cX0_readOrders 56 = .ok (.invokevirtual 81, 3) := dk_182 0 81 (dk_at dksX0_readOrders_2 9 rfl rfl)
theorem dX0_readOrders_59 : decode cX0_readOrders 59 = .ok (.astore 4, 2) := dk_58 4 (dk_at dksX0_readOrders_2 12 rfl rfl)
theorem dX0_readOrders_61 : decode cX0_readOrders 61 = .ok (.iconst 0, 1) := dk_3 (dk_at dksX0_readOrders_2 14 rfl rfl)
theorem dX0_readOrders_62 : decode cX0_readOrders 62 = .ok (.istore 5, 2) := dk_54 5 (dk_at dksX0_readOrders_2 15 rfl rfl)
theorem dX0_readOrders_64 : decode cX0_readOrders 64 = .ok (.iload 5, 2) := dk_21 5 (dk_at dksX0_readOrders_2 17 rfl rfl)
theorem dX0_readOrders_66 : decode cX0_readOrders 66 = .ok (.aload_n 3, 1) := dk_45 (dk_at dksX0_readOrders_2 19 rfl rfl)
theorem dX0_readOrders_67 : decode cX0_readOrders 67 = .ok (.invokeinterface 58 1, 5) := by decide +kernel
theorem dX0_readOrders_72 : decode cX0_readOrders 72 = .ok (.if_icmp .ge 37, 3) := dk_162 0 37 (dk_at dksX0_readOrders_3 5 rfl rfl)
theorem dX0_readOrders_75 : decode cX0_readOrders 75 = .ok (.aload_n 3, 1) := dk_45 (dk_at dksX0_readOrders_3 8 rfl rfl)
theorem dX0_readOrders_76 : decode cX0_readOrders 76 = .ok (.iload 5, 2) := dk_21 5 (dk_at dksX0_readOrders_3 9 rfl rfl)
theorem dX0_readOrders_78 : decode cX0_readOrders 78 = .ok (.invokeinterface 64 2, 5) := by decide +kernel
theorem dX0_readOrders_83 : decode cX0_readOrders 83 = .ok (.checkcast 171, 3) := dk_192 0 171 (dk_at dksX0_readOrders_3 16 rfl rfl)
theorem dX0_readOrders_86 : decode cX0_readOrders 86 = .ok (.aload 4, 2) := dk_25 4 (dk_at dksX0_readOrders_3 19 rfl rfl)
theorem dX0_readOrders_88 : decode cX0_readOrders 88 = .ok (.iload_n 1, 1) := dk_27 (dk_at dksX0_readOrders_3 21 rfl rfl)
theorem dX0_readOrders_89 : decode cX0_readOrders 89 = .ok (.iload_n 2, 1) := dk_28 (dk_at dksX0_readOrders_3 22 rfl rfl)
theorem dX0_readOrders_90 : decode cX0_readOrders 90 = .ok (.invokevirtual 173, 3) := dk_182 0 173 (dk_at dksX0_readOrders_4 0 rfl rfl)
theorem dX0_readOrders_93 : decode cX0_readOrders 93 = .ok (.istore 6, 2) := dk_54 6 (dk_at dksX0_readOrders_4 3 rfl rfl)
theorem dX0_readOrders_95 : decode cX0_readOrders 95 = .ok (.iload 6, 2) := dk_21 6 (dk_at dksX0_readOrders_4 5 rfl rfl)
theorem dX0_readOrders_97 : decode cX0_readOrders 97 = .ok (.ifCond .ge 6, 3) := dk_156 0 6 (dk_at dksX0_readOrders_4 7 rfl rfl)
theorem dX0_readOrders_100 : decode cX0_readOrders 100 = .ok (.iload 6, 2) := dk_21 6 (dk_at dksX0_readOrders_4 10 rfl rfl)
theorem dX0_readOrders_102 : decode cX0_readOrders 102 = .ok (.ireturn, 1) := dk_172 (dk_at dksX0_readOrders_4 12 rfl rfl)
theorem dX0_readOrders_103 : decode cX0_readOrders 103 = .ok (.iinc 5 1, 3) := dk_132 5 1 (dk_at dksX0_readOrders_4 13 rfl rfl)
theorem dX0_readOrders_106 : decode cX0_readOrders 106 = .ok (.goto (-42), 3) := dk_167 255 214 (dk_at dksX0_readOrders_4 16 rfl rfl)
theorem dX0_readOrders_109 : decode cX0_readOrders 109 = .ok (.aload_n 0, 1) := dk_42 (dk_at dksX0_readOrders_4 19 rfl rfl)
theorem dX0_readOrders_110 : decode cX0_readOrders 110 = .ok (.aload 4, 2) := dk_25 4 (dk_at dksX0_readOrders_4 20 rfl rfl)
theorem dX0_readOrders_112 : decode cX0_readOrders 112 = .ok (.aload_n 3, 1) := dk_45 (dk_at dksX0_readOrders_4 22 rfl rfl)
theorem dX0_readOrders_113 : decode cX0_readOrders 113 = .ok (.invokeinterface 58 1, 5) := by decide +kernel
theorem dX0_readOrders_118 : decode cX0_readOrders 118 = .ok (.invokevirtual 89, 3) := dk_182 0 89 (dk_at dksX0_readOrders_5 5 rfl rfl)
theorem dX0_readOrders_121 : decode cX0_readOrders 121 = .ok (.ireturn, 1) := dk_172 (dk_at dksX0_readOrders_5 8 rfl rfl)
abbrev cX0_undo : ByteArray := prog_1_method_25_code
def yX0_undo : MethodName := ⟨RX0, "undo", "()I"⟩
def dkwX0_undo_2 : List UInt8 := [185, 0, 58, 1, 0, 172]
abbrev dktX0_undo_2 : List UInt8 := dkwX0_undo_2 ++ []
def dkwX0_undo_1 : List UInt8 := [185, 0, 58, 1, 0, 4, 100, 185, 0, 70, 2, 0, 192, 0, 34, 181, 0, 37, 42, 180, 0, 44]
abbrev dktX0_undo_1 : List UInt8 := dkwX0_undo_1 ++ dktX0_undo_2
def dkwX0_undo_0 : List UInt8 := [42, 180, 0, 44, 185, 0, 176, 1, 0, 153, 0, 6, 16, 251, 172, 42, 42, 180, 0, 44, 42, 180, 0, 44]
abbrev dktX0_undo_0 : List UInt8 := dkwX0_undo_0 ++ dktX0_undo_1
theorem dksX0_undo_0 : cX0_undo.data.toList.drop 0 = dktX0_undo_0 := by decide +kernel
theorem dksX0_undo_1 : cX0_undo.data.toList.drop 24 = dktX0_undo_1 := dk_seg dksX0_undo_0 24 rfl rfl
theorem dksX0_undo_2 : cX0_undo.data.toList.drop 46 = dktX0_undo_2 := dk_seg dksX0_undo_1 22 rfl rfl
theorem dX0_undo_0 : decode cX0_undo 0 = .ok (.aload_n 0, 1) := dk_42 (dk_at dksX0_undo_0 0 rfl rfl)
theorem dX0_undo_1 : decode cX0_undo 1 = .ok (.getfield 44, 3) := dk_180 0 44 (dk_at dksX0_undo_0 1 rfl rfl)
theorem dX0_undo_4 : decode cX0_undo 4 = .ok (.invokeinterface 176 1, 5) := by decide +kernel
theorem dX0_undo_9 : decode cX0_undo 9 = .ok (.ifCond .eq 6, 3) := dk_153 0 6 (dk_at dksX0_undo_0 9 rfl rfl)
theorem dX0_undo_12 : decode cX0_undo 12 = .ok (.bipush (-5), 2) := dk_16 251 (dk_at dksX0_undo_0 12 rfl rfl)
theorem dX0_undo_14 : decode cX0_undo 14 = .ok (.ireturn, 1) := dk_172 (dk_at dksX0_undo_0 14 rfl rfl)
theorem dX0_undo_15 : decode cX0_undo 15 = .ok (.aload_n 0, 1) := dk_42 (dk_at dksX0_undo_0 15 rfl rfl)
theorem dX0_undo_16 : decode cX0_undo 16 = .ok (.aload_n 0, 1) := dk_42 (dk_at dksX0_undo_0 16 rfl rfl)
theorem dX0_undo_17 : decode cX0_undo 17 = .ok (.getfield 44, 3) := dk_180 0 44 (dk_at dksX0_undo_0 17 rfl rfl)
theorem dX0_undo_20 : decode cX0_undo 20 = .ok (.aload_n 0, 1) := dk_42 (dk_at dksX0_undo_0 20 rfl rfl)
theorem dX0_undo_21 : decode cX0_undo 21 = .ok (.getfield 44, 3) := dk_180 0 44 (dk_at dksX0_undo_0 21 rfl rfl)
theorem dX0_undo_24 : decode cX0_undo 24 = .ok (.invokeinterface 58 1, 5) := by decide +kernel
theorem dX0_undo_29 : decode cX0_undo 29 = .ok (.iconst 1, 1) := dk_4 (dk_at dksX0_undo_1 5 rfl rfl)
theorem dX0_undo_30 : decode cX0_undo 30 = .ok (.isub, 1) := dk_100 (dk_at dksX0_undo_1 6 rfl rfl)
theorem dX0_undo_31 : decode cX0_undo 31 = .ok (.invokeinterface 70 2, 5) := by decide +kernel
theorem dX0_undo_36 : decode cX0_undo 36 = .ok (.checkcast 34, 3) := dk_192 0 34 (dk_at dksX0_undo_1 12 rfl rfl)
theorem dX0_undo_39 : decode cX0_undo 39 = .ok (.putfield 37, 3) := dk_181 0 37 (dk_at dksX0_undo_1 15 rfl rfl)
theorem dX0_undo_42 : decode cX0_undo 42 = .ok (.aload_n 0, 1) := dk_42 (dk_at dksX0_undo_1 18 rfl rfl)
theorem dX0_undo_43 : decode cX0_undo 43 = .ok (.getfield 44, 3) := dk_180 0 44 (dk_at dksX0_undo_1 19 rfl rfl)
theorem dX0_undo_46 : decode cX0_undo 46 = .ok (.invokeinterface 58 1, 5) := by decide +kernel
theorem dX0_undo_51 : decode cX0_undo 51 = .ok (.ireturn, 1) := dk_172 (dk_at dksX0_undo_2 5 rfl rfl)
abbrev cX0_keep : ByteArray := prog_1_method_26_code
def yX0_keep : MethodName := ⟨RX0, "keep", "()I"⟩
def dkwX0_keep_0 : List UInt8 := [42, 42, 180, 0, 37, 182, 0, 81, 181, 0, 179, 42, 180, 0, 37, 182, 0, 182, 172]
abbrev dktX0_keep_0 : List UInt8 := dkwX0_keep_0 ++ []
theorem dksX0_keep_0 : cX0_keep.data.toList.drop 0 = dktX0_keep_0 := by decide +kernel
theorem dX0_keep_0 : decode cX0_keep 0 = .ok (.aload_n 0, 1) := dk_42 (dk_at dksX0_keep_0 0 rfl rfl)
theorem dX0_keep_1 : decode cX0_keep 1 = .ok (.aload_n 0, 1) := dk_42 (dk_at dksX0_keep_0 1 rfl rfl)
theorem dX0_keep_2 : decode cX0_keep 2 = .ok (.getfield 37, 3) := dk_180 0 37 (dk_at dksX0_keep_0 2 rfl rfl)
theorem dX0_keep_5 : decode cX0_keep 5 = .ok (.invokevirtual 81, 3) := dk_182 0 81 (dk_at dksX0_keep_0 5 rfl rfl)
theorem dX0_keep_8 : decode cX0_keep 8 = .ok (.putfield 179, 3) := dk_181 0 179 (dk_at dksX0_keep_0 8 rfl rfl)
theorem dX0_keep_11 : decode cX0_keep 11 = .ok (.aload_n 0, 1) := dk_42 (dk_at dksX0_keep_0 11 rfl rfl)
theorem dX0_keep_12 : decode cX0_keep 12 = .ok (.getfield 37, 3) := dk_180 0 37 (dk_at dksX0_keep_0 12 rfl rfl)
theorem dX0_keep_15 : decode cX0_keep 15 = .ok (.invokevirtual 182, 3) := dk_182 0 182 (dk_at dksX0_keep_0 15 rfl rfl)
theorem dX0_keep_18 : decode cX0_keep 18 = .ok (.ireturn, 1) := dk_172 (dk_at dksX0_keep_0 18 rfl rfl)
abbrev cX0_restore : ByteArray := prog_1_method_27_code
def yX0_restore : MethodName := ⟨RX0, "restore", "()I"⟩
def dkwX0_restore_1 : List UInt8 := [182, 0, 182, 182, 0, 89, 172]
abbrev dktX0_restore_1 : List UInt8 := dkwX0_restore_1 ++ []
def dkwX0_restore_0 : List UInt8 := [42, 180, 0, 179, 199, 0, 8, 16, 251, 167, 0, 21, 42, 42, 180, 0, 179, 182, 0, 81, 42, 180, 0, 179]
abbrev dktX0_restore_0 : List UInt8 := dkwX0_restore_0 ++ dktX0_restore_1
theorem dksX0_restore_0 : cX0_restore.data.toList.drop 0 = dktX0_restore_0 := by decide +kernel
theorem dksX0_restore_1 : cX0_restore.data.toList.drop 24 = dktX0_restore_1 := dk_seg dksX0_restore_0 24 rfl rfl
theorem dX0_restore_0 : decode cX0_restore 0 = .ok (.aload_n 0, 1) := dk_42 (dk_at dksX0_restore_0 0 rfl rfl)
theorem dX0_restore_1 : decode cX0_restore 1 = .ok (.getfield 179, 3) := dk_180 0 179 (dk_at dksX0_restore_0 1 rfl rfl)
theorem dX0_restore_4 : decode cX0_restore 4 = .ok (.ifnonnull 8, 3) := dk_199 0 8 (dk_at dksX0_restore_0 4 rfl rfl)
theorem dX0_restore_7 : decode cX0_restore 7 = .ok (.bipush (-5), 2) := dk_16 251 (dk_at dksX0_restore_0 7 rfl rfl)
theorem dX0_restore_9 : decode cX0_restore 9 = .ok (.goto 21, 3) := dk_167 0 21 (dk_at dksX0_restore_0 9 rfl rfl)
theorem dX0_restore_12 : decode cX0_restore 12 = .ok (.aload_n 0, 1) := dk_42 (dk_at dksX0_restore_0 12 rfl rfl)
theorem dX0_restore_13 : decode cX0_restore 13 = .ok (.aload_n 0, 1) := dk_42 (dk_at dksX0_restore_0 13 rfl rfl)
theorem dX0_restore_14 : decode cX0_restore 14 = .ok (.getfield 179, 3) := dk_180 0 179 (dk_at dksX0_restore_0 14 rfl rfl)
theorem dX0_restore_17 : decode cX0_restore 17 = .ok (.invokevirtual 81, 3) := dk_182 0 81 (dk_at dksX0_restore_0 17 rfl rfl)
theorem dX0_restore_20 : decode cX0_restore 20 = .ok (.aload_n 0, 1) := dk_42 (dk_at dksX0_restore_0 20 rfl rfl)
theorem dX0_restore_21 : decode cX0_restore 21 = .ok (.getfield 179, 3) := dk_180 0 179 (dk_at dksX0_restore_0 21 rfl rfl)
theorem dX0_restore_24 : decode cX0_restore 24 = .ok (.invokevirtual 182, 3) := dk_182 0 182 (dk_at dksX0_restore_1 0 rfl rfl)
theorem dX0_restore_27 : decode cX0_restore 27 = .ok (.invokevirtual 89, 3) := dk_182 0 89 (dk_at dksX0_restore_1 3 rfl rfl)
theorem dX0_restore_30 : decode cX0_restore 30 = .ok (.ireturn, 1) := dk_172 (dk_at dksX0_restore_1 6 rfl rfl)
abbrev cX0_value : ByteArray := prog_1_method_28_code
def yX0_value : MethodName := ⟨RX0, "value", "(I)F"⟩
def dkwX0_value_0 : List UInt8 := [27, 184, 0, 185, 153, 0, 14, 42, 180, 0, 37, 27, 182, 0, 188, 167, 0, 6, 184, 0, 191, 174]
abbrev dktX0_value_0 : List UInt8 := dkwX0_value_0 ++ []
theorem dksX0_value_0 : cX0_value.data.toList.drop 0 = dktX0_value_0 := by decide +kernel
theorem dX0_value_0 : decode cX0_value 0 = .ok (.iload_n 1, 1) := dk_27 (dk_at dksX0_value_0 0 rfl rfl)
theorem dX0_value_1 : decode cX0_value 1 = .ok (.invokestatic 185, 3) := dk_184 0 185 (dk_at dksX0_value_0 1 rfl rfl)
theorem dX0_value_4 : decode cX0_value 4 = .ok (.ifCond .eq 14, 3) := dk_153 0 14 (dk_at dksX0_value_0 4 rfl rfl)
theorem dX0_value_7 : decode cX0_value 7 = .ok (.aload_n 0, 1) := dk_42 (dk_at dksX0_value_0 7 rfl rfl)
theorem dX0_value_8 : decode cX0_value 8 = .ok (.getfield 37, 3) := dk_180 0 37 (dk_at dksX0_value_0 8 rfl rfl)
theorem dX0_value_11 : decode cX0_value 11 = .ok (.iload_n 1, 1) := dk_27 (dk_at dksX0_value_0 11 rfl rfl)
theorem dX0_value_12 : decode cX0_value 12 = .ok (.invokevirtual 188, 3) := dk_182 0 188 (dk_at dksX0_value_0 12 rfl rfl)
theorem dX0_value_15 : decode cX0_value 15 = .ok (.goto 6, 3) := dk_167 0 6 (dk_at dksX0_value_0 15 rfl rfl)
theorem dX0_value_18 : decode cX0_value 18 = .ok (.invokestatic 191, 3) := dk_184 0 191 (dk_at dksX0_value_0 18 rfl rfl)
theorem dX0_value_21 : decode cX0_value 21 = .ok (.freturn, 1) := dk_174 (dk_at dksX0_value_0 21 rfl rfl)
abbrev cX0_nothing : ByteArray := prog_1_method_5_code
def yX0_nothing : MethodName := ⟨RX0, "nothing", "()F"⟩
theorem dX0_nothing_0 : decode cX0_nothing 0 = .ok (.ldc 7, 2) := by decide +kernel
theorem dX0_nothing_2 : decode cX0_nothing 2 = .ok (.freturn, 1) := by decide +kernel
abbrev cX0_isThere : ByteArray := prog_1_method_6_code
def yX0_isThere : MethodName := ⟨RX0, "isThere", "(F)Z"⟩
def dkwX0_isThere_0 : List UInt8 := [34, 34, 149, 154, 0, 7, 4, 167, 0, 4, 3, 172]
abbrev dktX0_isThere_0 : List UInt8 := dkwX0_isThere_0 ++ []
theorem dksX0_isThere_0 : cX0_isThere.data.toList.drop 0 = dktX0_isThere_0 := by decide +kernel
theorem dX0_isThere_0 : decode cX0_isThere 0 = .ok (.fload_n 0, 1) := dk_34 (dk_at dksX0_isThere_0 0 rfl rfl)
theorem dX0_isThere_1 : decode cX0_isThere 1 = .ok (.fload_n 0, 1) := dk_34 (dk_at dksX0_isThere_0 1 rfl rfl)
theorem dX0_isThere_2 : decode cX0_isThere 2 = .ok (.fcmp .l, 1) := dk_149 (dk_at dksX0_isThere_0 2 rfl rfl)
theorem dX0_isThere_3 : decode cX0_isThere 3 = .ok (.ifCond .ne 7, 3) := dk_154 0 7 (dk_at dksX0_isThere_0 3 rfl rfl)
theorem dX0_isThere_6 : decode cX0_isThere 6 = .ok (.iconst 1, 1) := dk_4 (dk_at dksX0_isThere_0 6 rfl rfl)
theorem dX0_isThere_7 : decode cX0_isThere 7 = .ok (.goto 4, 3) := dk_167 0 4 (dk_at dksX0_isThere_0 7 rfl rfl)
theorem dX0_isThere_10 : decode cX0_isThere 10 = .ok (.iconst 0, 1) := dk_3 (dk_at dksX0_isThere_0 10 rfl rfl)
theorem dX0_isThere_11 : decode cX0_isThere 11 = .ok (.ireturn, 1) := dk_172 (dk_at dksX0_isThere_0 11 rfl rfl)
abbrev cX0_valueOf : ByteArray := prog_1_method_29_code
def yX0_valueOf : MethodName := ⟨RX0, "valueOf", "(I)F"⟩
def dkwX0_valueOf_1 : List UInt8 := [184, 0, 191, 174]
abbrev dktX0_valueOf_1 : List UInt8 := dkwX0_valueOf_1 ++ []
def dkwX0_valueOf_0 : List UInt8 := [42, 27, 182, 0, 113, 153, 0, 18, 42, 180, 0, 37, 42, 27, 182, 0, 116, 182, 0, 195, 167, 0, 6]
abbrev dktX0_valueOf_0 : List UInt8 := dkwX0_valueOf_0 ++ dktX0_valueOf_1
theorem dksX0_valueOf_0 : cX0_valueOf.data.toList.drop 0 = dktX0_valueOf_0 := by decide +kernel
theorem dksX0_valueOf_1 : cX0_valueOf.data.toList.drop 23 = dktX0_valueOf_1 := dk_seg dksX0_valueOf_0 23 rfl rfl
theorem dX0_valueOf_0 : decode cX0_valueOf 0 = .ok (.aload_n 0, 1) := dk_42 (dk_at dksX0_valueOf_0 0 rfl rfl)
theorem dX0_valueOf_1 : decode cX0_valueOf 1 = .ok (.iload_n 1, 1) := dk_27 (dk_at dksX0_valueOf_0 1 rfl rfl)
theorem dX0_valueOf_2 : decode cX0_valueOf 2 = .ok (.invokevirtual 113, 3) := dk_182 0 113 (dk_at dksX0_valueOf_0 2 rfl rfl)
theorem dX0_valueOf_5 : decode cX0_valueOf 5 = .ok (.ifCond .eq 18, 3) := dk_153 0 18 (dk_at dksX0_valueOf_0 5 rfl rfl)
theorem dX0_valueOf_8 : decode cX0_valueOf 8 = .ok (.aload_n 0, 1) := dk_42 (dk_at dksX0_valueOf_0 8 rfl rfl)
theorem dX0_valueOf_9 : decode cX0_valueOf 9 = .ok (.getfield 37, 3) := dk_180 0 37 (dk_at dksX0_valueOf_0 9 rfl rfl)
theorem dX0_valueOf_12 : decode cX0_valueOf 12 = .ok (.aload_n 0, 1) := dk_42 (dk_at dksX0_valueOf_0 12 rfl rfl)
theorem dX0_valueOf_13 : decode cX0_valueOf 13 = .ok (.iload_n 1, 1) := dk_27 (dk_at dksX0_valueOf_0 13 rfl rfl)
theorem dX0_valueOf_14 : decode cX0_valueOf 14 = .ok (.invokevirtual 116, 3) := dk_182 0 116 (dk_at dksX0_valueOf_0 14 rfl rfl)
theorem dX0_valueOf_17 : decode cX0_valueOf 17 = .ok (.invokevirtual 195, 3) := dk_182 0 195 (dk_at dksX0_valueOf_0 17 rfl rfl)
theorem dX0_valueOf_20 : decode cX0_valueOf 20 = .ok (.goto 6, 3) := dk_167 0 6 (dk_at dksX0_valueOf_0 20 rfl rfl)
theorem dX0_valueOf_23 : decode cX0_valueOf 23 = .ok (.invokestatic 191, 3) := dk_184 0 191 (dk_at dksX0_valueOf_1 0 rfl rfl)
theorem dX0_valueOf_26 : decode cX0_valueOf 26 = .ok (.freturn, 1) := dk_174 (dk_at dksX0_valueOf_1 3 rfl rfl)
abbrev cX0_word : ByteArray := prog_1_method_31_code
def yX0_word : MethodName := ⟨RX0, "word", "(II)I"⟩
def dkwX0_word_7 : List UInt8 := [182, 0, 216, 172, 42, 180, 0, 37, 27, 182, 0, 220, 172, 16, 254, 172]
abbrev dktX0_word_7 : List UInt8 := dkwX0_word_7 ++ []
def dkwX0_word_6 : List UInt8 := [167, 0, 4, 3, 172, 42, 180, 0, 37, 27, 182, 0, 213, 184, 0, 205, 172, 42, 180, 0, 37, 27]
abbrev dktX0_word_6 : List UInt8 := dkwX0_word_6 ++ dktX0_word_7
def dkwX0_word_5 : List UInt8 := [45, 185, 0, 58, 1, 0, 172, 42, 180, 0, 37, 27, 182, 0, 188, 184, 0, 209, 153, 0, 7, 4]
abbrev dktX0_word_5 : List UInt8 := dkwX0_word_5 ++ dktX0_word_6
def dkwX0_word_4 : List UInt8 := [167, 0, 23, 45, 45, 185, 0, 58, 1, 0, 4, 100, 185, 0, 64, 2, 0, 192, 0, 68, 180, 0, 199, 172]
abbrev dktX0_word_4 : List UInt8 := dkwX0_word_4 ++ dktX0_word_5
def dkwX0_word_3 : List UInt8 := [42, 180, 0, 37, 27, 182, 0, 202, 184, 0, 205, 172, 45, 185, 0, 176, 1, 0, 153, 0, 8, 16, 251]
abbrev dktX0_word_3 : List UInt8 := dkwX0_word_3 ++ dktX0_word_4
def dkwX0_word_2 : List UInt8 := [170, 0, 0, 0, 145, 0, 0, 0, 0, 0, 0, 0, 6, 0, 0, 0, 41, 0, 0, 0, 53, 0, 0, 0, 88, 0, 0, 0, 95, 0, 0, 0, 115, 0, 0, 0, 127, 0, 0, 0, 136]
abbrev dktX0_word_2 : List UInt8 := dkwX0_word_2 ++ dktX0_word_3
def dkwX0_word_1 : List UInt8 := [192, 0, 59, 78, 28]
abbrev dktX0_word_1 : List UInt8 := dkwX0_word_1 ++ dktX0_word_2
def dkwX0_word_0 : List UInt8 := [27, 184, 0, 185, 154, 0, 5, 2, 172, 42, 180, 0, 37, 180, 0, 128, 27, 185, 0, 64, 2, 0]
abbrev dktX0_word_0 : List UInt8 := dkwX0_word_0 ++ dktX0_word_1
theorem dksX0_word_0 : cX0_word.data.toList.drop 0 = dktX0_word_0 := by decide +kernel
theorem dksX0_word_1 : cX0_word.data.toList.drop 22 = dktX0_word_1 := dk_seg dksX0_word_0 22 rfl rfl
theorem dksX0_word_2 : cX0_word.data.toList.drop 27 = dktX0_word_2 := dk_seg dksX0_word_1 5 rfl rfl
theorem dksX0_word_3 : cX0_word.data.toList.drop 68 = dktX0_word_3 := dk_seg dksX0_word_2 41 rfl rfl
theorem dksX0_word_4 : cX0_word.data.toList.drop 91 = dktX0_word_4 := dk_seg dksX0_word_3 23 rfl rfl
theorem dksX0_word_5 : cX0_word.data.toList.drop 115 = dktX0_word_5 := dk_seg dksX0_word_4 24 rfl rfl
theorem dksX0_word_6 : cX0_word.data.toList.drop 137 = dktX0_word_6 := dk_seg dksX0_word_5 22 rfl rfl
theorem dksX0_word_7 : cX0_word.data.toList.drop 159 = dktX0_word_7 := dk_seg dksX0_word_6 22 rfl rfl
theorem dX0_word_0 : decode cX0_word 0 = .ok (.iload_n 1, 1) := dk_27 (dk_at dksX0_word_0 0 rfl rfl)
theorem dX0_word_1 : decode cX0_word 1 = .ok (.invokestatic 185, 3) := dk_184 0 185 (dk_at dksX0_word_0 1 rfl rfl)
theorem dX0_word_4 : decode cX0_word 4 = .ok (.ifCond .ne 5, 3) := dk_154 0 5 (dk_at dksX0_word_0 4 rfl rfl)
theorem dX0_word_7 : decode cX0_word 7 = .ok (.iconst (-1), 1) := dk_2 (dk_at dksX0_word_0 7 rfl rfl)
theorem dX0_word_8 : decode cX0_word 8 = .ok (.ireturn, 1) := dk_172 (dk_at dksX0_word_0 8 rfl rfl)
theorem dX0_word_9 : decode cX0_word 9 = .ok (.aload_n 0, 1) := dk_42 (dk_at dksX0_word_0 9 rfl rfl)
theorem dX0_word_10 : decode cX0_word 10 = .ok (.getfield 37, 3) := dk_180 0 37 (dk_at dksX0_word_0 10 rfl rfl)
theorem dX0_word_13 : decode cX0_word 13 = .ok (.getfield 128, 3) := dk_180 0 128 (dk_at dksX0_word_0 13 rfl rfl)
theorem dX0_word_16 : decode cX0_word 16 = .ok (.iload_n 1, 1) := dk_27 (dk_at dksX0_word_0 16 rfl rfl)
theorem dX0_word_17 : decode cX0_word 17 = .ok (.invokeinterface 64 2, 5) := by decide +kernel
theorem dX0_word_22 : decode cX0_word 22 = .ok (.checkcast 59, 3) := dk_192 0 59 (dk_at dksX0_word_1 0 rfl rfl)
theorem dX0_word_25 : decode cX0_word 25 = .ok (.astore_n 3, 1) := dk_78 (dk_at dksX0_word_1 3 rfl rfl)
theorem dX0_word_26 : decode cX0_word 26 = .ok (.iload_n 2, 1) := dk_28 (dk_at dksX0_word_1 4 rfl rfl)
theorem dX0_word_27 : decode cX0_word 27 = .ok (.tableswitch 145 0 6 #[41, 53, 88, 95, 115, 127, 136], 41) := by decide +kernel
theorem dX0_word_68 : decode cX0_word 68 = .ok (.aload_n 0, 1) := dk_42 (dk_at dksX0_word_3 0 rfl rfl)
theorem dX0_word_69 : decode cX0_word 69 = .ok (.getfield 37, 3) := dk_180 0 37 (dk_at dksX0_word_3 1 rfl rfl)
theorem dX0_word_72 : decode cX0_word 72 = .ok (.iload_n 1, 1) := dk_27 (dk_at dksX0_word_3 4 rfl rfl)
theorem dX0_word_73 : decode cX0_word 73 = .ok (.invokevirtual 202, 3) := dk_182 0 202 (dk_at dksX0_word_3 5 rfl rfl)
theorem dX0_word_76 : decode cX0_word 76 = .ok (.invokestatic 205, 3) := dk_184 0 205 (dk_at dksX0_word_3 8 rfl rfl)
theorem dX0_word_79 : decode cX0_word 79 = .ok (.ireturn, 1) := dk_172 (dk_at dksX0_word_3 11 rfl rfl)
theorem dX0_word_80 : decode cX0_word 80 = .ok (.aload_n 3, 1) := dk_45 (dk_at dksX0_word_3 12 rfl rfl)
theorem dX0_word_81 : decode cX0_word 81 = .ok (.invokeinterface 176 1, 5) := by decide +kernel
theorem dX0_word_86 : decode cX0_word 86 = .ok (.ifCond .eq 8, 3) := dk_153 0 8 (dk_at dksX0_word_3 18 rfl rfl)
theorem dX0_word_89 : decode cX0_word 89 = .ok (.bipush (-5), 2) := dk_16 251 (dk_at dksX0_word_3 21 rfl rfl)
theorem dX0_word_91 : decode cX0_word 91 = .ok (.goto 23, 3) := dk_167 0 23 (dk_at dksX0_word_4 0 rfl rfl)
theorem dX0_word_94 : decode cX0_word 94 = .ok (.aload_n 3, 1) := dk_45 (dk_at dksX0_word_4 3 rfl rfl)
theorem dX0_word_95 : decode cX0_word 95 = .ok (.aload_n 3, 1) := dk_45 (dk_at dksX0_word_4 4 rfl rfl)
theorem dX0_word_96 : decode cX0_word 96 = .ok (.invokeinterface 58 1, 5) := by decide +kernel
theorem dX0_word_101 : decode cX0_word 101 = .ok (.iconst 1, 1) := dk_4 (dk_at dksX0_word_4 10 rfl rfl)
theorem dX0_word_102 : decode cX0_word 102 = .ok (.isub, 1) := dk_100 (dk_at dksX0_word_4 11 rfl rfl)
theorem dX0_word_103 : decode cX0_word 103 = .ok (.invokeinterface 64 2, 5) := by decide +kernel
theorem dX0_word_108 : decode cX0_word 108 = .ok (.checkcast 68, 3) := dk_192 0 68 (dk_at dksX0_word_4 17 rfl rfl)
theorem dX0_word_111 : decode cX0_word 111 = .ok (.getfield 199, 3) := dk_180 0 199 (dk_at dksX0_word_4 20 rfl rfl)
theorem dX0_word_114 : decode cX0_word 114 = .ok (.ireturn, 1) := dk_172 (dk_at dksX0_word_4 23 rfl rfl)
theorem dX0_word_115 : decode cX0_word 115 = .ok (.aload_n 3, 1) := dk_45 (dk_at dksX0_word_5 0 rfl rfl)
theorem dX0_word_116 : decode cX0_word 116 = .ok (.invokeinterface 58 1, 5) := by decide +kernel
theorem dX0_word_121 : decode cX0_word 121 = .ok (.ireturn, 1) := dk_172 (dk_at dksX0_word_5 6 rfl rfl)
theorem dX0_word_122 : decode cX0_word 122 = .ok (.aload_n 0, 1) := dk_42 (dk_at dksX0_word_5 7 rfl rfl)
theorem dX0_word_123 : decode cX0_word 123 = .ok (.getfield 37, 3) := dk_180 0 37 (dk_at dksX0_word_5 8 rfl rfl)
theorem dX0_word_126 : decode cX0_word 126 = .ok (.iload_n 1, 1) := dk_27 (dk_at dksX0_word_5 11 rfl rfl)
theorem dX0_word_127 : decode cX0_word 127 = .ok (.invokevirtual 188, 3) := dk_182 0 188 (dk_at dksX0_word_5 12 rfl rfl)
theorem dX0_word_130 : decode cX0_word 130 = .ok (.invokestatic 209, 3) := dk_184 0 209 (dk_at dksX0_word_5 15 rfl rfl)
theorem dX0_word_133 : decode cX0_word 133 = .ok (.ifCond .eq 7, 3) := dk_153 0 7 (dk_at dksX0_word_5 18 rfl rfl)
theorem dX0_word_136 : decode cX0_word 136 = .ok (.iconst 1, 1) := dk_4 (dk_at dksX0_word_5 21 rfl rfl)
theorem dX0_word_137 : decode cX0_word 137 = .ok (.goto 4, 3) := dk_167 0 4 (dk_at dksX0_word_6 0 rfl rfl)
theorem dX0_word_140 : decode cX0_word 140 = .ok (.iconst 0, 1) := dk_3 (dk_at dksX0_word_6 3 rfl rfl)
theorem dX0_word_141 : decode cX0_word 141 = .ok (.ireturn, 1) := dk_172 (dk_at dksX0_word_6 4 rfl rfl)
theorem dX0_word_142 : decode cX0_word 142 = .ok (.aload_n 0, 1) := dk_42 (dk_at dksX0_word_6 5 rfl rfl)
theorem dX0_word_143 : decode cX0_word 143 = .ok (.getfield 37, 3) := dk_180 0 37 (dk_at dksX0_word_6 6 rfl rfl)
theorem dX0_word_146 : decode cX0_word 146 = .ok (.iload_n 1, 1) := dk_27 (dk_at dksX0_word_6 9 rfl rfl)
theorem dX0_word_147 : decode cX0_word 147 = .ok (.invokevirtual 213, 3) := dk_182 0 213 (dk_at dksX0_word_6 10 rfl rfl)
theorem dX0_word_150 : decode cX0_word 150 = .ok (.invokestatic 205, 3) := dk_184 0 205 (dk_at dksX0_word_6 13 rfl rfl)
theorem dX0_word_153 : decode cX0_word 153 = .ok (.ireturn, 1) := dk_172 (dk_at dksX0_word_6 16 rfl rfl)
theorem dX0_word_154 : decode cX0_word 154 = .ok (.aload_n 0, 1) := dk_42 (dk_at dksX0_word_6 17 rfl rfl)
theorem dX0_word_155 : decode cX0_word 155 = .ok (.getfield 37, 3) := dk_180 0 37 (dk_at dksX0_word_6 18 rfl rfl)
theorem dX0_word_158 : decode cX0_word 158 = .ok (.iload_n 1, 1) := dk_27 (dk_at dksX0_word_6 21 rfl rfl)
theorem dX0_word_159 : decode cX0_word 159 = .ok (.invokevirtual 216, 3) := dk_182 0 216 (dk_at dksX0_word_7 0 rfl rfl)
theorem dX0_word_162 : decode cX0_word 162 = .ok (.ireturn, 1) := dk_172 (dk_at dksX0_word_7 3 rfl rfl)
theorem dX0_word_163 : decode cX0_word 163 = .ok (.aload_n 0, 1) := dk_42 (dk_at dksX0_word_7 4 rfl rfl)
theorem dX0_word_164 : decode cX0_word 164 = .ok (.getfield 37, 3) := dk_180 0 37 (dk_at dksX0_word_7 5 rfl rfl)
theorem dX0_word_167 : decode cX0_word 167 = .ok (.iload_n 1, 1) := dk_27 (dk_at dksX0_word_7 8 rfl rfl)
theorem dX0_word_168 : decode cX0_word 168 = .ok (.invokevirtual 220, 3) := dk_182 0 220 (dk_at dksX0_word_7 9 rfl rfl)
theorem dX0_word_171 : decode cX0_word 171 = .ok (.ireturn, 1) := dk_172 (dk_at dksX0_word_7 12 rfl rfl)
theorem dX0_word_172 : decode cX0_word 172 = .ok (.bipush (-2), 2) := dk_16 254 (dk_at dksX0_word_7 13 rfl rfl)
theorem dX0_word_174 : decode cX0_word 174 = .ok (.ireturn, 1) := dk_172 (dk_at dksX0_word_7 15 rfl rfl)
abbrev cX0_numberOf : ByteArray := prog_1_method_30_code
def yX0_numberOf : MethodName := ⟨RX0, "numberOf", "(LNailedOrders$Order;)I"⟩
def dkwX0_numberOf_0 : List UInt8 := [42, 199, 0, 8, 16, 251, 167, 0, 7, 42, 180, 0, 199, 172]
abbrev dktX0_numberOf_0 : List UInt8 := dkwX0_numberOf_0 ++ []
theorem dksX0_numberOf_0 : cX0_numberOf.data.toList.drop 0 = dktX0_numberOf_0 := by decide +kernel
theorem dX0_numberOf_0 : decode cX0_numberOf 0 = .ok (.aload_n 0, 1) := dk_42 (dk_at dksX0_numberOf_0 0 rfl rfl)
theorem dX0_numberOf_1 : decode cX0_numberOf 1 = .ok (.ifnonnull 8, 3) := dk_199 0 8 (dk_at dksX0_numberOf_0 1 rfl rfl)
theorem dX0_numberOf_4 : decode cX0_numberOf 4 = .ok (.bipush (-5), 2) := dk_16 251 (dk_at dksX0_numberOf_0 4 rfl rfl)
theorem dX0_numberOf_6 : decode cX0_numberOf 6 = .ok (.goto 7, 3) := dk_167 0 7 (dk_at dksX0_numberOf_0 6 rfl rfl)
theorem dX0_numberOf_9 : decode cX0_numberOf 9 = .ok (.aload_n 0, 1) := dk_42 (dk_at dksX0_numberOf_0 9 rfl rfl)
theorem dX0_numberOf_10 : decode cX0_numberOf 10 = .ok (.getfield 199, 3) := dk_180 0 199 (dk_at dksX0_numberOf_0 10 rfl rfl)
theorem dX0_numberOf_13 : decode cX0_numberOf 13 = .ok (.ireturn, 1) := dk_172 (dk_at dksX0_numberOf_0 13 rfl rfl)
abbrev cX0_size : ByteArray := prog_1_method_4_code
def yX0_size : MethodName := ⟨RX0, "size", "(F)F"⟩
def dkwX0_size_0 : List UInt8 := [34, 11, 150, 156, 0, 8, 34, 118, 167, 0, 4, 34, 174]
abbrev dktX0_size_0 : List UInt8 := dkwX0_size_0 ++ []
theorem dksX0_size_0 : cX0_size.data.toList.drop 0 = dktX0_size_0 := by decide +kernel
theorem dX0_size_0 : decode cX0_size 0 = .ok (.fload_n 0, 1) := dk_34 (dk_at dksX0_size_0 0 rfl rfl)
theorem dX0_size_1 : decode cX0_size 1 = .ok (.fconst 0, 1) := dk_11 (dk_at dksX0_size_0 1 rfl rfl)
theorem dX0_size_2 : decode cX0_size 2 = .ok (.fcmp .g, 1) := dk_150 (dk_at dksX0_size_0 2 rfl rfl)
theorem dX0_size_3 : decode cX0_size 3 = .ok (.ifCond .ge 8, 3) := dk_156 0 8 (dk_at dksX0_size_0 3 rfl rfl)
theorem dX0_size_6 : decode cX0_size 6 = .ok (.fload_n 0, 1) := dk_34 (dk_at dksX0_size_0 6 rfl rfl)
theorem dX0_size_7 : decode cX0_size 7 = .ok (.fneg, 1) := dk_118 (dk_at dksX0_size_0 7 rfl rfl)
theorem dX0_size_8 : decode cX0_size 8 = .ok (.goto 4, 3) := dk_167 0 4 (dk_at dksX0_size_0 8 rfl rfl)
theorem dX0_size_11 : decode cX0_size 11 = .ok (.fload_n 0, 1) := dk_34 (dk_at dksX0_size_0 11 rfl rfl)
theorem dX0_size_12 : decode cX0_size 12 = .ok (.freturn, 1) := dk_174 (dk_at dksX0_size_0 12 rfl rfl)
abbrev cX0_hangsAt : ByteArray := prog_1_method_32_code
def yX0_hangsAt : MethodName := ⟨RX0, "hangsAt", "(II)I"⟩
def dkwX0_hangsAt_3 : List UInt8 := [16, 251, 172]
abbrev dktX0_hangsAt_3 : List UInt8 := dkwX0_hangsAt_3 ++ []
def dkwX0_hangsAt_2 : List UInt8 := [185, 0, 58, 1, 0, 4, 100, 28, 100, 185, 0, 64, 2, 0, 192, 0, 68, 180, 0, 199, 167, 0, 5]
abbrev dktX0_hangsAt_2 : List UInt8 := dkwX0_hangsAt_2 ++ dktX0_hangsAt_3
def dkwX0_hangsAt_1 : List UInt8 := [185, 0, 64, 2, 0, 192, 0, 59, 78, 28, 45, 185, 0, 58, 1, 0, 162, 0, 28, 45, 45]
abbrev dktX0_hangsAt_1 : List UInt8 := dkwX0_hangsAt_1 ++ dktX0_hangsAt_2
def dkwX0_hangsAt_0 : List UInt8 := [27, 184, 0, 185, 154, 0, 5, 2, 172, 28, 156, 0, 6, 16, 254, 172, 42, 180, 0, 37, 180, 0, 128, 27]
abbrev dktX0_hangsAt_0 : List UInt8 := dkwX0_hangsAt_0 ++ dktX0_hangsAt_1
theorem dksX0_hangsAt_0 : cX0_hangsAt.data.toList.drop 0 = dktX0_hangsAt_0 := by decide +kernel
theorem dksX0_hangsAt_1 : cX0_hangsAt.data.toList.drop 24 = dktX0_hangsAt_1 := dk_seg dksX0_hangsAt_0 24 rfl rfl
theorem dksX0_hangsAt_2 : cX0_hangsAt.data.toList.drop 45 = dktX0_hangsAt_2 := dk_seg dksX0_hangsAt_1 21 rfl rfl
theorem dksX0_hangsAt_3 : cX0_hangsAt.data.toList.drop 68 = dktX0_hangsAt_3 := dk_seg dksX0_hangsAt_2 23 rfl rfl
theorem dX0_hangsAt_0 : decode cX0_hangsAt 0 = .ok (.iload_n 1, 1) := dk_27 (dk_at dksX0_hangsAt_0 0 rfl rfl)
theorem dX0_hangsAt_1 : decode cX0_hangsAt 1 = .ok (.invokestatic 185, 3) := dk_184 0 185 (dk_at dksX0_hangsAt_0 1 rfl rfl)
theorem dX0_hangsAt_4 : decode cX0_hangsAt 4 = .ok (.ifCond .ne 5, 3) := dk_154 0 5 (dk_at dksX0_hangsAt_0 4 rfl rfl)
theorem dX0_hangsAt_7 : decode cX0_hangsAt 7 = .ok (.iconst (-1), 1) := dk_2 (dk_at dksX0_hangsAt_0 7 rfl rfl)
theorem dX0_hangsAt_8 : decode cX0_hangsAt 8 = .ok (.ireturn, 1) := dk_172 (dk_at dksX0_hangsAt_0 8 rfl rfl)
theorem dX0_hangsAt_9 : decode cX0_hangsAt 9 = .ok (.iload_n 2, 1) := dk_28 (dk_at dksX0_hangsAt_0 9 rfl rfl)
theorem dX0_hangsAt_10 : decode cX0_hangsAt 10 = .ok (.ifCond .ge 6, 3) := dk_156 0 6 (dk_at dksX0_hangsAt_0 10 rfl rfl)
theorem dX0_hangsAt_13 : decode cX0_hangsAt 13 = .ok (.bipush (-2), 2) := dk_16 254 (dk_at dksX0_hangsAt_0 13 rfl rfl)
theorem dX0_hangsAt_15 : decode cX0_hangsAt 15 = .ok (.ireturn, 1) := dk_172 (dk_at dksX0_hangsAt_0 15 rfl rfl)
theorem dX0_hangsAt_16 : decode cX0_hangsAt 16 = .ok (.aload_n 0, 1) := dk_42 (dk_at dksX0_hangsAt_0 16 rfl rfl)
theorem dX0_hangsAt_17 : decode cX0_hangsAt 17 = .ok (.getfield 37, 3) := dk_180 0 37 (dk_at dksX0_hangsAt_0 17 rfl rfl)
theorem dX0_hangsAt_20 : decode cX0_hangsAt 20 = .ok (.getfield 128, 3) := dk_180 0 128 (dk_at dksX0_hangsAt_0 20 rfl rfl)
theorem dX0_hangsAt_23 : decode cX0_hangsAt 23 = .ok (.iload_n 1, 1) := dk_27 (dk_at dksX0_hangsAt_0 23 rfl rfl)
theorem dX0_hangsAt_24 : decode cX0_hangsAt 24 = .ok (.invokeinterface 64 2, 5) := by decide +kernel
theorem dX0_hangsAt_29 : decode cX0_hangsAt 29 = .ok (.checkcast 59, 3) := dk_192 0 59 (dk_at dksX0_hangsAt_1 5 rfl rfl)
theorem dX0_hangsAt_32 : decode cX0_hangsAt 32 = .ok (.astore_n 3, 1) := dk_78 (dk_at dksX0_hangsAt_1 8 rfl rfl)
theorem dX0_hangsAt_33 : decode cX0_hangsAt 33 = .ok (.iload_n 2, 1) := dk_28 (dk_at dksX0_hangsAt_1 9 rfl rfl)
theorem dX0_hangsAt_34 : decode cX0_hangsAt 34 = .ok (.aload_n 3, 1) := dk_45 (dk_at dksX0_hangsAt_1 10 rfl rfl)
theorem dX0_hangsAt_35 : decode cX0_hangsAt 35 = .ok (.invokeinterface 58 1, 5) := by decide +kernel
theorem dX0_hangsAt_40 : decode cX0_hangsAt 40 = .ok (.if_icmp .ge 28, 3) := dk_162 0 28 (dk_at dksX0_hangsAt_1 16 rfl rfl)
theorem dX0_hangsAt_43 : decode cX0_hangsAt 43 = .ok (.aload_n 3, 1) := dk_45 (dk_at dksX0_hangsAt_1 19 rfl rfl)
theorem dX0_hangsAt_44 : decode cX0_hangsAt 44 = .ok (.aload_n 3, 1) := dk_45 (dk_at dksX0_hangsAt_1 20 rfl rfl)
theorem dX0_hangsAt_45 : decode cX0_hangsAt 45 = .ok (.invokeinterface 58 1, 5) := by decide +kernel
theorem dX0_hangsAt_50 : decode cX0_hangsAt 50 = .ok (.iconst 1, 1) := dk_4 (dk_at dksX0_hangsAt_2 5 rfl rfl)
theorem dX0_hangsAt_51 : decode cX0_hangsAt 51 = .ok (.isub, 1) := dk_100 (dk_at dksX0_hangsAt_2 6 rfl rfl)
theorem dX0_hangsAt_52 : decode cX0_hangsAt 52 = .ok (.iload_n 2, 1) := dk_28 (dk_at dksX0_hangsAt_2 7 rfl rfl)
theorem dX0_hangsAt_53 : decode cX0_hangsAt 53 = .ok (.isub, 1) := dk_100 (dk_at dksX0_hangsAt_2 8 rfl rfl)
theorem dX0_hangsAt_54 : decode cX0_hangsAt 54 = .ok (.invokeinterface 64 2, 5) := by decide +kernel
theorem dX0_hangsAt_59 : decode cX0_hangsAt 59 = .ok (.checkcast 68, 3) := dk_192 0 68 (dk_at dksX0_hangsAt_2 14 rfl rfl)
theorem dX0_hangsAt_62 : decode cX0_hangsAt 62 = .ok (.getfield 199, 3) := dk_180 0 199 (dk_at dksX0_hangsAt_2 17 rfl rfl)
theorem dX0_hangsAt_65 : decode cX0_hangsAt 65 = .ok (.goto 5, 3) := dk_167 0 5 (dk_at dksX0_hangsAt_2 20 rfl rfl)
theorem dX0_hangsAt_68 : decode cX0_hangsAt 68 = .ok (.bipush (-5), 2) := dk_16 251 (dk_at dksX0_hangsAt_3 0 rfl rfl)
theorem dX0_hangsAt_70 : decode cX0_hangsAt 70 = .ok (.ireturn, 1) := dk_172 (dk_at dksX0_hangsAt_3 2 rfl rfl)
abbrev cX0_order : ByteArray := prog_1_method_33_code
def yX0_order : MethodName := ⟨RX0, "order", "(II)I"⟩
def dkwX0_order_7 : List UInt8 := [167, 0, 4, 3, 172, 16, 254, 172]
abbrev dktX0_order_7 : List UInt8 := dkwX0_order_7 ++ []
def dkwX0_order_6 : List UInt8 := [172, 45, 182, 0, 120, 153, 0, 22, 42, 180, 0, 37, 45, 180, 0, 131, 182, 0, 202, 45, 166, 0, 7, 4]
abbrev dktX0_order_6 : List UInt8 := dkwX0_order_6 ++ dktX0_order_7
def dkwX0_order_5 : List UInt8 := [185, 0, 64, 2, 0, 192, 0, 59, 45, 185, 0, 232, 2, 0, 167, 0, 5, 16, 251, 172, 45, 182, 0, 138]
abbrev dktX0_order_5 : List UInt8 := dkwX0_order_5 ++ dktX0_order_6
def dkwX0_order_4 : List UInt8 := [16, 251, 172, 45, 182, 0, 120, 153, 0, 31, 42, 180, 0, 37, 180, 0, 128, 45, 180, 0, 131]
abbrev dktX0_order_4 : List UInt8 := dkwX0_order_4 ++ dktX0_order_5
def dkwX0_order_3 : List UInt8 := [167, 0, 4, 3, 172, 45, 182, 0, 120, 153, 0, 14, 42, 180, 0, 37, 45, 182, 0, 229, 167, 0, 5]
abbrev dktX0_order_3 : List UInt8 := dkwX0_order_3 ++ dktX0_order_4
def dkwX0_order_2 : List UInt8 := [45, 180, 0, 223, 172, 45, 180, 0, 131, 172, 45, 182, 0, 226, 172, 45, 182, 0, 120, 153, 0, 7, 4]
abbrev dktX0_order_2 : List UInt8 := dkwX0_order_2 ++ dktX0_order_3
def dkwX0_order_1 : List UInt8 := [170, 0, 0, 0, 0, 0, 167, 0, 0, 0, 0, 0, 0, 0, 7, 0, 0, 0, 47, 0, 0, 0, 52, 0, 0, 0, 57, 0, 0, 0, 62, 0, 0, 0, 75, 0, 0, 0, 96, 0, 0, 0, 134, 0, 0, 0, 139]
abbrev dktX0_order_1 : List UInt8 := dkwX0_order_1 ++ dktX0_order_2
def dkwX0_order_0 : List UInt8 := [42, 27, 182, 0, 113, 154, 0, 5, 2, 172, 42, 27, 182, 0, 116, 78, 28]
abbrev dktX0_order_0 : List UInt8 := dkwX0_order_0 ++ dktX0_order_1
theorem dksX0_order_0 : cX0_order.data.toList.drop 0 = dktX0_order_0 := by decide +kernel
theorem dksX0_order_1 : cX0_order.data.toList.drop 17 = dktX0_order_1 := dk_seg dksX0_order_0 17 rfl rfl
theorem dksX0_order_2 : cX0_order.data.toList.drop 64 = dktX0_order_2 := dk_seg dksX0_order_1 47 rfl rfl
theorem dksX0_order_3 : cX0_order.data.toList.drop 87 = dktX0_order_3 := dk_seg dksX0_order_2 23 rfl rfl
theorem dksX0_order_4 : cX0_order.data.toList.drop 110 = dktX0_order_4 := dk_seg dksX0_order_3 23 rfl rfl
theorem dksX0_order_5 : cX0_order.data.toList.drop 131 = dktX0_order_5 := dk_seg dksX0_order_4 21 rfl rfl
theorem dksX0_order_6 : cX0_order.data.toList.drop 155 = dktX0_order_6 := dk_seg dksX0_order_5 24 rfl rfl
theorem dksX0_order_7 : cX0_order.data.toList.drop 179 = dktX0_order_7 := dk_seg dksX0_order_6 24 rfl rfl
theorem dX0_order_0 : decode cX0_order 0 = .ok (.aload_n 0, 1) := dk_42 (dk_at dksX0_order_0 0 rfl rfl)
theorem dX0_order_1 : decode cX0_order 1 = .ok (.iload_n 1, 1) := dk_27 (dk_at dksX0_order_0 1 rfl rfl)
theorem dX0_order_2 : decode cX0_order 2 = .ok (.invokevirtual 113, 3) := dk_182 0 113 (dk_at dksX0_order_0 2 rfl rfl)
theorem dX0_order_5 : decode cX0_order 5 = .ok (.ifCond .ne 5, 3) := dk_154 0 5 (dk_at dksX0_order_0 5 rfl rfl)
theorem dX0_order_8 : decode cX0_order 8 = .ok (.iconst (-1), 1) := dk_2 (dk_at dksX0_order_0 8 rfl rfl)
theorem dX0_order_9 : decode cX0_order 9 = .ok (.ireturn, 1) := dk_172 (dk_at dksX0_order_0 9 rfl rfl)
theorem dX0_order_10 : decode cX0_order 10 = .ok (.aload_n 0, 1) := dk_42 (dk_at dksX0_order_0 10 rfl rfl)
theorem dX0_order_11 : decode cX0_order 11 = .ok (.iload_n 1, 1) := dk_27 (dk_at dksX0_order_0 11 rfl rfl)
theorem dX0_order_12 : decode cX0_order 12 = .ok (.invokevirtual 116, 3) := dk_182 0 116 (dk_at dksX0_order_0 12 rfl rfl)
theorem dX0_order_15 : decode cX0_order 15 = .ok (.astore_n 3, 1) := dk_78 (dk_at dksX0_order_0 15 rfl rfl)
theorem dX0_order_16 : decode cX0_order 16 = .ok (.iload_n 2, 1) := dk_28 (dk_at dksX0_order_0 16 rfl rfl)
theorem dX0_order_17 : decode cX0_order 17 = .ok (.tableswitch 167 0 7 #[47, 52, 57, 62, 75, 96, 134, 139], 47) := by decide +kernel
theorem dX0_order_64 : decode cX0_order 64 = .ok (.aload_n 3, 1) := dk_45 (dk_at dksX0_order_2 0 rfl rfl)
theorem dX0_order_65 : decode cX0_order 65 = .ok (.getfield 223, 3) := dk_180 0 223 (dk_at dksX0_order_2 1 rfl rfl)
theorem dX0_order_68 : decode cX0_order 68 = .ok (.ireturn, 1) := dk_172 (dk_at dksX0_order_2 4 rfl rfl)
theorem dX0_order_69 : decode cX0_order 69 = .ok (.aload_n 3, 1) := dk_45 (dk_at dksX0_order_2 5 rfl rfl)
theorem dX0_order_70 : decode cX0_order 70 = .ok (.getfield 131, 3) := dk_180 0 131 (dk_at dksX0_order_2 6 rfl rfl)
theorem dX0_order_73 : decode cX0_order 73 = .ok (.ireturn, 1) := dk_172 (dk_at dksX0_order_2 9 rfl rfl)
theorem dX0_order_74 : decode cX0_order 74 = .ok (.aload_n 3, 1) := dk_45 (dk_at dksX0_order_2 10 rfl rfl)
theorem dX0_order_75 : decode cX0_order 75 = .ok (.invokevirtual 226, 3) := dk_182 0 226 (dk_at dksX0_order_2 11 rfl rfl)
theorem dX0_order_78 : decode cX0_order 78 = .ok (.ireturn, 1) := dk_172 (dk_at dksX0_order_2 14 rfl rfl)
theorem dX0_order_79 : decode cX0_order 79 = .ok (.aload_n 3, 1) := dk_45 (dk_at dksX0_order_2 15 rfl rfl)
theorem dX0_order_80 : decode cX0_order 80 = .ok (.invokevirtual 120, 3) := dk_182 0 120 (dk_at dksX0_order_2 16 rfl rfl)
theorem dX0_order_83 : decode cX0_order 83 = .ok (.ifCond .eq 7, 3) := dk_153 0 7 (dk_at dksX0_order_2 19 rfl rfl)
theorem dX0_order_86 : decode cX0_order 86 = .ok (.iconst 1, 1) := dk_4 (dk_at dksX0_order_2 22 rfl rfl)
theorem dX0_order_87 : decode cX0_order 87 = .ok (.goto 4, 3) := dk_167 0 4 (dk_at dksX0_order_3 0 rfl rfl)
theorem dX0_order_90 : decode cX0_order 90 = .ok (.iconst 0, 1) := dk_3 (dk_at dksX0_order_3 3 rfl rfl)
theorem dX0_order_91 : decode cX0_order 91 = .ok (.ireturn, 1) := dk_172 (dk_at dksX0_order_3 4 rfl rfl)
theorem dX0_order_92 : decode cX0_order 92 = .ok (.aload_n 3, 1) := dk_45 (dk_at dksX0_order_3 5 rfl rfl)
theorem dX0_order_93 : decode cX0_order 93 = .ok (.invokevirtual 120, 3) := dk_182 0 120 (dk_at dksX0_order_3 6 rfl rfl)
theorem dX0_order_96 : decode cX0_order 96 = .ok (.ifCond .eq 14, 3) := dk_153 0 14 (dk_at dksX0_order_3 9 rfl rfl)
theorem dX0_order_99 : decode cX0_order 99 = .ok (.aload_n 0, 1) := dk_42 (dk_at dksX0_order_3 12 rfl rfl)
theorem dX0_order_100 : decode cX0_order 100 = .ok (.getfield 37, 3) := dk_180 0 37 (dk_at dksX0_order_3 13 rfl rfl)
theorem dX0_order_103 : decode cX0_order 103 = .ok (.aload_n 3, 1) := dk_45 (dk_at dksX0_order_3 16 rfl rfl)
theorem dX0_order_104 : decode cX0_order 104 = .ok (.invokevirtual 229, 3) := dk_182 0 229 (dk_at dksX0_order_3 17 rfl rfl)
theorem dX0_order_107 : decode cX0_order 107 = .ok (.goto 5, 3) := dk_167 0 5 (dk_at dksX0_order_3 20 rfl rfl)
theorem dX0_order_110 : decode cX0_order 110 = .ok (.bipush (-5), 2) := dk_16 251 (dk_at dksX0_order_4 0 rfl rfl)
theorem dX0_order_112 : decode cX0_order 112 = .ok (.ireturn, 1) := dk_172 (dk_at dksX0_order_4 2 rfl rfl)
theorem dX0_order_113 : decode cX0_order 113 = .ok (.aload_n 3, 1) := dk_45 (dk_at dksX0_order_4 3 rfl rfl)
theorem dX0_order_114 : decode cX0_order 114 = .ok (.invokevirtual 120, 3) := dk_182 0 120 (dk_at dksX0_order_4 4 rfl rfl)
theorem dX0_order_117 : decode cX0_order 117 = .ok (.ifCond .eq 31, 3) := dk_153 0 31 (dk_at dksX0_order_4 7 rfl rfl)
theorem dX0_order_120 : decode cX0_order 120 = .ok (.aload_n 0, 1) := dk_42 (dk_at dksX0_order_4 10 rfl rfl)
theorem dX0_order_121 : decode cX0_order 121 = .ok (.getfield 37, 3) := dk_180 0 37 (dk_at dksX0_order_4 11 rfl rfl)
theorem dX0_order_124 : decode cX0_order 124 = .ok (.getfield 128, 3) := dk_180 0 128 (dk_at dksX0_order_4 14 rfl rfl)
theorem dX0_order_127 : decode cX0_order 127 = .ok (.aload_n 3, 1) := dk_45 (dk_at dksX0_order_4 17 rfl rfl)
theorem dX0_order_128 : decode cX0_order 128 = .ok (.getfield 131, 3) := dk_180 0 131 (dk_at dksX0_order_4 18 rfl rfl)
theorem dX0_order_131 : decode cX0_order 131 = .ok (.invokeinterface 64 2, 5) := by decide +kernel
theorem dX0_order_136 : decode cX0_order 136 = .ok (.checkcast 59, 3) := dk_192 0 59 (dk_at dksX0_order_5 5 rfl rfl)
theorem dX0_order_139 : decode cX0_order 139 = .ok (.aload_n 3, 1) := dk_45 (dk_at dksX0_order_5 8 rfl rfl)
theorem dX0_order_140 : decode cX0_order 140 = .ok (.invokeinterface 232 2, 5) := by decide +kernel
theorem dX0_order_145 : decode cX0_order 145 = .ok (.goto 5, 3) := dk_167 0 5 (dk_at dksX0_order_5 14 rfl rfl)
theorem dX0_order_148 : decode cX0_order 148 = .ok (.bipush (-5), 2) := dk_16 251 (dk_at dksX0_order_5 17 rfl rfl)
theorem dX0_order_150 : decode cX0_order 150 = .ok (.ireturn, 1) := dk_172 (dk_at dksX0_order_5 19 rfl rfl)
theorem dX0_order_151 : decode cX0_order 151 = .ok (.aload_n 3, 1) := dk_45 (dk_at dksX0_order_5 20 rfl rfl)
theorem dX0_order_152 : decode cX0_order 152 = .ok (.invokevirtual 138, 3) := dk_182 0 138 (dk_at dksX0_order_5 21 rfl rfl)
theorem dX0_order_155 : decode cX0_order 155 = .ok (.ireturn, 1) := dk_172 (dk_at dksX0_order_6 0 rfl rfl)
theorem dX0_order_156 : decode cX0_order 156 = .ok (.aload_n 3, 1) := dk_45 (dk_at dksX0_order_6 1 rfl rfl)
theorem dX0_order_157 : decode cX0_order 157 = .ok (.invokevirtual 120, 3) := dk_182 0 120 (dk_at dksX0_order_6 2 rfl rfl)
theorem dX0_order_160 : decode cX0_order 160 = .ok (.ifCond .eq 22, 3) := dk_153 0 22 (dk_at dksX0_order_6 5 rfl rfl)
theorem dX0_order_163 : decode cX0_order 163 = .ok (.aload_n 0, 1) := dk_42 (dk_at dksX0_order_6 8 rfl rfl)
theorem dX0_order_164 : decode cX0_order 164 = .ok (.getfield 37, 3) := dk_180 0 37 (dk_at dksX0_order_6 9 rfl rfl)
theorem dX0_order_167 : decode cX0_order 167 = .ok (.aload_n 3, 1) := dk_45 (dk_at dksX0_order_6 12 rfl rfl)
theorem dX0_order_168 : decode cX0_order 168 = .ok (.getfield 131, 3) := dk_180 0 131 (dk_at dksX0_order_6 13 rfl rfl)
theorem dX0_order_171 : decode cX0_order 171 = .ok (.invokevirtual 202, 3) := dk_182 0 202 (dk_at dksX0_order_6 16 rfl rfl)
theorem dX0_order_174 : decode cX0_order 174 = .ok (.aload_n 3, 1) := dk_45 (dk_at dksX0_order_6 19 rfl rfl)
theorem dX0_order_175 : decode cX0_order 175 = .ok (.if_acmp .ne 7, 3) := dk_166 0 7 (dk_at dksX0_order_6 20 rfl rfl)
theorem dX0_order_178 : decode cX0_order 178 = .ok (.iconst 1, 1) := dk_4 (dk_at dksX0_order_6 23 rfl rfl)
theorem dX0_order_179 : decode cX0_order 179 = .ok (.goto 4, 3) := dk_167 0 4 (dk_at dksX0_order_7 0 rfl rfl)
theorem dX0_order_182 : decode cX0_order 182 = .ok (.iconst 0, 1) := dk_3 (dk_at dksX0_order_7 3 rfl rfl)
theorem dX0_order_183 : decode cX0_order 183 = .ok (.ireturn, 1) := dk_172 (dk_at dksX0_order_7 4 rfl rfl)
theorem dX0_order_184 : decode cX0_order 184 = .ok (.bipush (-2), 2) := dk_16 254 (dk_at dksX0_order_7 5 rfl rfl)
theorem dX0_order_186 : decode cX0_order 186 = .ok (.ireturn, 1) := dk_172 (dk_at dksX0_order_7 7 rfl rfl)
abbrev cX0_real : ByteArray := prog_1_method_34_code
def yX0_real : MethodName := ⟨RX0, "real", "(II)F"⟩
def dkwX0_real_2 : List UInt8 := [167, 0, 7, 45, 180, 0, 134, 174]
abbrev dktX0_real_2 : List UInt8 := dkwX0_real_2 ++ []
def dkwX0_real_1 : List UInt8 := [182, 0, 116, 78, 28, 154, 0, 10, 45, 180, 0, 236, 167, 0, 19, 28, 4, 160, 0, 10, 45, 182, 0, 239]
abbrev dktX0_real_1 : List UInt8 := dkwX0_real_1 ++ dktX0_real_2
def dkwX0_real_0 : List UInt8 := [42, 27, 182, 0, 113, 153, 0, 12, 28, 3, 5, 184, 0, 3, 154, 0, 7, 184, 0, 191, 174, 42, 27]
abbrev dktX0_real_0 : List UInt8 := dkwX0_real_0 ++ dktX0_real_1
theorem dksX0_real_0 : cX0_real.data.toList.drop 0 = dktX0_real_0 := by decide +kernel
theorem dksX0_real_1 : cX0_real.data.toList.drop 23 = dktX0_real_1 := dk_seg dksX0_real_0 23 rfl rfl
theorem dksX0_real_2 : cX0_real.data.toList.drop 47 = dktX0_real_2 := dk_seg dksX0_real_1 24 rfl rfl
theorem dX0_real_0 : decode cX0_real 0 = .ok (.aload_n 0, 1) := dk_42 (dk_at dksX0_real_0 0 rfl rfl)
theorem dX0_real_1 : decode cX0_real 1 = .ok (.iload_n 1, 1) := dk_27 (dk_at dksX0_real_0 1 rfl rfl)
theorem dX0_real_2 : decode cX0_real 2 = .ok (.invokevirtual 113, 3) := dk_182 0 113 (dk_at dksX0_real_0 2 rfl rfl)
theorem dX0_real_5 : decode cX0_real 5 = .ok (.ifCond .eq 12, 3) := dk_153 0 12 (dk_at dksX0_real_0 5 rfl rfl)
theorem dX0_real_8 : decode cX0_real 8 = .ok (.iload_n 2, 1) := dk_28 (dk_at dksX0_real_0 8 rfl rfl)
theorem dX0_real_9 : decode cX0_real 9 = .ok (.iconst 0, 1) := dk_3 (dk_at dksX0_real_0 9 rfl rfl)
theorem dX0_real_10 : decode cX0_real 10 = .ok (.iconst 2, 1) := dk_5 (dk_at dksX0_real_0 10 rfl rfl)
theorem dX0_real_11 : decode cX0_real 11 = .ok (.invokestatic 3, 3) := dk_184 0 3 (dk_at dksX0_real_0 11 rfl rfl)
theorem dX0_real_14 : decode cX0_real 14 = .ok (.ifCond .ne 7, 3) := dk_154 0 7 (dk_at dksX0_real_0 14 rfl rfl)
theorem dX0_real_17 : decode cX0_real 17 = .ok (.invokestatic 191, 3) := dk_184 0 191 (dk_at dksX0_real_0 17 rfl rfl)
theorem dX0_real_20 : decode cX0_real 20 = .ok (.freturn, 1) := dk_174 (dk_at dksX0_real_0 20 rfl rfl)
theorem dX0_real_21 : decode cX0_real 21 = .ok (.aload_n 0, 1) := dk_42 (dk_at dksX0_real_0 21 rfl rfl)
theorem dX0_real_22 : decode cX0_real 22 = .ok (.iload_n 1, 1) := dk_27 (dk_at dksX0_real_0 22 rfl rfl)
theorem dX0_real_23 : decode cX0_real 23 = .ok (.invokevirtual 116, 3) := dk_182 0 116 (dk_at dksX0_real_1 0 rfl rfl)
theorem dX0_real_26 : decode cX0_real 26 = .ok (.astore_n 3, 1) := dk_78 (dk_at dksX0_real_1 3 rfl rfl)
theorem dX0_real_27 : decode cX0_real 27 = .ok (.iload_n 2, 1) := dk_28 (dk_at dksX0_real_1 4 rfl rfl)
theorem dX0_real_28 : decode cX0_real 28 = .ok (.ifCond .ne 10, 3) := dk_154 0 10 (dk_at dksX0_real_1 5 rfl rfl)
theorem dX0_real_31 : decode cX0_real 31 = .ok (.aload_n 3, 1) := dk_45 (dk_at dksX0_real_1 8 rfl rfl)
theorem dX0_real_32 : decode cX0_real 32 = .ok (.getfield 236, 3) := dk_180 0 236 (dk_at dksX0_real_1 9 rfl rfl)
theorem dX0_real_35 : decode cX0_real 35 = .ok (.goto 19, 3) := dk_167 0 19 (dk_at dksX0_real_1 12 rfl rfl)
theorem dX0_real_38 : decode cX0_real 38 = .ok (.iload_n 2, 1) := dk_28 (dk_at dksX0_real_1 15 rfl rfl)
theorem dX0_real_39 : decode cX0_real 39 = .ok (.iconst 1, 1) := dk_4 (dk_at dksX0_real_1 16 rfl rfl)
theorem dX0_real_40 : decode cX0_real 40 = .ok (.if_icmp .ne 10, 3) := dk_160 0 10 (dk_at dksX0_real_1 17 rfl rfl)
theorem dX0_real_43 : decode cX0_real 43 = .ok (.aload_n 3, 1) := dk_45 (dk_at dksX0_real_1 20 rfl rfl)
theorem dX0_real_44 : decode cX0_real 44 = .ok (.invokevirtual 239, 3) := dk_182 0 239 (dk_at dksX0_real_1 21 rfl rfl)
theorem dX0_real_47 : decode cX0_real 47 = .ok (.goto 7, 3) := dk_167 0 7 (dk_at dksX0_real_2 0 rfl rfl)
theorem dX0_real_50 : decode cX0_real 50 = .ok (.aload_n 3, 1) := dk_45 (dk_at dksX0_real_2 3 rfl rfl)
theorem dX0_real_51 : decode cX0_real 51 = .ok (.getfield 134, 3) := dk_180 0 134 (dk_at dksX0_real_2 4 rfl rfl)
theorem dX0_real_54 : decode cX0_real 54 = .ok (.freturn, 1) := dk_174 (dk_at dksX0_real_2 7 rfl rfl)
abbrev cX0_reason : ByteArray := prog_1_method_35_code
def yX0_reason : MethodName := ⟨RX0, "reason", "(II)I"⟩
def dkwX0_reason_3 : List UInt8 := [182, 0, 202, 184, 0, 205, 172]
abbrev dktX0_reason_3 : List UInt8 := dkwX0_reason_3 ++ []
def dkwX0_reason_2 : List UInt8 := [132, 4, 1, 167, 255, 232, 29, 16, 251, 160, 0, 8, 16, 251, 167, 0, 14, 42, 180, 0, 37, 29]
abbrev dktX0_reason_2 : List UInt8 := dkwX0_reason_2 ++ dktX0_reason_3
def dkwX0_reason_1 : List UInt8 := [3, 54, 4, 21, 4, 28, 162, 0, 24, 29, 16, 251, 159, 0, 18, 42, 180, 0, 37, 29, 182, 0, 242, 62]
abbrev dktX0_reason_1 : List UInt8 := dkwX0_reason_1 ++ dktX0_reason_2
def dkwX0_reason_0 : List UInt8 := [27, 184, 0, 185, 154, 0, 5, 2, 172, 28, 3, 16, 16, 184, 0, 3, 154, 0, 6, 16, 254, 172, 27, 62]
abbrev dktX0_reason_0 : List UInt8 := dkwX0_reason_0 ++ dktX0_reason_1
theorem dksX0_reason_0 : cX0_reason.data.toList.drop 0 = dktX0_reason_0 := by decide +kernel
theorem dksX0_reason_1 : cX0_reason.data.toList.drop 24 = dktX0_reason_1 := dk_seg dksX0_reason_0 24 rfl rfl
theorem dksX0_reason_2 : cX0_reason.data.toList.drop 48 = dktX0_reason_2 := dk_seg dksX0_reason_1 24 rfl rfl
theorem dksX0_reason_3 : cX0_reason.data.toList.drop 70 = dktX0_reason_3 := dk_seg dksX0_reason_2 22 rfl rfl
theorem dX0_reason_0 : decode cX0_reason 0 = .ok (.iload_n 1, 1) := dk_27 (dk_at dksX0_reason_0 0 rfl rfl)
theorem dX0_reason_1 : decode cX0_reason 1 = .ok (.invokestatic 185, 3) := dk_184 0 185 (dk_at dksX0_reason_0 1 rfl rfl)
theorem dX0_reason_4 : decode cX0_reason 4 = .ok (.ifCond .ne 5, 3) := dk_154 0 5 (dk_at dksX0_reason_0 4 rfl rfl)
theorem dX0_reason_7 : decode cX0_reason 7 = .ok (.iconst (-1), 1) := dk_2 (dk_at dksX0_reason_0 7 rfl rfl)
theorem dX0_reason_8 : decode cX0_reason 8 = .ok (.ireturn, 1) := dk_172 (dk_at dksX0_reason_0 8 rfl rfl)
theorem dX0_reason_9 : decode cX0_reason 9 = .ok (.iload_n 2, 1) := dk_28 (dk_at dksX0_reason_0 9 rfl rfl)
theorem dX0_reason_10 : decode cX0_reason 10 = .ok (.iconst 0, 1) := dk_3 (dk_at dksX0_reason_0 10 rfl rfl)
theorem dX0_reason_11 : decode cX0_reason 11 = .ok (.bipush 16, 2) := dk_16 16 (dk_at dksX0_reason_0 11 rfl rfl)
theorem dX0_reason_13 : decode cX0_reason 13 = .ok (.invokestatic 3, 3) := dk_184 0 3 (dk_at dksX0_reason_0 13 rfl rfl)
theorem dX0_reason_16 : decode cX0_reason 16 = .ok (.ifCond .ne 6, 3) := dk_154 0 6 (dk_at dksX0_reason_0 16 rfl rfl)
theorem dX0_reason_19 : decode cX0_reason 19 = .ok (.bipush (-2), 2) := dk_16 254 (dk_at dksX0_reason_0 19 rfl rfl)
theorem dX0_reason_21 : decode cX0_reason 21 = .ok (.ireturn, 1) := dk_172 (dk_at dksX0_reason_0 21 rfl rfl)
theorem dX0_reason_22 : decode cX0_reason 22 = .ok (.iload_n 1, 1) := dk_27 (dk_at dksX0_reason_0 22 rfl rfl)
theorem dX0_reason_23 : decode cX0_reason 23 = .ok (.istore_n 3, 1) := dk_62 (dk_at dksX0_reason_0 23 rfl rfl)
theorem dX0_reason_24 : decode cX0_reason 24 = .ok (.iconst 0, 1) := dk_3 (dk_at dksX0_reason_1 0 rfl rfl)
theorem dX0_reason_25 : decode cX0_reason 25 = .ok (.istore 4, 2) := dk_54 4 (dk_at dksX0_reason_1 1 rfl rfl)
theorem dX0_reason_27 : decode cX0_reason 27 = .ok (.iload 4, 2) := dk_21 4 (dk_at dksX0_reason_1 3 rfl rfl)
theorem dX0_reason_29 : decode cX0_reason 29 = .ok (.iload_n 2, 1) := dk_28 (dk_at dksX0_reason_1 5 rfl rfl)
theorem dX0_reason_30 : decode cX0_reason 30 = .ok (.if_icmp .ge 24, 3) := dk_162 0 24 (dk_at dksX0_reason_1 6 rfl rfl)
theorem dX0_reason_33 : decode cX0_reason 33 = .ok (.iload_n 3, 1) := dk_29 (dk_at dksX0_reason_1 9 rfl rfl)
theorem dX0_reason_34 : decode cX0_reason 34 = .ok (.bipush (-5), 2) := dk_16 251 (dk_at dksX0_reason_1 10 rfl rfl)
theorem dX0_reason_36 : decode cX0_reason 36 = .ok (.if_icmp .eq 18, 3) := dk_159 0 18 (dk_at dksX0_reason_1 12 rfl rfl)
theorem dX0_reason_39 : decode cX0_reason 39 = .ok (.aload_n 0, 1) := dk_42 (dk_at dksX0_reason_1 15 rfl rfl)
theorem dX0_reason_40 : decode cX0_reason 40 = .ok (.getfield 37, 3) := dk_180 0 37 (dk_at dksX0_reason_1 16 rfl rfl)
theorem dX0_reason_43 : decode cX0_reason 43 = .ok (.iload_n 3, 1) := dk_29 (dk_at dksX0_reason_1 19 rfl rfl)
theorem dX0_reason_44 : decode cX0_reason 44 = .ok (.invokevirtual 242, 3) := dk_182 0 242 (dk_at dksX0_reason_1 20 rfl rfl)
theorem dX0_reason_47 : decode cX0_reason 47 = .ok (.istore_n 3, 1) := dk_62 (dk_at dksX0_reason_1 23 rfl rfl)
theorem dX0_reason_48 : decode cX0_reason 48 = .ok (.iinc 4 1, 3) := dk_132 4 1 (dk_at dksX0_reason_2 0 rfl rfl)
theorem dX0_reason_51 : decode cX0_reason 51 = .ok (.goto (-24), 3) := dk_167 255 232 (dk_at dksX0_reason_2 3 rfl rfl)
theorem dX0_reason_54 : decode cX0_reason 54 = .ok (.iload_n 3, 1) := dk_29 (dk_at dksX0_reason_2 6 rfl rfl)
theorem dX0_reason_55 : decode cX0_reason 55 = .ok (.bipush (-5), 2) := dk_16 251 (dk_at dksX0_reason_2 7 rfl rfl)
theorem dX0_reason_57 : decode cX0_reason 57 = .ok (.if_icmp .ne 8, 3) := dk_160 0 8 (dk_at dksX0_reason_2 9 rfl rfl)
theorem dX0_reason_60 : decode cX0_reason 60 = .ok (.bipush (-5), 2) := dk_16 251 (dk_at dksX0_reason_2 12 rfl rfl)
theorem dX0_reason_62 : decode cX0_reason 62 = .ok (.goto 14, 3) := dk_167 0 14 (dk_at dksX0_reason_2 14 rfl rfl)
theorem dX0_reason_65 : decode cX0_reason 65 = .ok (.aload_n 0, 1) := dk_42 (dk_at dksX0_reason_2 17 rfl rfl)
theorem dX0_reason_66 : decode cX0_reason 66 = .ok (.getfield 37, 3) := dk_180 0 37 (dk_at dksX0_reason_2 18 rfl rfl)
theorem dX0_reason_69 : decode cX0_reason 69 = .ok (.iload_n 3, 1) := dk_29 (dk_at dksX0_reason_2 21 rfl rfl)
theorem dX0_reason_70 : decode cX0_reason 70 = .ok (.invokevirtual 202, 3) := dk_182 0 202 (dk_at dksX0_reason_3 0 rfl rfl)
theorem dX0_reason_73 : decode cX0_reason 73 = .ok (.invokestatic 205, 3) := dk_184 0 205 (dk_at dksX0_reason_3 3 rfl rfl)
theorem dX0_reason_76 : decode cX0_reason 76 = .ok (.ireturn, 1) := dk_172 (dk_at dksX0_reason_3 6 rfl rfl)
abbrev cX0_changesWithout : ByteArray := prog_1_method_36_code
def yX0_changesWithout : MethodName := ⟨RX0, "changesWithout", "(I)I"⟩
def dkwX0_changesWithout_4 : List UInt8 := [132, 4, 1, 167, 255, 213, 29, 172]
abbrev dktX0_changesWithout_4 : List UInt8 := dkwX0_changesWithout_4 ++ []
def dkwX0_changesWithout_3 : List UInt8 := [21, 4, 182, 0, 188, 44, 21, 4, 182, 0, 188, 182, 0, 245, 153, 0, 7, 4, 167, 0, 4, 3, 96, 62]
abbrev dktX0_changesWithout_3 : List UInt8 := dkwX0_changesWithout_3 ++ dktX0_changesWithout_4
def dkwX0_changesWithout_2 : List UInt8 := [182, 0, 124, 3, 62, 3, 54, 4, 21, 4, 16, 16, 162, 0, 42, 29, 42, 180, 0, 37, 42, 180, 0, 37]
abbrev dktX0_changesWithout_2 : List UInt8 := dkwX0_changesWithout_2 ++ dktX0_changesWithout_3
def dkwX0_changesWithout_1 : List UInt8 := [42, 180, 0, 37, 182, 0, 81, 77, 44, 44, 180, 0, 55, 27, 185, 0, 64, 2, 0, 192, 0, 68, 5]
abbrev dktX0_changesWithout_1 : List UInt8 := dkwX0_changesWithout_1 ++ dktX0_changesWithout_2
def dkwX0_changesWithout_0 : List UInt8 := [42, 27, 182, 0, 113, 154, 0, 5, 2, 172, 42, 27, 182, 0, 116, 182, 0, 120, 154, 0, 6, 16, 251, 172]
abbrev dktX0_changesWithout_0 : List UInt8 := dkwX0_changesWithout_0 ++ dktX0_changesWithout_1
theorem dksX0_changesWithout_0 : cX0_changesWithout.data.toList.drop 0 = dktX0_changesWithout_0 := by decide +kernel
theorem dksX0_changesWithout_1 : cX0_changesWithout.data.toList.drop 24 = dktX0_changesWithout_1 := dk_seg dksX0_changesWithout_0 24 rfl rfl
theorem dksX0_changesWithout_2 : cX0_changesWithout.data.toList.drop 47 = dktX0_changesWithout_2 := dk_seg dksX0_changesWithout_1 23 rfl rfl
theorem dksX0_changesWithout_3 : cX0_changesWithout.data.toList.drop 71 = dktX0_changesWithout_3 := dk_seg dksX0_changesWithout_2 24 rfl rfl
theorem dksX0_changesWithout_4 : cX0_changesWithout.data.toList.drop 95 = dktX0_changesWithout_4 := dk_seg dksX0_changesWithout_3 24 rfl rfl
theorem dX0_changesWithout_0 : decode cX0_changesWithout 0 = .ok (.aload_n 0, 1) := dk_42 (dk_at dksX0_changesWithout_0 0 rfl rfl)
theorem dX0_changesWithout_1 : decode cX0_changesWithout 1 = .ok (.iload_n 1, 1) := dk_27 (dk_at dksX0_changesWithout_0 1 rfl rfl)
theorem dX0_changesWithout_2 : decode cX0_changesWithout 2 = .ok (.invokevirtual 113, 3) := dk_182 0 113 (dk_at dksX0_changesWithout_0 2 rfl rfl)
theorem dX0_changesWithout_5 : decode cX0_changesWithout 5 = .ok (.ifCond .ne 5, 3) := dk_154 0 5 (dk_at dksX0_changesWithout_0 5 rfl rfl)
theorem dX0_changesWithout_8 : decode cX0_changesWithout 8 = .ok (.iconst (-1), 1) := dk_2 (dk_at dksX0_changesWithout_0 8 rfl rfl)
theorem dX0_changesWithout_9 : decode cX0_changesWithout 9 = .ok (.ireturn, 1) := dk_172 (dk_at dksX0_changesWithout_0 9 rfl rfl)
theorem dX0_changesWithout_10 : decode cX0_changesWithout 10 = .ok (.aload_n 0, 1) := dk_42 (dk_at dksX0_changesWithout_0 10 rfl rfl)
theorem dX0_changesWithout_11 : decode cX0_changesWithout 11 = .ok (.iload_n 1, 1) := dk_27 (dk_at dksX0_changesWithout_0 11 rfl rfl)
theorem dX0_changesWithout_12 : decode cX0_changesWithout 12 = .ok (.invokevirtual 116, 3) := dk_182 0 116 (dk_at dksX0_changesWithout_0 12 rfl rfl)
theorem dX0_changesWithout_15 : decode cX0_changesWithout 15 = .ok (.invokevirtual 120, 3) := dk_182 0 120 (dk_at dksX0_changesWithout_0 15 rfl rfl)
theorem dX0_changesWithout_18 : decode cX0_changesWithout 18 = .ok (.ifCond .ne 6, 3) := dk_154 0 6 (dk_at dksX0_changesWithout_0 18 rfl rfl)
theorem dX0_changesWithout_21 : decode cX0_changesWithout 21 = .ok (.bipush (-5), 2) := dk_16 251 (dk_at dksX0_changesWithout_0 21 rfl rfl)
theorem dX0_changesWithout_23 : decode cX0_changesWithout 23 = .ok (.ireturn, 1) := dk_172 (dk_at dksX0_changesWithout_0 23 rfl rfl)
theorem dX0_changesWithout_24 : decode cX0_changesWithout 24 = .ok (.aload_n 0, 1) := dk_42 (dk_at dksX0_changesWithout_1 0 rfl rfl)
theorem dX0_changesWithout_25 : decode cX0_changesWithout 25 = .ok (.getfield 37, 3) := dk_180 0 37 (dk_at dksX0_changesWithout_1 1 rfl rfl)
theorem dX0_changesWithout_28 : decode cX0_changesWithout 28 = .ok (.invokevirtual 81, 3) := dk_182 0 81 (dk_at dksX0_changesWithout_1 4 rfl rfl)
theorem dX0_changesWithout_31 : decode cX0_changesWithout 31 = .ok (.astore_n 2, 1) := dk_77 (dk_at dksX0_changesWithout_1 7 rfl rfl)
theorem dX0_changesWithout_32 : decode cX0_changesWithout 32 = .ok (.aload_n 2, 1) := dk_44 (dk_at dksX0_changesWithout_1 8 rfl rfl)
theorem dX0_changesWithout_33 : decode cX0_changesWithout 33 = .ok (.aload_n 2, 1) := dk_44 (dk_at dksX0_changesWithout_1 9 rfl rfl)
theorem dX0_changesWithout_34 : decode cX0_changesWithout 34 = .ok (.getfield 55, 3) := dk_180 0 55 (dk_at dksX0_changesWithout_1 10 rfl rfl)
theorem dX0_changesWithout_37 : decode cX0_changesWithout 37 = .ok (.iload_n 1, 1) := dk_27 (dk_at dksX0_changesWithout_1 13 rfl rfl)
theorem dX0_changesWithout_38 : decode cX0_changesWithout 38 = .ok (.invokeinterface 64 2, 5) := by decide +kernel
theorem dX0_changesWithout_43 : decode cX0_changesWithout 43 = .ok (.checkcast 68, 3) := dk_192 0 68 (dk_at dksX0_changesWithout_1 19 rfl rfl)
theorem dX0_changesWithout_46 : decode cX0_changesWithout 46 = .ok (.iconst 2, 1) := dk_5 (dk_at dksX0_changesWithout_1 22 rfl rfl)
theorem dX0_changesWithout_47 : decode cX0_changesWithout 47 = .ok (.invokevirtual 124, 3) := dk_182 0 124 (dk_at dksX0_changesWithout_2 0 rfl rfl)
theorem dX0_changesWithout_50 : decode cX0_changesWithout 50 = .ok (.iconst 0, 1) := dk_3 (dk_at dksX0_changesWithout_2 3 rfl rfl)
theorem dX0_changesWithout_51 : decode cX0_changesWithout 51 = .ok (.istore_n 3, 1) := dk_62 (dk_at dksX0_changesWithout_2 4 rfl rfl)
theorem dX0_changesWithout_52 : decode cX0_changesWithout 52 = .ok (.iconst 0, 1) := dk_3 (dk_at dksX0_changesWithout_2 5 rfl rfl)
theorem dX0_changesWithout_53 : decode cX0_changesWithout 53 = .ok (.istore 4, 2) := dk_54 4 (dk_at dksX0_changesWithout_2 6 rfl rfl)
theorem dX0_changesWithout_55 : decode cX0_changesWithout 55 = .ok (.iload 4, 2) := dk_21 4 (dk_at dksX0_changesWithout_2 8 rfl rfl)
theorem dX0_changesWithout_57 : decode cX0_changesWithout 57 = .ok (.bipush 16, 2) := dk_16 16 (dk_at dksX0_changesWithout_2 10 rfl rfl)
theorem dX0_changesWithout_59 : decode cX0_changesWithout 59 = .ok (.if_icmp .ge 42, 3) := dk_162 0 42 (dk_at dksX0_changesWithout_2 12 rfl rfl)
theorem dX0_changesWithout_62 : decode cX0_changesWithout 62 = .ok (.iload_n 3, 1) := dk_29 (dk_at dksX0_changesWithout_2 15 rfl rfl)
theorem dX0_changesWithout_63 : decode cX0_changesWithout 63 = .ok (.aload_n 0, 1) := dk_42 (dk_at dksX0_changesWithout_2 16 rfl rfl)
theorem dX0_changesWithout_64 : decode cX0_changesWithout 64 = .ok (.getfield 37, 3) := dk_180 0 37 (dk_at dksX0_changesWithout_2 17 rfl rfl)
theorem dX0_changesWithout_67 : decode cX0_changesWithout 67 = .ok (.aload_n 0, 1) := dk_42 (dk_at dksX0_changesWithout_2 20 rfl rfl)
theorem dX0_changesWithout_68 : decode cX0_changesWithout 68 = .ok (.getfield 37, 3) := dk_180 0 37 (dk_at dksX0_changesWithout_2 21 rfl rfl)
theorem dX0_changesWithout_71 : decode cX0_changesWithout 71 = .ok (.iload 4, 2) := dk_21 4 (dk_at dksX0_changesWithout_3 0 rfl rfl)
theorem dX0_changesWithout_73 : decode cX0_changesWithout 73 = .ok (.invokevirtual 188, 3) := dk_182 0 188 (dk_at dksX0_changesWithout_3 2 rfl rfl)
theorem dX0_changesWithout_76 : decode cX0_changesWithout 76 = .ok (.aload_n 2, 1) := dk_44 (dk_at dksX0_changesWithout_3 5 rfl rfl)
theorem dX0_changesWithout_77 : decode cX0_changesWithout 77 = .ok (.iload 4, 2) := dk_21 4 (dk_at dksX0_changesWithout_3 6 rfl rfl)
theorem dX0_changesWithout_79 : decode cX0_changesWithout 79 = .ok (.invokevirtual 188, 3) := dk_182 0 188 (dk_at dksX0_changesWithout_3 8 rfl rfl)
theorem dX0_changesWithout_82 : decode cX0_changesWithout 82 = .ok (.invokevirtual 245, 3) := dk_182 0 245 (dk_at dksX0_changesWithout_3 11 rfl rfl)
theorem dX0_changesWithout_85 : decode cX0_changesWithout 85 = .ok (.ifCond .eq 7, 3) := dk_153 0 7 (dk_at dksX0_changesWithout_3 14 rfl rfl)
theorem dX0_changesWithout_88 : decode cX0_changesWithout 88 = .ok (.iconst 1, 1) := dk_4 (dk_at dksX0_changesWithout_3 17 rfl rfl)
theorem dX0_changesWithout_89 : decode cX0_changesWithout 89 = .ok (.goto 4, 3) := dk_167 0 4 (dk_at dksX0_changesWithout_3 18 rfl rfl)
theorem dX0_changesWithout_92 : decode cX0_changesWithout 92 = .ok (.iconst 0, 1) := dk_3 (dk_at dksX0_changesWithout_3 21 rfl rfl)
theorem dX0_changesWithout_93 : decode cX0_changesWithout 93 = .ok (.iadd, 1) := dk_96 (dk_at dksX0_changesWithout_3 22 rfl rfl)
theorem dX0_changesWithout_94 : decode cX0_changesWithout 94 = .ok (.istore_n 3, 1) := dk_62 (dk_at dksX0_changesWithout_3 23 rfl rfl)
theorem dX0_changesWithout_95 : decode cX0_changesWithout 95 = .ok (.iinc 4 1, 3) := dk_132 4 1 (dk_at dksX0_changesWithout_4 0 rfl rfl)
theorem dX0_changesWithout_98 : decode cX0_changesWithout 98 = .ok (.goto (-43), 3) := dk_167 255 213 (dk_at dksX0_changesWithout_4 3 rfl rfl)
theorem dX0_changesWithout_101 : decode cX0_changesWithout 101 = .ok (.iload_n 3, 1) := dk_29 (dk_at dksX0_changesWithout_4 6 rfl rfl)
theorem dX0_changesWithout_102 : decode cX0_changesWithout 102 = .ok (.ireturn, 1) := dk_172 (dk_at dksX0_changesWithout_4 7 rfl rfl)
abbrev cX0_stormsLeft : ByteArray := prog_1_method_37_code
def yX0_stormsLeft : MethodName := ⟨RX0, "stormsLeft", "(II)I"⟩
def dkwX0_stormsLeft_4 : List UInt8 := [167, 255, 210, 16, 251, 172]
abbrev dktX0_stormsLeft_4 : List UInt8 := dkwX0_stormsLeft_4 ++ []
def dkwX0_stormsLeft_3 : List UInt8 := [180, 0, 55, 27, 185, 0, 64, 2, 0, 192, 0, 68, 182, 0, 120, 154, 0, 6, 21, 5, 172, 132, 5, 1]
abbrev dktX0_stormsLeft_3 : List UInt8 := dkwX0_stormsLeft_3 ++ dktX0_stormsLeft_4
def dkwX0_stormsLeft_2 : List UInt8 := [54, 5, 21, 5, 17, 0, 200, 163, 0, 44, 21, 4, 45, 28, 184, 0, 14, 182, 0, 144, 96, 54, 4, 45]
abbrev dktX0_stormsLeft_2 : List UInt8 := dkwX0_stormsLeft_2 ++ dktX0_stormsLeft_3
def dkwX0_stormsLeft_1 : List UInt8 := [182, 0, 116, 182, 0, 120, 154, 0, 6, 16, 251, 172, 42, 180, 0, 37, 182, 0, 81, 78, 3, 54, 4, 4]
abbrev dktX0_stormsLeft_1 : List UInt8 := dkwX0_stormsLeft_1 ++ dktX0_stormsLeft_2
def dkwX0_stormsLeft_0 : List UInt8 := [42, 27, 182, 0, 113, 154, 0, 5, 2, 172, 28, 184, 0, 141, 154, 0, 6, 16, 254, 172, 42, 27]
abbrev dktX0_stormsLeft_0 : List UInt8 := dkwX0_stormsLeft_0 ++ dktX0_stormsLeft_1
theorem dksX0_stormsLeft_0 : cX0_stormsLeft.data.toList.drop 0 = dktX0_stormsLeft_0 := by decide +kernel
theorem dksX0_stormsLeft_1 : cX0_stormsLeft.data.toList.drop 22 = dktX0_stormsLeft_1 := dk_seg dksX0_stormsLeft_0 22 rfl rfl
theorem dksX0_stormsLeft_2 : cX0_stormsLeft.data.toList.drop 46 = dktX0_stormsLeft_2 := dk_seg dksX0_stormsLeft_1 24 rfl rfl
theorem dksX0_stormsLeft_3 : cX0_stormsLeft.data.toList.drop 70 = dktX0_stormsLeft_3 := dk_seg dksX0_stormsLeft_2 24 rfl rfl
theorem dksX0_stormsLeft_4 : cX0_stormsLeft.data.toList.drop 94 = dktX0_stormsLeft_4 := dk_seg dksX0_stormsLeft_3 24 rfl rfl
theorem dX0_stormsLeft_0 : decode cX0_stormsLeft 0 = .ok (.aload_n 0, 1) := dk_42 (dk_at dksX0_stormsLeft_0 0 rfl rfl)
theorem dX0_stormsLeft_1 : decode cX0_stormsLeft 1 = .ok (.iload_n 1, 1) := dk_27 (dk_at dksX0_stormsLeft_0 1 rfl rfl)
theorem dX0_stormsLeft_2 : decode cX0_stormsLeft 2 = .ok (.invokevirtual 113, 3) := dk_182 0 113 (dk_at dksX0_stormsLeft_0 2 rfl rfl)
theorem dX0_stormsLeft_5 : decode cX0_stormsLeft 5 = .ok (.ifCond .ne 5, 3) := dk_154 0 5 (dk_at dksX0_stormsLeft_0 5 rfl rfl)
theorem dX0_stormsLeft_8 : decode cX0_stormsLeft 8 = .ok (.iconst (-1), 1) := dk_2 (dk_at dksX0_stormsLeft_0 8 rfl rfl)
theorem dX0_stormsLeft_9 : decode cX0_stormsLeft 9 = .ok (.ireturn, 1) := dk_172 (dk_at dksX0_stormsLeft_0 9 rfl rfl)
theorem dX0_stormsLeft_10 : decode cX0_stormsLeft 10 = .ok (.iload_n 2, 1) := dk_28 (dk_at dksX0_stormsLeft_0 10 rfl rfl)
theorem dX0_stormsLeft_11 : decode cX0_stormsLeft 11 = .ok (.invokestatic 141, 3) := dk_184 0 141 (dk_at dksX0_stormsLeft_0 11 rfl rfl)
theorem dX0_stormsLeft_14 : decode cX0_stormsLeft 14 = .ok (.ifCond .ne 6, 3) := dk_154 0 6 (dk_at dksX0_stormsLeft_0 14 rfl rfl)
theorem dX0_stormsLeft_17 : decode cX0_stormsLeft 17 = .ok (.bipush (-2), 2) := dk_16 254 (dk_at dksX0_stormsLeft_0 17 rfl rfl)
theorem dX0_stormsLeft_19 : decode cX0_stormsLeft 19 = .ok (.ireturn, 1) := dk_172 (dk_at dksX0_stormsLeft_0 19 rfl rfl)
theorem dX0_stormsLeft_20 : decode cX0_stormsLeft 20 = .ok (.aload_n 0, 1) := dk_42 (dk_at dksX0_stormsLeft_0 20 rfl rfl)
theorem dX0_stormsLeft_21 : decode cX0_stormsLeft 21 = .ok (.iload_n 1, 1) := dk_27 (dk_at dksX0_stormsLeft_0 21 rfl rfl)
theorem dX0_stormsLeft_22 : decode cX0_stormsLeft 22 = .ok (.invokevirtual 116, 3) := dk_182 0 116 (dk_at dksX0_stormsLeft_1 0 rfl rfl)
theorem dX0_stormsLeft_25 : decode cX0_stormsLeft 25 = .ok (.invokevirtual 120, 3) := dk_182 0 120 (dk_at dksX0_stormsLeft_1 3 rfl rfl)
theorem dX0_stormsLeft_28 : decode cX0_stormsLeft 28 = .ok (.ifCond .ne 6, 3) := dk_154 0 6 (dk_at dksX0_stormsLeft_1 6 rfl rfl)
theorem dX0_stormsLeft_31 : decode cX0_stormsLeft 31 = .ok (.bipush (-5), 2) := dk_16 251 (dk_at dksX0_stormsLeft_1 9 rfl rfl)
theorem dX0_stormsLeft_33 : decode cX0_stormsLeft 33 = .ok (.ireturn, 1) := dk_172 (dk_at dksX0_stormsLeft_1 11 rfl rfl)
theorem dX0_stormsLeft_34 : decode cX0_stormsLeft 34 = .ok (.aload_n 0, 1) := dk_42 (dk_at dksX0_stormsLeft_1 12 rfl rfl)
theorem dX0_stormsLeft_35 : decode cX0_stormsLeft 35 = .ok (.getfield 37, 3) := dk_180 0 37 (dk_at dksX0_stormsLeft_1 13 rfl rfl)
theorem dX0_stormsLeft_38 : decode cX0_stormsLeft 38 = .ok (.invokevirtual 81, 3) := dk_182 0 81 (dk_at dksX0_stormsLeft_1 16 rfl rfl)
theorem dX0_stormsLeft_41 : decode cX0_stormsLeft 41 = .ok (.astore_n 3, 1) := dk_78 (dk_at dksX0_stormsLeft_1 19 rfl rfl)
theorem dX0_stormsLeft_42 : decode cX0_stormsLeft 42 = .ok (.iconst 0, 1) := dk_3 (dk_at dksX0_stormsLeft_1 20 rfl rfl)
theorem dX0_stormsLeft_43 : decode cX0_stormsLeft 43 = .ok (.istore 4, 2) := dk_54 4 (dk_at dksX0_stormsLeft_1 21 rfl rfl)
theorem dX0_stormsLeft_45 : decode cX0_stormsLeft 45 = .ok (.iconst 1, 1) := dk_4 (dk_at dksX0_stormsLeft_1 23 rfl rfl)
theorem dX0_stormsLeft_46 : decode cX0_stormsLeft 46 = .ok (.istore 5, 2) := dk_54 5 (dk_at dksX0_stormsLeft_2 0 rfl rfl)
theorem dX0_stormsLeft_48 : decode cX0_stormsLeft 48 = .ok (.iload 5, 2) := dk_21 5 (dk_at dksX0_stormsLeft_2 2 rfl rfl)
theorem dX0_stormsLeft_50 : decode cX0_stormsLeft 50 = .ok (.sipush 200, 3) := dk_17 0 200 (dk_at dksX0_stormsLeft_2 4 rfl rfl)
theorem dX0_stormsLeft_53 : decode cX0_stormsLeft 53 = .ok (.if_icmp .gt 44, 3) := dk_163 0 44 (dk_at dksX0_stormsLeft_2 7 rfl rfl)
theorem dX0_stormsLeft_56 : decode cX0_stormsLeft 56 = .ok (.iload 4, 2) := dk_21 4 (dk_at dksX0_stormsLeft_2 10 rfl rfl)
theorem dX0_stormsLeft_58 : decode cX0_stormsLeft 58 = .ok (.aload_n 3, 1) := dk_45 (dk_at dksX0_stormsLeft_2 12 rfl rfl)
theorem dX0_stormsLeft_59 : decode cX0_stormsLeft 59 = .ok (.iload_n 2, 1) := dk_28 (dk_at dksX0_stormsLeft_2 13 rfl rfl)
theorem dX0_stormsLeft_60 : decode cX0_stormsLeft 60 = .ok (.invokestatic 14, 3) := dk_184 0 14 (dk_at dksX0_stormsLeft_2 14 rfl rfl)
theorem dX0_stormsLeft_63 : decode cX0_stormsLeft 63 = .ok (.invokevirtual 144, 3) := dk_182 0 144 (dk_at dksX0_stormsLeft_2 17 rfl rfl)
theorem dX0_stormsLeft_66 : decode cX0_stormsLeft 66 = .ok (.iadd, 1) := dk_96 (dk_at dksX0_stormsLeft_2 20 rfl rfl)
theorem dX0_stormsLeft_67 : decode cX0_stormsLeft 67 = .ok (.istore 4, 2) := dk_54 4 (dk_at dksX0_stormsLeft_2 21 rfl rfl)
theorem dX0_stormsLeft_69 : decode cX0_stormsLeft 69 = .ok (.aload_n 3, 1) := dk_45 (dk_at dksX0_stormsLeft_2 23 rfl rfl)
theorem dX0_stormsLeft_70 : decode cX0_stormsLeft 70 = .ok (.getfield 55, 3) := dk_180 0 55 (dk_at dksX0_stormsLeft_3 0 rfl rfl)
theorem dX0_stormsLeft_73 : decode cX0_stormsLeft 73 = .ok (.iload_n 1, 1) := dk_27 (dk_at dksX0_stormsLeft_3 3 rfl rfl)
theorem dX0_stormsLeft_74 : decode cX0_stormsLeft 74 = .ok (.invokeinterface 64 2, 5) := by decide +kernel
theorem dX0_stormsLeft_79 : decode cX0_stormsLeft 79 = .ok (.checkcast 68, 3) := dk_192 0 68 (dk_at dksX0_stormsLeft_3 9 rfl rfl)
theorem dX0_stormsLeft_82 : decode cX0_stormsLeft 82 = .ok (.invokevirtual 120, 3) := dk_182 0 120 (dk_at dksX0_stormsLeft_3 12 rfl rfl)
theorem dX0_stormsLeft_85 : decode cX0_stormsLeft 85 = .ok (.ifCond .ne 6, 3) := dk_154 0 6 (dk_at dksX0_stormsLeft_3 15 rfl rfl)
theorem dX0_stormsLeft_88 : decode cX0_stormsLeft 88 = .ok (.iload 5, 2) := dk_21 5 (dk_at dksX0_stormsLeft_3 18 rfl rfl)
theorem dX0_stormsLeft_90 : decode cX0_stormsLeft 90 = .ok (.ireturn, 1) := dk_172 (dk_at dksX0_stormsLeft_3 20 rfl rfl)
theorem dX0_stormsLeft_91 : decode cX0_stormsLeft 91 = .ok (.iinc 5 1, 3) := dk_132 5 1 (dk_at dksX0_stormsLeft_3 21 rfl rfl)
theorem dX0_stormsLeft_94 : decode cX0_stormsLeft 94 = .ok (.goto (-46), 3) := dk_167 255 210 (dk_at dksX0_stormsLeft_4 0 rfl rfl)
theorem dX0_stormsLeft_97 : decode cX0_stormsLeft 97 = .ok (.bipush (-5), 2) := dk_16 251 (dk_at dksX0_stormsLeft_4 3 rfl rfl)
theorem dX0_stormsLeft_99 : decode cX0_stormsLeft 99 = .ok (.ireturn, 1) := dk_172 (dk_at dksX0_stormsLeft_4 5 rfl rfl)
abbrev cX0_person : ByteArray := prog_1_method_38_code
def yX0_person : MethodName := ⟨RX0, "person", "(II)I"⟩
def dkwX0_person_7 : List UInt8 := [21, 4, 167, 0, 4, 29, 172]
abbrev dktX0_person_7 : List UInt8 := dkwX0_person_7 ++ []
def dkwX0_person_6 : List UInt8 := [25, 6, 180, 0, 131, 120, 167, 0, 4, 3, 128, 54, 4, 132, 5, 1, 167, 255, 149, 28, 7, 160, 0, 8]
abbrev dktX0_person_6 : List UInt8 := dkwX0_person_6 ++ dktX0_person_7
def dkwX0_person_5 : List UInt8 := [25, 6, 166, 0, 7, 4, 167, 0, 4, 3, 96, 62, 21, 4, 25, 6, 182, 0, 120, 153, 0, 13, 4]
abbrev dktX0_person_5 : List UInt8 := dkwX0_person_5 ++ dktX0_person_6
def dkwX0_person_4 : List UInt8 := [182, 0, 120, 153, 0, 29, 28, 5, 159, 0, 20, 42, 180, 0, 37, 25, 6, 180, 0, 131, 182, 0, 202]
abbrev dktX0_person_4 : List UInt8 := dkwX0_person_4 ++ dktX0_person_5
def dkwX0_person_3 : List UInt8 := [58, 6, 25, 6, 180, 0, 223, 27, 159, 0, 6, 167, 0, 70, 29, 28, 4, 159, 0, 33, 25, 6]
abbrev dktX0_person_3 : List UInt8 := dkwX0_person_3 ++ dktX0_person_4
def dkwX0_person_2 : List UInt8 := [21, 5, 42, 180, 0, 37, 180, 0, 55, 185, 0, 58, 1, 0, 162, 0, 96, 42, 21, 5, 182, 0, 116]
abbrev dktX0_person_2 : List UInt8 := dkwX0_person_2 ++ dktX0_person_3
def dkwX0_person_1 : List UInt8 := [172, 28, 154, 0, 13, 42, 180, 0, 37, 180, 0, 85, 27, 46, 172, 3, 62, 3, 54, 4, 3, 54, 5]
abbrev dktX0_person_1 : List UInt8 := dkwX0_person_1 ++ dktX0_person_2
def dkwX0_person_0 : List UInt8 := [42, 180, 0, 37, 27, 182, 0, 93, 154, 0, 5, 2, 172, 28, 3, 7, 184, 0, 3, 154, 0, 6, 16, 254]
abbrev dktX0_person_0 : List UInt8 := dkwX0_person_0 ++ dktX0_person_1
theorem dksX0_person_0 : cX0_person.data.toList.drop 0 = dktX0_person_0 := by decide +kernel
theorem dksX0_person_1 : cX0_person.data.toList.drop 24 = dktX0_person_1 := dk_seg dksX0_person_0 24 rfl rfl
theorem dksX0_person_2 : cX0_person.data.toList.drop 47 = dktX0_person_2 := dk_seg dksX0_person_1 23 rfl rfl
theorem dksX0_person_3 : cX0_person.data.toList.drop 70 = dktX0_person_3 := dk_seg dksX0_person_2 23 rfl rfl
theorem dksX0_person_4 : cX0_person.data.toList.drop 92 = dktX0_person_4 := dk_seg dksX0_person_3 22 rfl rfl
theorem dksX0_person_5 : cX0_person.data.toList.drop 115 = dktX0_person_5 := dk_seg dksX0_person_4 23 rfl rfl
theorem dksX0_person_6 : cX0_person.data.toList.drop 138 = dktX0_person_6 := dk_seg dksX0_person_5 23 rfl rfl
theorem dksX0_person_7 : cX0_person.data.toList.drop 162 = dktX0_person_7 := dk_seg dksX0_person_6 24 rfl rfl
theorem dX0_person_0 : decode cX0_person 0 = .ok (.aload_n 0, 1) := dk_42 (dk_at dksX0_person_0 0 rfl rfl)
theorem dX0_person_1 : decode cX0_person 1 = .ok (.getfield 37, 3) := dk_180 0 37 (dk_at dksX0_person_0 1 rfl rfl)
theorem dX0_person_4 : decode cX0_person 4 = .ok (.iload_n 1, 1) := dk_27 (dk_at dksX0_person_0 4 rfl rfl)
theorem dX0_person_5 : decode cX0_person 5 = .ok (.invokevirtual 93, 3) := dk_182 0 93 (dk_at dksX0_person_0 5 rfl rfl)
theorem dX0_person_8 : decode cX0_person 8 = .ok (.ifCond .ne 5, 3) := dk_154 0 5 (dk_at dksX0_person_0 8 rfl rfl)
theorem dX0_person_11 : decode cX0_person 11 = .ok (.iconst (-1), 1) := dk_2 (dk_at dksX0_person_0 11 rfl rfl)
theorem dX0_person_12 : decode cX0_person 12 = .ok (.ireturn, 1) := dk_172 (dk_at dksX0_person_0 12 rfl rfl)
theorem dX0_person_13 : decode cX0_person 13 = .ok (.iload_n 2, 1) := dk_28 (dk_at dksX0_person_0 13 rfl rfl)
theorem dX0_person_14 : decode cX0_person 14 = .ok (.iconst 0, 1) := dk_3 (dk_at dksX0_person_0 14 rfl rfl)
theorem dX0_person_15 : decode cX0_person 15 = .ok (.iconst 4, 1) := dk_7 (dk_at dksX0_person_0 15 rfl rfl)
theorem dX0_person_16 : decode cX0_person 16 = .ok (.invokestatic 3, 3) := dk_184 0 3 (dk_at dksX0_person_0 16 rfl rfl)
theorem dX0_person_19 : decode cX0_person 19 = .ok (.ifCond .ne 6, 3) := dk_154 0 6 (dk_at dksX0_person_0 19 rfl rfl)
theorem dX0_person_22 : decode cX0_person 22 = .ok (.bipush (-2), 2) := dk_16 254 (dk_at dksX0_person_0 22 rfl rfl)
theorem dX0_person_24 : decode cX0_person 24 = .ok (.ireturn, 1) := dk_172 (dk_at dksX0_person_1 0 rfl rfl)
theorem dX0_person_25 : decode cX0_person 25 = .ok (.iload_n 2, 1) := dk_28 (dk_at dksX0_person_1 1 rfl rfl)
theorem dX0_person_26 : decode cX0_person 26 = .ok (.ifCond .ne 13, 3) := dk_154 0 13 (dk_at dksX0_person_1 2 rfl rfl)
theorem dX0_person_29 : decode cX0_person 29 = .ok (.aload_n 0, 1) := dk_42 (dk_at dksX0_person_1 5 rfl rfl)
theorem dX0_person_30 : decode cX0_person 30 = .ok (.getfield 37, 3) := dk_180 0 37 (dk_at dksX0_person_1 6 rfl rfl)
theorem dX0_person_33 : decode cX0_person 33 = .ok (.getfield 85, 3) := dk_180 0 85 (dk_at dksX0_person_1 9 rfl rfl)
theorem dX0_person_36 : decode cX0_person 36 = .ok (.iload_n 1, 1) := dk_27 (dk_at dksX0_person_1 12 rfl rfl)
theorem dX0_person_37 : decode cX0_person 37 = .ok (.iaload, 1) := dk_46 (dk_at dksX0_person_1 13 rfl rfl)
theorem dX0_person_38 : decode cX0_person 38 = .ok (.ireturn, 1) := dk_172 (dk_at dksX0_person_1 14 rfl rfl)
theorem dX0_person_39 : decode cX0_person 39 = .ok (.iconst 0, 1) := dk_3 (dk_at dksX0_person_1 15 rfl rfl)
theorem dX0_person_40 : decode cX0_person 40 = .ok (.istore_n 3, 1) := dk_62 (dk_at dksX0_person_1 16 rfl rfl)
theorem dX0_person_41 : decode cX0_person 41 = .ok (.iconst 0, 1) := dk_3 (dk_at dksX0_person_1 17 rfl rfl)
theorem dX0_person_42 : decode cX0_person 42 = .ok (.istore 4, 2) := dk_54 4 (dk_at dksX0_person_1 18 rfl rfl)
theorem dX0_person_44 : decode cX0_person 44 = .ok (.iconst 0, 1) := dk_3 (dk_at dksX0_person_1 20 rfl rfl)
theorem dX0_person_45 : decode cX0_person 45 = .ok (.istore 5, 2) := dk_54 5 (dk_at dksX0_person_1 21 rfl rfl)
theorem dX0_person_47 : decode cX0_person 47 = .ok (.iload 5, 2) := dk_21 5 (dk_at dksX0_person_2 0 rfl rfl)
theorem dX0_person_49 : decode cX0_person 49 = .ok (.aload_n 0, 1) := dk_42 (dk_at dksX0_person_2 2 rfl rfl)
theorem dX0_person_50 : decode cX0_person 50 = .ok (.getfield 37, 3) := dk_180 0 37 (dk_at dksX0_person_2 3 rfl rfl)
theorem dX0_person_53 : decode cX0_person 53 = .ok (.getfield 55, 3) := dk_180 0 55 (dk_at dksX0_person_2 6 rfl rfl)
theorem dX0_person_56 : decode cX0_person 56 = .ok (.invokeinterface 58 1, 5) := by decide +kernel
theorem dX0_person_61 : decode cX0_person 61 = .ok (.if_icmp .ge 96, 3) := dk_162 0 96 (dk_at dksX0_person_2 14 rfl rfl)
theorem dX0_person_64 : decode cX0_person 64 = .ok (.aload_n 0, 1) := dk_42 (dk_at dksX0_person_2 17 rfl rfl)
theorem dX0_person_65 : decode cX0_person 65 = .ok (.iload 5, 2) := dk_21 5 (dk_at dksX0_person_2 18 rfl rfl)
theorem dX0_person_67 : decode cX0_person 67 = .ok (.invokevirtual 116, 3) := dk_182 0 116 (dk_at dksX0_person_2 20 rfl rfl)
theorem dX0_person_70 : decode cX0_person 70 = .ok (.astore 6, 2) := dk_58 6 (dk_at dksX0_person_3 0 rfl rfl)
theorem dX0_person_72 : decode cX0_person 72 = .ok (.aload 6, 2) := dk_25 6 (dk_at dksX0_person_3 2 rfl rfl)
theorem dX0_person_74 : decode cX0_person 74 = .ok (.getfield 223, 3) := dk_180 0 223 (dk_at dksX0_person_3 4 rfl rfl)
theorem dX0_person_77 : decode cX0_person 77 = .ok (.iload_n 1, 1) := dk_27 (dk_at dksX0_person_3 7 rfl rfl)
theorem dX0_person_78 : decode cX0_person 78 = .ok (.if_icmp .eq 6, 3) := dk_159 0 6 (dk_at dksX0_person_3 8 rfl rfl)
theorem dX0_person_81 : decode cX0_person 81 = .ok (.goto 70, 3) := dk_167 0 70 (dk_at dksX0_person_3 11 rfl rfl)
theorem dX0_person_84 : decode cX0_person 84 = .ok (.iload_n 3, 1) := dk_29 (dk_at dksX0_person_3 14 rfl rfl)
theorem dX0_person_85 : decode cX0_person 85 = .ok (.iload_n 2, 1) := dk_28 (dk_at dksX0_person_3 15 rfl rfl)
theorem dX0_person_86 : decode cX0_person 86 = .ok (.iconst 1, 1) := dk_4 (dk_at dksX0_person_3 16 rfl rfl)
theorem dX0_person_87 : decode cX0_person 87 = .ok (.if_icmp .eq 33, 3) := dk_159 0 33 (dk_at dksX0_person_3 17 rfl rfl)
theorem dX0_person_90 : decode cX0_person 90 = .ok (.aload 6, 2) := dk_25 6 (dk_at dksX0_person_3 20 rfl rfl)
theorem dX0_person_92 : decode cX0_person 92 = .ok (.invokevirtual 120, 3) := dk_182 0 120 (dk_at dksX0_person_4 0 rfl rfl)
theorem dX0_person_95 : decode cX0_person 95 = .ok (.ifCond .eq 29, 3) := dk_153 0 29 (dk_at dksX0_person_4 3 rfl rfl)
theorem dX0_person_98 : decode cX0_person 98 = .ok (.iload_n 2, 1) := dk_28 (dk_at dksX0_person_4 6 rfl rfl)
theorem dX0_person_99 : decode cX0_person 99 = .ok (.iconst 2, 1) := dk_5 (dk_at dksX0_person_4 7 rfl rfl)
theorem dX0_person_100 : decode cX0_person 100 = .ok (.if_icmp .eq 20, 3) := dk_159 0 20 (dk_at dksX0_person_4 8 rfl rfl)
theorem dX0_person_103 : decode cX0_person 103 = .ok (.aload_n 0, 1) := dk_42 (dk_at dksX0_person_4 11 rfl rfl)
theorem dX0_person_104 : decode cX0_person 104 = .ok (.getfield 37, 3) := dk_180 0 37 (dk_at dksX0_person_4 12 rfl rfl)
theorem dX0_person_107 : decode cX0_person 107 = .ok (.aload 6, 2) := dk_25 6 (dk_at dksX0_person_4 15 rfl rfl)
theorem dX0_person_109 : decode cX0_person 109 = .ok (.getfield 131, 3) := dk_180 0 131 (dk_at dksX0_person_4 17 rfl rfl)
theorem dX0_person_112 : decode cX0_person 112 = .ok (.invokevirtual 202, 3) := dk_182 0 202 (dk_at dksX0_person_4 20 rfl rfl)
theorem dX0_person_115 : decode cX0_person 115 = .ok (.aload 6, 2) := dk_25 6 (dk_at dksX0_person_5 0 rfl rfl)
theorem dX0_person_117 : decode cX0_person 117 = .ok (.if_acmp .ne 7, 3) := dk_166 0 7 (dk_at dksX0_person_5 2 rfl rfl)
theorem dX0_person_120 : decode cX0_person 120 = .ok (.iconst 1, 1) := dk_4 (dk_at dksX0_person_5 5 rfl rfl)
theorem dX0_person_121 : decode cX0_person 121 = .ok (.goto 4, 3) := dk_167 0 4 (dk_at dksX0_person_5 6 rfl rfl)
theorem dX0_person_124 : decode cX0_person 124 = .ok (.iconst 0, 1) := dk_3 (dk_at dksX0_person_5 9 rfl rfl)
theorem dX0_person_125 : decode cX0_person 125 = .ok (.iadd, 1) := dk_96 (dk_at dksX0_person_5 10 rfl rfl)
theorem dX0_person_126 : decode cX0_person 126 = .ok (.istore_n 3, 1) := dk_62 (dk_at dksX0_person_5 11 rfl rfl)
theorem dX0_person_127 : decode cX0_person 127 = .ok (.iload 4, 2) := dk_21 4 (dk_at dksX0_person_5 12 rfl rfl)
theorem dX0_person_129 : decode cX0_person 129 = .ok (.aload 6, 2) := dk_25 6 (dk_at dksX0_person_5 14 rfl rfl)
theorem dX0_person_131 : decode cX0_person 131 = .ok (.invokevirtual 120, 3) := dk_182 0 120 (dk_at dksX0_person_5 16 rfl rfl)
theorem dX0_person_134 : decode cX0_person 134 = .ok (.ifCond .eq 13, 3) := dk_153 0 13 (dk_at dksX0_person_5 19 rfl rfl)
theorem dX0_person_137 : decode cX0_person 137 = .ok (.iconst 1, 1) := dk_4 (dk_at dksX0_person_5 22 rfl rfl)
theorem dX0_person_138 : decode cX0_person 138 = .ok (.aload 6, 2) := dk_25 6 (dk_at dksX0_person_6 0 rfl rfl)
theorem dX0_person_140 : decode cX0_person 140 = .ok (.getfield 131, 3) := dk_180 0 131 (dk_at dksX0_person_6 2 rfl rfl)
theorem dX0_person_143 : decode cX0_person 143 = .ok (.ishl, 1) := dk_120 (dk_at dksX0_person_6 5 rfl rfl)
theorem dX0_person_144 : decode cX0_person 144 = .ok (.goto 4, 3) := dk_167 0 4 (dk_at dksX0_person_6 6 rfl rfl)
theorem dX0_person_147 : decode cX0_person 147 = .ok (.iconst 0, 1) := dk_3 (dk_at dksX0_person_6 9 rfl rfl)
theorem dX0_person_148 : decode cX0_person 148 = .ok (.ior, 1) := dk_128 (dk_at dksX0_person_6 10 rfl rfl)
theorem dX0_person_149 : decode cX0_person 149 = .ok (.istore 4, 2) := dk_54 4 (dk_at dksX0_person_6 11 rfl rfl)
theorem dX0_person_151 : decode cX0_person 151 = .ok (.iinc 5 1, 3) := dk_132 5 1 (dk_at dksX0_person_6 13 rfl rfl)
theorem dX0_person_154 : decode cX0_person 154 = .ok (.goto (-107), 3) := dk_167 255 149 (dk_at dksX0_person_6 16 rfl rfl)
theorem dX0_person_157 : decode cX0_person 157 = .ok (.iload_n 2, 1) := dk_28 (dk_at dksX0_person_6 19 rfl rfl)
theorem dX0_person_158 : decode cX0_person 158 = .ok (.iconst 4, 1) := dk_7 (dk_at dksX0_person_6 20 rfl rfl)
theorem dX0_person_159 : decode cX0_person 159 = .ok (.if_icmp .ne 8, 3) := dk_160 0 8 (dk_at dksX0_person_6 21 rfl rfl)
theorem dX0_person_162 : decode cX0_person 162 = .ok (.iload 4, 2) := dk_21 4 (dk_at dksX0_person_7 0 rfl rfl)
theorem dX0_person_164 : decode cX0_person 164 = .ok (.goto 4, 3) := dk_167 0 4 (dk_at dksX0_person_7 2 rfl rfl)
theorem dX0_person_167 : decode cX0_person 167 = .ok (.iload_n 3, 1) := dk_29 (dk_at dksX0_person_7 5 rfl rfl)
theorem dX0_person_168 : decode cX0_person 168 = .ok (.ireturn, 1) := dk_172 (dk_at dksX0_person_7 6 rfl rfl)
abbrev cX0_count : ByteArray := prog_1_method_41_code
def yX0_count : MethodName := ⟨RX0, "count", "(I)I"⟩
def dkwX0_count_5 : List UInt8 := [180, 0, 44, 185, 0, 58, 1, 0, 172, 42, 180, 0, 51, 182, 0, 147, 172, 16, 254, 172]
abbrev dktX0_count_5 : List UInt8 := dkwX0_count_5 ++ []
def dkwX0_count_4 : List UInt8 := [182, 1, 2, 172, 42, 180, 0, 37, 180, 1, 5, 172, 42, 180, 0, 37, 180, 0, 97, 184, 0, 101, 172, 42]
abbrev dktX0_count_4 : List UInt8 := dkwX0_count_4 ++ dktX0_count_5
def dkwX0_count_3 : List UInt8 := [180, 0, 37, 182, 0, 182, 172, 42, 4, 182, 0, 255, 172, 42, 5, 182, 0, 255, 172, 42, 27, 8, 100]
abbrev dktX0_count_3 : List UInt8 := dkwX0_count_3 ++ dktX0_count_4
def dkwX0_count_2 : List UInt8 := [42, 180, 0, 37, 180, 0, 77, 172, 42, 180, 0, 37, 180, 0, 55, 185, 0, 58, 1, 0, 172, 42]
abbrev dktX0_count_2 : List UInt8 := dkwX0_count_2 ++ dktX0_count_3
def dkwX0_count_1 : List UInt8 := [170, 0, 0, 0, 0, 0, 153, 0, 0, 0, 0, 0, 0, 0, 12, 0, 0, 0, 67, 0, 0, 0, 75, 0, 0, 0, 88, 0, 0, 0, 96, 0, 0, 0, 102, 0, 0, 0, 108, 0, 0, 0, 108, 0, 0, 0, 108, 0, 0, 0, 108, 0, 0, 0, 116, 0, 0, 0, 124, 0, 0, 0, 135, 0, 0, 0, 145]
abbrev dktX0_count_1 : List UInt8 := dkwX0_count_1 ++ dktX0_count_2
def dkwX0_count_0 : List UInt8 := [27]
abbrev dktX0_count_0 : List UInt8 := dkwX0_count_0 ++ dktX0_count_1
theorem dksX0_count_0 : cX0_count.data.toList.drop 0 = dktX0_count_0 := by decide +kernel
theorem dksX0_count_1 : cX0_count.data.toList.drop 1 = dktX0_count_1 := dk_seg dksX0_count_0 1 rfl rfl
theorem dksX0_count_2 : cX0_count.data.toList.drop 68 = dktX0_count_2 := dk_seg dksX0_count_1 67 rfl rfl
theorem dksX0_count_3 : cX0_count.data.toList.drop 90 = dktX0_count_3 := dk_seg dksX0_count_2 22 rfl rfl
theorem dksX0_count_4 : cX0_count.data.toList.drop 113 = dktX0_count_4 := dk_seg dksX0_count_3 23 rfl rfl
theorem dksX0_count_5 : cX0_count.data.toList.drop 137 = dktX0_count_5 := dk_seg dksX0_count_4 24 rfl rfl
theorem dX0_count_0 : decode cX0_count 0 = .ok (.iload_n 1, 1) := dk_27 (dk_at dksX0_count_0 0 rfl rfl)
theorem dX0_count_1 : decode cX0_count 1 = .ok (.tableswitch 153 0 12 #[67, 75, 88, 96, 102, 108, 108, 108, 108, 116, 124, 135, 145], 67) := by decide +kernel
theorem dX0_count_68 : decode cX0_count 68 = .ok (.aload_n 0, 1) := dk_42 (dk_at dksX0_count_2 0 rfl rfl)
theorem dX0_count_69 : decode cX0_count 69 = .ok (.getfield 37, 3) := dk_180 0 37 (dk_at dksX0_count_2 1 rfl rfl)
theorem dX0_count_72 : decode cX0_count 72 = .ok (.getfield 77, 3) := dk_180 0 77 (dk_at dksX0_count_2 4 rfl rfl)
theorem dX0_count_75 : decode cX0_count 75 = .ok (.ireturn, 1) := dk_172 (dk_at dksX0_count_2 7 rfl rfl)
theorem dX0_count_76 : decode cX0_count 76 = .ok (.aload_n 0, 1) := dk_42 (dk_at dksX0_count_2 8 rfl rfl)
theorem dX0_count_77 : decode cX0_count 77 = .ok (.getfield 37, 3) := dk_180 0 37 (dk_at dksX0_count_2 9 rfl rfl)
theorem dX0_count_80 : decode cX0_count 80 = .ok (.getfield 55, 3) := dk_180 0 55 (dk_at dksX0_count_2 12 rfl rfl)
theorem dX0_count_83 : decode cX0_count 83 = .ok (.invokeinterface 58 1, 5) := by decide +kernel
theorem dX0_count_88 : decode cX0_count 88 = .ok (.ireturn, 1) := dk_172 (dk_at dksX0_count_2 20 rfl rfl)
theorem dX0_count_89 : decode cX0_count 89 = .ok (.aload_n 0, 1) := dk_42 (dk_at dksX0_count_2 21 rfl rfl)
theorem dX0_count_90 : decode cX0_count 90 = .ok (.getfield 37, 3) := dk_180 0 37 (dk_at dksX0_count_3 0 rfl rfl)
theorem dX0_count_93 : decode cX0_count 93 = .ok (.invokevirtual 182, 3) := dk_182 0 182 (dk_at dksX0_count_3 3 rfl rfl)
theorem dX0_count_96 : decode cX0_count 96 = .ok (.ireturn, 1) := dk_172 (dk_at dksX0_count_3 6 rfl rfl)
theorem dX0_count_97 : decode cX0_count 97 = .ok (.aload_n 0, 1) := dk_42 (dk_at dksX0_count_3 7 rfl rfl)
theorem dX0_count_98 : decode cX0_count 98 = .ok (.iconst 1, 1) := dk_4 (dk_at dksX0_count_3 8 rfl rfl)
theorem dX0_count_99 : decode cX0_count 99 = .ok (.invokevirtual 255, 3) := dk_182 0 255 (dk_at dksX0_count_3 9 rfl rfl)
theorem dX0_count_102 : decode cX0_count 102 = .ok (.ireturn, 1) := dk_172 (dk_at dksX0_count_3 12 rfl rfl)
theorem dX0_count_103 : decode cX0_count 103 = .ok (.aload_n 0, 1) := dk_42 (dk_at dksX0_count_3 13 rfl rfl)
theorem dX0_count_104 : decode cX0_count 104 = .ok (.iconst 2, 1) := dk_5 (dk_at dksX0_count_3 14 rfl rfl)
theorem dX0_count_105 : decode cX0_count 105 = .ok (.invokevirtual 255, 3) := dk_182 0 255 (dk_at dksX0_count_3 15 rfl rfl)
theorem dX0_count_108 : decode cX0_count 108 = .ok (.ireturn, 1) := dk_172 (dk_at dksX0_count_3 18 rfl rfl)
theorem dX0_count_109 : decode cX0_count 109 = .ok (.aload_n 0, 1) := dk_42 (dk_at dksX0_count_3 19 rfl rfl)
theorem dX0_count_110 : decode cX0_count 110 = .ok (.iload_n 1, 1) := dk_27 (dk_at dksX0_count_3 20 rfl rfl)
theorem dX0_count_111 : decode cX0_count 111 = .ok (.iconst 5, 1) := dk_8 (dk_at dksX0_count_3 21 rfl rfl)
theorem dX0_count_112 : decode cX0_count 112 = .ok (.isub, 1) := dk_100 (dk_at dksX0_count_3 22 rfl rfl)
theorem dX0_count_113 : decode cX0_count 113 = .ok (.invokevirtual 258, 3) := dk_182 1 2 (dk_at dksX0_count_4 0 rfl rfl)
theorem dX0_count_116 : decode cX0_count 116 = .ok (.ireturn, 1) := dk_172 (dk_at dksX0_count_4 3 rfl rfl)
theorem dX0_count_117 : decode cX0_count 117 = .ok (.aload_n 0, 1) := dk_42 (dk_at dksX0_count_4 4 rfl rfl)
theorem dX0_count_118 : decode cX0_count 118 = .ok (.getfield 37, 3) := dk_180 0 37 (dk_at dksX0_count_4 5 rfl rfl)
theorem dX0_count_121 : decode cX0_count 121 = .ok (.getfield 261, 3) := dk_180 1 5 (dk_at dksX0_count_4 8 rfl rfl)
theorem dX0_count_124 : decode cX0_count 124 = .ok (.ireturn, 1) := dk_172 (dk_at dksX0_count_4 11 rfl rfl)
theorem dX0_count_125 : decode cX0_count 125 = .ok (.aload_n 0, 1) := dk_42 (dk_at dksX0_count_4 12 rfl rfl)
theorem dX0_count_126 : decode cX0_count 126 = .ok (.getfield 37, 3) := dk_180 0 37 (dk_at dksX0_count_4 13 rfl rfl)
theorem dX0_count_129 : decode cX0_count 129 = .ok (.getfield 97, 3) := dk_180 0 97 (dk_at dksX0_count_4 16 rfl rfl)
theorem dX0_count_132 : decode cX0_count 132 = .ok (.invokestatic 101, 3) := dk_184 0 101 (dk_at dksX0_count_4 19 rfl rfl)
theorem dX0_count_135 : decode cX0_count 135 = .ok (.ireturn, 1) := dk_172 (dk_at dksX0_count_4 22 rfl rfl)
theorem dX0_count_136 : decode cX0_count 136 = .ok (.aload_n 0, 1) := dk_42 (dk_at dksX0_count_4 23 rfl rfl)
theorem dX0_count_137 : decode cX0_count 137 = .ok (.getfield 44, 3) := dk_180 0 44 (dk_at dksX0_count_5 0 rfl rfl)
theorem dX0_count_140 : decode cX0_count 140 = .ok (.invokeinterface 58 1, 5) := by decide +kernel
theorem dX0_count_145 : decode cX0_count 145 = .ok (.ireturn, 1) := dk_172 (dk_at dksX0_count_5 8 rfl rfl)
theorem dX0_count_146 : decode cX0_count 146 = .ok (.aload_n 0, 1) := dk_42 (dk_at dksX0_count_5 9 rfl rfl)
theorem dX0_count_147 : decode cX0_count 147 = .ok (.getfield 51, 3) := dk_180 0 51 (dk_at dksX0_count_5 10 rfl rfl)
theorem dX0_count_150 : decode cX0_count 150 = .ok (.invokevirtual 147, 3) := dk_182 0 147 (dk_at dksX0_count_5 13 rfl rfl)
theorem dX0_count_153 : decode cX0_count 153 = .ok (.ireturn, 1) := dk_172 (dk_at dksX0_count_5 16 rfl rfl)
theorem dX0_count_154 : decode cX0_count 154 = .ok (.bipush (-2), 2) := dk_16 254 (dk_at dksX0_count_5 17 rfl rfl)
theorem dX0_count_156 : decode cX0_count 156 = .ok (.ireturn, 1) := dk_172 (dk_at dksX0_count_5 19 rfl rfl)
abbrev cX0_ordersThat : ByteArray := prog_1_method_39_code
def yX0_ordersThat : MethodName := ⟨RX0, "ordersThat", "(I)I"⟩
def dkwX0_ordersThat_2 : List UInt8 := [172]
abbrev dktX0_ordersThat_2 : List UInt8 := dkwX0_ordersThat_2 ++ []
def dkwX0_ordersThat_1 : List UInt8 := [182, 0, 116, 180, 0, 249, 27, 160, 0, 7, 4, 167, 0, 4, 3, 96, 61, 132, 3, 1, 167, 255, 217, 28]
abbrev dktX0_ordersThat_1 : List UInt8 := dkwX0_ordersThat_1 ++ dktX0_ordersThat_2
def dkwX0_ordersThat_0 : List UInt8 := [3, 61, 3, 62, 29, 42, 180, 0, 37, 180, 0, 55, 185, 0, 58, 1, 0, 162, 0, 29, 28, 42, 29]
abbrev dktX0_ordersThat_0 : List UInt8 := dkwX0_ordersThat_0 ++ dktX0_ordersThat_1
theorem dksX0_ordersThat_0 : cX0_ordersThat.data.toList.drop 0 = dktX0_ordersThat_0 := by decide +kernel
theorem dksX0_ordersThat_1 : cX0_ordersThat.data.toList.drop 23 = dktX0_ordersThat_1 := dk_seg dksX0_ordersThat_0 23 rfl rfl
theorem dksX0_ordersThat_2 : cX0_ordersThat.data.toList.drop 47 = dktX0_ordersThat_2 := dk_seg dksX0_ordersThat_1 24 rfl rfl
theorem dX0_ordersThat_0 : decode cX0_ordersThat 0 = .ok (.iconst 0, 1) := dk_3 (dk_at dksX0_ordersThat_0 0 rfl rfl)
theorem dX0_ordersThat_1 : decode cX0_ordersThat 1 = .ok (.istore_n 2, 1) := dk_61 (dk_at dksX0_ordersThat_0 1 rfl rfl)
theorem dX0_ordersThat_2 : decode cX0_ordersThat 2 = .ok (.iconst 0, 1) := dk_3 (dk_at dksX0_ordersThat_0 2 rfl rfl)
theorem dX0_ordersThat_3 : decode cX0_ordersThat 3 = .ok (.istore_n 3, 1) := dk_62 (dk_at dksX0_ordersThat_0 3 rfl rfl)
theorem dX0_ordersThat_4 : decode cX0_ordersThat 4 = .ok (.iload_n 3, 1) := dk_29 (dk_at dksX0_ordersThat_0 4 rfl rfl)
theorem dX0_ordersThat_5 : decode cX0_ordersThat 5 = .ok (.aload_n 0, 1) := dk_42 (dk_at dksX0_ordersThat_0 5 rfl rfl)
theorem dX0_ordersThat_6 : decode cX0_ordersThat 6 = .ok (.getfield 37, 3) := dk_180 0 37 (dk_at dksX0_ordersThat_0 6 rfl rfl)
theorem dX0_ordersThat_9 : decode cX0_ordersThat 9 = .ok (.getfield 55, 3) := dk_180 0 55 (dk_at dksX0_ordersThat_0 9 rfl rfl)
theorem dX0_ordersThat_12 : decode cX0_ordersThat 12 = .ok (.invokeinterface 58 1, 5) := by decide +kernel
theorem dX0_ordersThat_17 : decode cX0_ordersThat 17 = .ok (.if_icmp .ge 29, 3) := dk_162 0 29 (dk_at dksX0_ordersThat_0 17 rfl rfl)
theorem dX0_ordersThat_20 : decode cX0_ordersThat 20 = .ok (.iload_n 2, 1) := dk_28 (dk_at dksX0_ordersThat_0 20 rfl rfl)
theorem dX0_ordersThat_21 : decode cX0_ordersThat 21 = .ok (.aload_n 0, 1) := dk_42 (dk_at dksX0_ordersThat_0 21 rfl rfl)
theorem dX0_ordersThat_22 : decode cX0_ordersThat 22 = .ok (.iload_n 3, 1) := dk_29 (dk_at dksX0_ordersThat_0 22 rfl rfl)
theorem dX0_ordersThat_23 : decode cX0_ordersThat 23 = .ok (.invokevirtual 116, 3) := dk_182 0 116 (dk_at dksX0_ordersThat_1 0 rfl rfl)
theorem dX0_ordersThat_26 : decode cX0_ordersThat 26 = .ok (.getfield 249, 3) := dk_180 0 249 (dk_at dksX0_ordersThat_1 3 rfl rfl)
theorem dX0_ordersThat_29 : decode cX0_ordersThat 29 = .ok (.iload_n 1, 1) := dk_27 (dk_at dksX0_ordersThat_1 6 rfl rfl)
theorem dX0_ordersThat_30 : decode cX0_ordersThat 30 = .ok (.if_icmp .ne 7, 3) := dk_160 0 7 (dk_at dksX0_ordersThat_1 7 rfl rfl)
theorem dX0_ordersThat_33 : decode cX0_ordersThat 33 = .ok (.iconst 1, 1) := dk_4 (dk_at dksX0_ordersThat_1 10 rfl rfl)
theorem dX0_ordersThat_34 : decode cX0_ordersThat 34 = .ok (.goto 4, 3) := dk_167 0 4 (dk_at dksX0_ordersThat_1 11 rfl rfl)
theorem dX0_ordersThat_37 : decode cX0_ordersThat 37 = .ok (.iconst 0, 1) := dk_3 (dk_at dksX0_ordersThat_1 14 rfl rfl)
theorem dX0_ordersThat_38 : decode cX0_ordersThat 38 = .ok (.iadd, 1) := dk_96 (dk_at dksX0_ordersThat_1 15 rfl rfl)
theorem dX0_ordersThat_39 : decode cX0_ordersThat 39 = .ok (.istore_n 2, 1) := dk_61 (dk_at dksX0_ordersThat_1 16 rfl rfl)
theorem dX0_ordersThat_40 : decode cX0_ordersThat 40 = .ok (.iinc 3 1, 3) := dk_132 3 1 (dk_at dksX0_ordersThat_1 17 rfl rfl)
theorem dX0_ordersThat_43 : decode cX0_ordersThat 43 = .ok (.goto (-39), 3) := dk_167 255 217 (dk_at dksX0_ordersThat_1 20 rfl rfl)
theorem dX0_ordersThat_46 : decode cX0_ordersThat 46 = .ok (.iload_n 2, 1) := dk_28 (dk_at dksX0_ordersThat_1 23 rfl rfl)
theorem dX0_ordersThat_47 : decode cX0_ordersThat 47 = .ok (.ireturn, 1) := dk_172 (dk_at dksX0_ordersThat_2 0 rfl rfl)
abbrev cX0_wordsThat : ByteArray := prog_1_method_40_code
def yX0_wordsThat : MethodName := ⟨RX0, "wordsThat", "(I)I"⟩
def dkwX0_wordsThat_5 : List UInt8 := [3, 96, 61, 132, 3, 1, 167, 255, 136, 28, 172]
abbrev dktX0_wordsThat_5 : List UInt8 := dkwX0_wordsThat_5 ++ []
def dkwX0_wordsThat_4 : List UInt8 := [3, 167, 0, 11, 42, 180, 0, 37, 29, 182, 0, 252, 54, 5, 28, 21, 5, 153, 0, 7, 4, 167, 0, 4]
abbrev dktX0_wordsThat_4 : List UInt8 := dkwX0_wordsThat_4 ++ dktX0_wordsThat_5
def dkwX0_wordsThat_3 : List UInt8 := [3, 167, 0, 35, 27, 5, 160, 0, 22, 42, 180, 0, 37, 29, 182, 0, 213, 198, 0, 7, 4, 167, 0, 15]
abbrev dktX0_wordsThat_3 : List UInt8 := dkwX0_wordsThat_3 ++ dktX0_wordsThat_4
def dkwX0_wordsThat_2 : List UInt8 := [180, 0, 128, 29, 185, 0, 64, 2, 0, 192, 0, 59, 185, 0, 176, 1, 0, 154, 0, 7, 4, 167, 0, 39]
abbrev dktX0_wordsThat_2 : List UInt8 := dkwX0_wordsThat_2 ++ dktX0_wordsThat_3
def dkwX0_wordsThat_1 : List UInt8 := [154, 0, 8, 21, 4, 167, 0, 77, 27, 4, 160, 0, 40, 21, 4, 154, 0, 31, 42, 180, 0, 37]
abbrev dktX0_wordsThat_1 : List UInt8 := dkwX0_wordsThat_1 ++ dktX0_wordsThat_2
def dkwX0_wordsThat_0 : List UInt8 := [3, 61, 3, 62, 29, 16, 16, 162, 0, 120, 42, 180, 0, 37, 29, 182, 0, 188, 184, 0, 209, 54, 4, 27]
abbrev dktX0_wordsThat_0 : List UInt8 := dkwX0_wordsThat_0 ++ dktX0_wordsThat_1
theorem dksX0_wordsThat_0 : cX0_wordsThat.data.toList.drop 0 = dktX0_wordsThat_0 := by decide +kernel
theorem dksX0_wordsThat_1 : cX0_wordsThat.data.toList.drop 24 = dktX0_wordsThat_1 := dk_seg dksX0_wordsThat_0 24 rfl rfl
theorem dksX0_wordsThat_2 : cX0_wordsThat.data.toList.drop 46 = dktX0_wordsThat_2 := dk_seg dksX0_wordsThat_1 22 rfl rfl
theorem dksX0_wordsThat_3 : cX0_wordsThat.data.toList.drop 70 = dktX0_wordsThat_3 := dk_seg dksX0_wordsThat_2 24 rfl rfl
theorem dksX0_wordsThat_4 : cX0_wordsThat.data.toList.drop 94 = dktX0_wordsThat_4 := dk_seg dksX0_wordsThat_3 24 rfl rfl
theorem dksX0_wordsThat_5 : cX0_wordsThat.data.toList.drop 118 = dktX0_wordsThat_5 := dk_seg dksX0_wordsThat_4 24 rfl rfl
theorem dX0_wordsThat_0 : decode cX0_wordsThat 0 = .ok (.iconst 0, 1) := dk_3 (dk_at dksX0_wordsThat_0 0 rfl rfl)
theorem dX0_wordsThat_1 : decode cX0_wordsThat 1 = .ok (.istore_n 2, 1) := dk_61 (dk_at dksX0_wordsThat_0 1 rfl rfl)
theorem dX0_wordsThat_2 : decode cX0_wordsThat 2 = .ok (.iconst 0, 1) := dk_3 (dk_at dksX0_wordsThat_0 2 rfl rfl)
theorem dX0_wordsThat_3 : decode cX0_wordsThat 3 = .ok (.istore_n 3, 1) := dk_62 (dk_at dksX0_wordsThat_0 3 rfl rfl)
theorem dX0_wordsThat_4 : decode cX0_wordsThat 4 = .ok (.iload_n 3, 1) := dk_29 (dk_at dksX0_wordsThat_0 4 rfl rfl)
theorem dX0_wordsThat_5 : decode cX0_wordsThat 5 = .ok (.bipush 16, 2) := dk_16 16 (dk_at dksX0_wordsThat_0 5 rfl rfl)
theorem dX0_wordsThat_7 : decode cX0_wordsThat 7 = .ok (.if_icmp .ge 120, 3) := dk_162 0 120 (dk_at dksX0_wordsThat_0 7 rfl rfl)
theorem dX0_wordsThat_10 : decode cX0_wordsThat 10 = .ok (.aload_n 0, 1) := dk_42 (dk_at dksX0_wordsThat_0 10 rfl rfl)
theorem dX0_wordsThat_11 : decode cX0_wordsThat 11 = .ok (.getfield 37, 3) := dk_180 0 37 (dk_at dksX0_wordsThat_0 11 rfl rfl)
theorem dX0_wordsThat_14 : decode cX0_wordsThat 14 = .ok (.iload_n 3, 1) := dk_29 (dk_at dksX0_wordsThat_0 14 rfl rfl)
theorem dX0_wordsThat_15 : decode cX0_wordsThat 15 = .ok (.invokevirtual 188, 3) := dk_182 0 188 (dk_at dksX0_wordsThat_0 15 rfl rfl)
theorem dX0_wordsThat_18 : decode cX0_wordsThat 18 = .ok (.invokestatic 209, 3) := dk_184 0 209 (dk_at dksX0_wordsThat_0 18 rfl rfl)
theorem dX0_wordsThat_21 : decode cX0_wordsThat 21 = .ok (.istore 4, 2) := dk_54 4 (dk_at dksX0_wordsThat_0 21 rfl rfl)
theorem dX0_wordsThat_23 : decode cX0_wordsThat 23 = .ok (.iload_n 1, 1) := dk_27 (dk_at dksX0_wordsThat_0 23 rfl rfl)
theorem dX0_wordsThat_24 : decode cX0_wordsThat 24 = .ok (.ifCond .ne 8, 3) := dk_154 0 8 (dk_at dksX0_wordsThat_1 0 rfl rfl)
theorem dX0_wordsThat_27 : decode cX0_wordsThat 27 = .ok (.iload 4, 2) := dk_21 4 (dk_at dksX0_wordsThat_1 3 rfl rfl)
theorem dX0_wordsThat_29 : decode cX0_wordsThat 29 = .ok (.goto 77, 3) := dk_167 0 77 (dk_at dksX0_wordsThat_1 5 rfl rfl)
theorem dX0_wordsThat_32 : decode cX0_wordsThat 32 = .ok (.iload_n 1, 1) := dk_27 (dk_at dksX0_wordsThat_1 8 rfl rfl)
theorem dX0_wordsThat_33 : decode cX0_wordsThat 33 = .ok (.iconst 1, 1) := dk_4 (dk_at dksX0_wordsThat_1 9 rfl rfl)
theorem dX0_wordsThat_34 : decode cX0_wordsThat 34 = .ok (.if_icmp .ne 40, 3) := dk_160 0 40 (dk_at dksX0_wordsThat_1 10 rfl rfl)
theorem dX0_wordsThat_37 : decode cX0_wordsThat 37 = .ok (.iload 4, 2) := dk_21 4 (dk_at dksX0_wordsThat_1 13 rfl rfl)
theorem dX0_wordsThat_39 : decode cX0_wordsThat 39 = .ok (.ifCond .ne 31, 3) := dk_154 0 31 (dk_at dksX0_wordsThat_1 15 rfl rfl)
theorem dX0_wordsThat_42 : decode cX0_wordsThat 42 = .ok (.aload_n 0, 1) := dk_42 (dk_at dksX0_wordsThat_1 18 rfl rfl)
theorem dX0_wordsThat_43 : decode cX0_wordsThat 43 = .ok (.getfield 37, 3) := dk_180 0 37 (dk_at dksX0_wordsThat_1 19 rfl rfl)
theorem dX0_wordsThat_46 : decode cX0_wordsThat 46 = .ok (.getfield 128, 3) := dk_180 0 128 (dk_at dksX0_wordsThat_2 0 rfl rfl)
theorem dX0_wordsThat_49 : decode cX0_wordsThat 49 = .ok (.iload_n 3, 1) := dk_29 (dk_at dksX0_wordsThat_2 3 rfl rfl)
theorem dX0_wordsThat_50 : decode cX0_wordsThat 50 = .ok (.invokeinterface 64 2, 5) := by decide +kernel
theorem dX0_wordsThat_55 : decode cX0_wordsThat 55 = .ok (.checkcast 59, 3) := dk_192 0 59 (dk_at dksX0_wordsThat_2 9 rfl rfl)
theorem dX0_wordsThat_58 : decode cX0_wordsThat 58 = .ok (.invokeinterface 176 1, 5) := by decide +kernel
theorem dX0_wordsThat_63 : decode cX0_wordsThat 63 = .ok (.ifCond .ne 7, 3) := dk_154 0 7 (dk_at dksX0_wordsThat_2 17 rfl rfl)
theorem dX0_wordsThat_66 : decode cX0_wordsThat 66 = .ok (.iconst 1, 1) := dk_4 (dk_at dksX0_wordsThat_2 20 rfl rfl)
theorem dX0_wordsThat_67 : decode cX0_wordsThat 67 = .ok (.goto 39, 3) := dk_167 0 39 (dk_at dksX0_wordsThat_2 21 rfl rfl)
theorem dX0_wordsThat_70 : decode cX0_wordsThat 70 = .ok (.iconst 0, 1) := dk_3 (dk_at dksX0_wordsThat_3 0 rfl rfl)
theorem dX0_wordsThat_71 : decode cX0_wordsThat 71 = .ok (.goto 35, 3) := dk_167 0 35 (dk_at dksX0_wordsThat_3 1 rfl rfl)
theorem dX0_wordsThat_74 : decode cX0_wordsThat 74 = .ok (.iload_n 1, 1) := dk_27 (dk_at dksX0_wordsThat_3 4 rfl rfl)
theorem dX0_wordsThat_75 : decode cX0_wordsThat 75 = .ok (.iconst 2, 1) := dk_5 (dk_at dksX0_wordsThat_3 5 rfl rfl)
theorem dX0_wordsThat_76 : decode cX0_wordsThat 76 = .ok (.if_icmp .ne 22, 3) := dk_160 0 22 (dk_at dksX0_wordsThat_3 6 rfl rfl)
theorem dX0_wordsThat_79 : decode cX0_wordsThat 79 = .ok (.aload_n 0, 1) := dk_42 (dk_at dksX0_wordsThat_3 9 rfl rfl)
theorem dX0_wordsThat_80 : decode cX0_wordsThat 80 = .ok (.getfield 37, 3) := dk_180 0 37 (dk_at dksX0_wordsThat_3 10 rfl rfl)
theorem dX0_wordsThat_83 : decode cX0_wordsThat 83 = .ok (.iload_n 3, 1) := dk_29 (dk_at dksX0_wordsThat_3 13 rfl rfl)
theorem dX0_wordsThat_84 : decode cX0_wordsThat 84 = .ok (.invokevirtual 213, 3) := dk_182 0 213 (dk_at dksX0_wordsThat_3 14 rfl rfl)
theorem dX0_wordsThat_87 : decode cX0_wordsThat 87 = .ok (.ifnull 7, 3) := dk_198 0 7 (dk_at dksX0_wordsThat_3 17 rfl rfl)
theorem dX0_wordsThat_90 : decode cX0_wordsThat 90 = .ok (.iconst 1, 1) := dk_4 (dk_at dksX0_wordsThat_3 20 rfl rfl)
theorem dX0_wordsThat_91 : decode cX0_wordsThat 91 = .ok (.goto 15, 3) := dk_167 0 15 (dk_at dksX0_wordsThat_3 21 rfl rfl)
theorem dX0_wordsThat_94 : decode cX0_wordsThat 94 = .ok (.iconst 0, 1) := dk_3 (dk_at dksX0_wordsThat_4 0 rfl rfl)
theorem dX0_wordsThat_95 : decode cX0_wordsThat 95 = .ok (.goto 11, 3) := dk_167 0 11 (dk_at dksX0_wordsThat_4 1 rfl rfl)
theorem dX0_wordsThat_98 : decode cX0_wordsThat 98 = .ok (.aload_n 0, 1) := dk_42 (dk_at dksX0_wordsThat_4 4 rfl rfl)
theorem dX0_wordsThat_99 : decode cX0_wordsThat 99 = .ok (.getfield 37, 3) := dk_180 0 37 (dk_at dksX0_wordsThat_4 5 rfl rfl)
theorem dX0_wordsThat_102 : decode cX0_wordsThat 102 = .ok (.iload_n 3, 1) := dk_29 (dk_at dksX0_wordsThat_4 8 rfl rfl)
theorem dX0_wordsThat_103 : decode cX0_wordsThat 103 = .ok (.invokevirtual 252, 3) := dk_182 0 252 (dk_at dksX0_wordsThat_4 9 rfl rfl)
theorem dX0_wordsThat_106 : decode cX0_wordsThat 106 = .ok (.istore 5, 2) := dk_54 5 (dk_at dksX0_wordsThat_4 12 rfl rfl)
theorem dX0_wordsThat_108 : decode cX0_wordsThat 108 = .ok (.iload_n 2, 1) := dk_28 (dk_at dksX0_wordsThat_4 14 rfl rfl)
theorem dX0_wordsThat_109 : decode cX0_wordsThat 109 = .ok (.iload 5, 2) := dk_21 5 (dk_at dksX0_wordsThat_4 15 rfl rfl)
theorem dX0_wordsThat_111 : decode cX0_wordsThat 111 = .ok (.ifCond .eq 7, 3) := dk_153 0 7 (dk_at dksX0_wordsThat_4 17 rfl rfl)
theorem dX0_wordsThat_114 : decode cX0_wordsThat 114 = .ok (.iconst 1, 1) := dk_4 (dk_at dksX0_wordsThat_4 20 rfl rfl)
theorem dX0_wordsThat_115 : decode cX0_wordsThat 115 = .ok (.goto 4, 3) := dk_167 0 4 (dk_at dksX0_wordsThat_4 21 rfl rfl)
theorem dX0_wordsThat_118 : decode cX0_wordsThat 118 = .ok (.iconst 0, 1) := dk_3 (dk_at dksX0_wordsThat_5 0 rfl rfl)
theorem dX0_wordsThat_119 : decode cX0_wordsThat 119 = .ok (.iadd, 1) := dk_96 (dk_at dksX0_wordsThat_5 1 rfl rfl)
theorem dX0_wordsThat_120 : decode cX0_wordsThat 120 = .ok (.istore_n 2, 1) := dk_61 (dk_at dksX0_wordsThat_5 2 rfl rfl)
theorem dX0_wordsThat_121 : decode cX0_wordsThat 121 = .ok (.iinc 3 1, 3) := dk_132 3 1 (dk_at dksX0_wordsThat_5 3 rfl rfl)
theorem dX0_wordsThat_124 : decode cX0_wordsThat 124 = .ok (.goto (-120), 3) := dk_167 255 136 (dk_at dksX0_wordsThat_5 6 rfl rfl)
theorem dX0_wordsThat_127 : decode cX0_wordsThat 127 = .ok (.iload_n 2, 1) := dk_28 (dk_at dksX0_wordsThat_5 9 rfl rfl)
theorem dX0_wordsThat_128 : decode cX0_wordsThat 128 = .ok (.ireturn, 1) := dk_172 (dk_at dksX0_wordsThat_5 10 rfl rfl)
theorem q60 : (Jvm.Cond.initialized "NailedOrders") ∈ lw_all := lw_g (lw_at lw_m1 1 rfl) rfl
theorem q86 : (Jvm.Cond.instantiable "NailedOrders" (4 : Nat)) ∈ lw_all := lw_g (lw_at lw_m1 27 rfl) rfl
theorem q88 : (Jvm.Cond.instanceMethod ({ cls := "NailedOrders", name := "<init>", desc := "()V" } : Jvm.MethodName)) ∈ lw_all := lw_g (lw_at lw_m1 29 rfl) rfl
theorem q89 : (Jvm.Cond.code ({ cls := "NailedOrders", name := "<init>", desc := "()V" } : Jvm.MethodName) prog_1_method_10_code (1 : Nat) (Option.none : Option Jvm.ClassFile.FieldType)) ∈ lw_all := lw_g (lw_at lw_m1 30 rfl) rfl
theorem q90 : (Jvm.Cond.methodLink "NailedOrders" (28 : Nat) ({ cls := "java/lang/Object", name := "<init>", desc := "()V" } : Jvm.MethodName)) ∈ lw_all := lw_g (lw_at lw_m1 31 rfl) rfl
theorem q93 : (Jvm.Cond.classLink "NailedOrders" (34 : Nat) "NailedOrders$State") ∈ lw_all := lw_g (lw_at lw_m1 34 rfl) rfl
theorem q95 : (Jvm.Cond.methodLink "NailedOrders" (36 : Nat) ({ cls := "NailedOrders$State", name := "<init>", desc := "()V" } : Jvm.MethodName)) ∈ lw_all := lw_g (lw_at lw_m1 36 rfl) rfl
theorem q164 : (Jvm.Cond.selects "NailedOrders" ({ cls := "java/lang/Object", name := "getClass", desc := "()Ljava/lang/Class;" } : Jvm.MethodName) ({ cls := "java/lang/Object", name := "getClass", desc := "()Ljava/lang/Class;" } : Jvm.MethodName)) ∈ lw_all := lw_g (lw_at lw_m1 105 rfl) rfl
theorem q190 : (Jvm.Cond.fieldLinkNest "NailedOrders" (85 : Nat) "NailedOrders$State" "ranks" "[I" "NailedOrders") ∈ lw_tbl := lw_at lw_m1 131 rfl
theorem q192 : (Jvm.Cond.fieldLinkNest "NailedOrders" (55 : Nat) "NailedOrders$State" "orders" "Ljava/util/List;" "NailedOrders") ∈ lw_tbl := lw_at lw_m1 133 rfl
theorem q194 : (Jvm.Cond.fieldLinkNest "NailedOrders" (128 : Nat) "NailedOrders$State" "stacks" "Ljava/util/List;" "NailedOrders") ∈ lw_tbl := lw_at lw_m1 135 rfl
theorem q196 : (Jvm.Cond.fieldLinkNest "NailedOrders" (97 : Nat) "NailedOrders$State" "tolerance" "F" "NailedOrders") ∈ lw_tbl := lw_at lw_m1 137 rfl
theorem q198 : (Jvm.Cond.fieldLinkNest "NailedOrders" (77 : Nat) "NailedOrders$State" "persons" "I" "NailedOrders") ∈ lw_tbl := lw_at lw_m1 139 rfl
theorem q200 : (Jvm.Cond.fieldLinkNest "NailedOrders" (261 : Nat) "NailedOrders$State" "storms" "I" "NailedOrders") ∈ lw_tbl := lw_at lw_m1 141 rfl
theorem q214 : (Jvm.Cond.classLink "NailedOrders" (41 : Nat) "java/util/ArrayList") ∈ lw_all := lw_g (lw_at lw_m1 155 rfl) rfl
theorem q215 : (Jvm.Cond.methodLink "NailedOrders" (43 : Nat) ({ cls := "java/util/ArrayList", name := "<init>", desc := "()V" } : Jvm.MethodName)) ∈ lw_all := lw_g (lw_at lw_m1 156 rfl) rfl
theorem q216 : (Jvm.Cond.classLink "NailedOrders" (48 : Nat) "java/lang/StringBuilder") ∈ lw_all := lw_g (lw_at lw_m1 157 rfl) rfl
theorem q218 : (Jvm.Cond.methodLink "NailedOrders" (50 : Nat) ({ cls := "java/lang/StringBuilder", name := "<init>", desc := "()V" } : Jvm.MethodName)) ∈ lw_all := lw_g (lw_at lw_m1 159 rfl) rfl
theorem q248 : (Jvm.Cond.fieldLink "NailedOrders" (37 : Nat) "NailedOrders" "state" "LNailedOrders$State;") ∈ lw_all := lw_g (lw_at lw_m1 189 rfl) rfl
theorem q249 : (Jvm.Cond.fieldLink "NailedOrders" (179 : Nat) "NailedOrders" "snapshot" "LNailedOrders$State;") ∈ lw_all := lw_g (lw_at lw_m1 190 rfl) rfl
theorem q250 : (Jvm.Cond.fieldLink "NailedOrders" (44 : Nat) "NailedOrders" "history" "Ljava/util/List;") ∈ lw_all := lw_g (lw_at lw_m1 191 rfl) rfl
theorem q251 : (Jvm.Cond.fieldLink "NailedOrders" (51 : Nat) "NailedOrders" "text" "Ljava/lang/StringBuilder;") ∈ lw_all := lw_g (lw_at lw_m1 192 rfl) rfl
theorem q252 : (Jvm.Cond.lays "NailedOrders" "NailedOrders" "state" "LNailedOrders$State;") ∈ lw_all := lw_g (lw_at lw_m1 193 rfl) rfl
theorem q253 : (Jvm.Cond.soleField "NailedOrders" "state") ∈ lw_all := lw_g (lw_at lw_m1 194 rfl) rfl
theorem q254 : (Jvm.Cond.lays "NailedOrders" "NailedOrders" "snapshot" "LNailedOrders$State;") ∈ lw_all := lw_g (lw_at lw_m1 195 rfl) rfl
theorem q255 : (Jvm.Cond.soleField "NailedOrders" "snapshot") ∈ lw_all := lw_g (lw_at lw_m1 196 rfl) rfl
theorem q256 : (Jvm.Cond.laysFinal "NailedOrders" "NailedOrders" "history" "Ljava/util/List;") ∈ lw_all := lw_g (lw_at lw_m1 197 rfl) rfl
theorem q257 : (Jvm.Cond.soleField "NailedOrders" "history") ∈ lw_all := lw_g (lw_at lw_m1 198 rfl) rfl
theorem q258 : (Jvm.Cond.laysFinal "NailedOrders" "NailedOrders" "text" "Ljava/lang/StringBuilder;") ∈ lw_all := lw_g (lw_at lw_m1 199 rfl) rfl
theorem q259 : (Jvm.Cond.soleField "NailedOrders" "text") ∈ lw_all := lw_g (lw_at lw_m1 200 rfl) rfl
theorem q260 : (Jvm.Cond.superclass "NailedOrders" "java/lang/Object") ∈ lw_all := lw_g (lw_at lw_m1 201 rfl) rfl
theorem q262 : (Jvm.Cond.instanceMethod ({ cls := "NailedOrders", name := "addPerson", desc := "(I)I" } : Jvm.MethodName)) ∈ lw_all := lw_g (lw_at lw_m1 203 rfl) rfl
theorem q263 : (Jvm.Cond.selects "NailedOrders" ({ cls := "NailedOrders", name := "addPerson", desc := "(I)I" } : Jvm.MethodName) ({ cls := "NailedOrders", name := "addPerson", desc := "(I)I" } : Jvm.MethodName)) ∈ lw_all := lw_g (lw_at lw_m1 204 rfl) rfl
theorem q264 : (Jvm.Cond.code ({ cls := "NailedOrders", name := "addPerson", desc := "(I)I" } : Jvm.MethodName) prog_1_method_14_code (3 : Nat) (Option.some Jvm.ClassFile.FieldType.int)) ∈ lw_all := lw_g (lw_at lw_m1 205 rfl) rfl
theorem q265 : (Jvm.Cond.methodLink "NailedOrders" (3 : Nat) ({ cls := "NailedOrders", name := "inRange", desc := "(III)Z" } : Jvm.MethodName)) ∈ lw_all := lw_g (lw_at lw_m1 206 rfl) rfl
theorem q266 : (Jvm.Cond.static ({ cls := "NailedOrders", name := "inRange", desc := "(III)Z" } : Jvm.MethodName)) ∈ lw_all := lw_g (lw_at lw_m1 207 rfl) rfl
theorem q267 : (Jvm.Cond.code ({ cls := "NailedOrders", name := "inRange", desc := "(III)Z" } : Jvm.MethodName) prog_1_method_1_code (3 : Nat) (Option.some Jvm.ClassFile.FieldType.boolean)) ∈ lw_all := lw_g (lw_at lw_m1 208 rfl) rfl
theorem q268 : (Jvm.Cond.methodLink "NailedOrders" (81 : Nat) ({ cls := "NailedOrders$State", name := "copy", desc := "()LNailedOrders$State;" } : Jvm.MethodName)) ∈ lw_all := lw_g (lw_at lw_m1 209 rfl) rfl
theorem q326 : (Jvm.Cond.fieldLink "NailedOrders" (199 : Nat) "NailedOrders$Order" "number" "I") ∈ lw_all := lw_g (lw_at lw_m2 27 rfl) rfl
theorem q331 : (Jvm.Cond.fieldLink "NailedOrders" (223 : Nat) "NailedOrders$Order" "person" "I") ∈ lw_all := lw_g (lw_at lw_m2 32 rfl) rfl
theorem q336 : (Jvm.Cond.fieldLink "NailedOrders" (131 : Nat) "NailedOrders$Order" "word" "I") ∈ lw_all := lw_g (lw_at lw_m2 37 rfl) rfl
theorem q341 : (Jvm.Cond.fieldLink "NailedOrders" (236 : Nat) "NailedOrders$Order" "real" "F") ∈ lw_all := lw_g (lw_at lw_m2 42 rfl) rfl
theorem q346 : (Jvm.Cond.fieldLink "NailedOrders" (134 : Nat) "NailedOrders$Order" "strength" "F") ∈ lw_all := lw_g (lw_at lw_m2 47 rfl) rfl
theorem q349 : (Jvm.Cond.fieldLink "NailedOrders" (249 : Nat) "NailedOrders$Order" "fate" "I") ∈ lw_all := lw_g (lw_at lw_m2 50 rfl) rfl
theorem q386 : (Jvm.Cond.methodLink "NailedOrders" (89 : Nat) ({ cls := "NailedOrders", name := "accept", desc := "(LNailedOrders$State;I)I" } : Jvm.MethodName)) ∈ lw_all := lw_g (lw_at lw_m2 87 rfl) rfl
theorem q387 : (Jvm.Cond.privateMethod ({ cls := "NailedOrders", name := "accept", desc := "(LNailedOrders$State;I)I" } : Jvm.MethodName)) ∈ lw_tbl := lw_at lw_m2 88 rfl
theorem q388 : (Jvm.Cond.instanceMethod ({ cls := "NailedOrders", name := "accept", desc := "(LNailedOrders$State;I)I" } : Jvm.MethodName)) ∈ lw_all := lw_g (lw_at lw_m2 89 rfl) rfl
theorem q389 : (Jvm.Cond.code ({ cls := "NailedOrders", name := "accept", desc := "(LNailedOrders$State;I)I" } : Jvm.MethodName) prog_1_method_13_code (3 : Nat) (Option.some Jvm.ClassFile.FieldType.int)) ∈ lw_all := lw_g (lw_at lw_m2 90 rfl) rfl
theorem q390 : (Jvm.Cond.interfaceEntry "NailedOrders" (58 : Nat)) ∈ lw_tbl := lw_at lw_m2 91 rfl
theorem q391 : (Jvm.Cond.methodLink "NailedOrders" (58 : Nat) ({ cls := "java/util/List", name := "size", desc := "()I" } : Jvm.MethodName)) ∈ lw_all := lw_g (lw_at lw_m2 92 rfl) rfl
theorem q392 : (Jvm.Cond.interfaceEntry "NailedOrders" (70 : Nat)) ∈ lw_tbl := lw_at lw_m2 93 rfl
theorem q393 : (Jvm.Cond.methodLink "NailedOrders" (70 : Nat) ({ cls := "java/util/List", name := "remove", desc := "(I)Ljava/lang/Object;" } : Jvm.MethodName)) ∈ lw_all := lw_g (lw_at lw_m2 94 rfl) rfl
theorem q406 : (Jvm.Cond.interfaceEntry "NailedOrders" (73 : Nat)) ∈ lw_tbl := lw_at lw_m2 107 rfl
theorem q407 : (Jvm.Cond.methodLink "NailedOrders" (73 : Nat) ({ cls := "java/util/List", name := "add", desc := "(Ljava/lang/Object;)Z" } : Jvm.MethodName)) ∈ lw_all := lw_g (lw_at lw_m2 108 rfl) rfl
theorem q409 : (Jvm.Cond.instanceMethod ({ cls := "NailedOrders", name := "setRank", desc := "(II)I" } : Jvm.MethodName)) ∈ lw_all := lw_g (lw_at lw_m2 110 rfl) rfl
theorem q410 : (Jvm.Cond.selects "NailedOrders" ({ cls := "NailedOrders", name := "setRank", desc := "(II)I" } : Jvm.MethodName) ({ cls := "NailedOrders", name := "setRank", desc := "(II)I" } : Jvm.MethodName)) ∈ lw_all := lw_g (lw_at lw_m2 111 rfl) rfl
theorem q411 : (Jvm.Cond.code ({ cls := "NailedOrders", name := "setRank", desc := "(II)I" } : Jvm.MethodName) prog_1_method_15_code (5 : Nat) (Option.some Jvm.ClassFile.FieldType.int)) ∈ lw_all := lw_g (lw_at lw_m2 112 rfl) rfl
theorem q412 : (Jvm.Cond.methodLink "NailedOrders" (93 : Nat) ({ cls := "NailedOrders$State", name := "isPerson", desc := "(I)Z" } : Jvm.MethodName)) ∈ lw_all := lw_g (lw_at lw_m2 113 rfl) rfl
theorem q418 : (Jvm.Cond.instanceMethod ({ cls := "NailedOrders", name := "setTolerance", desc := "(I)I" } : Jvm.MethodName)) ∈ lw_all := lw_g (lw_at lw_m2 119 rfl) rfl
theorem q419 : (Jvm.Cond.selects "NailedOrders" ({ cls := "NailedOrders", name := "setTolerance", desc := "(I)I" } : Jvm.MethodName) ({ cls := "NailedOrders", name := "setTolerance", desc := "(I)I" } : Jvm.MethodName)) ∈ lw_all := lw_g (lw_at lw_m2 120 rfl) rfl
theorem q420 : (Jvm.Cond.code ({ cls := "NailedOrders", name := "setTolerance", desc := "(I)I" } : Jvm.MethodName) prog_1_method_16_code (4 : Nat) (Option.some Jvm.ClassFile.FieldType.int)) ∈ lw_all := lw_g (lw_at lw_m2 121 rfl) rfl
theorem q421 : (Jvm.Cond.methodLink "NailedOrders" (10 : Nat) ({ cls := "NailedOrders", name := "isReal", desc := "(I)Z" } : Jvm.MethodName)) ∈ lw_all := lw_g (lw_at lw_m2 122 rfl) rfl
theorem q422 : (Jvm.Cond.static ({ cls := "NailedOrders", name := "isReal", desc := "(I)Z" } : Jvm.MethodName)) ∈ lw_all := lw_g (lw_at lw_m2 123 rfl) rfl
theorem q423 : (Jvm.Cond.code ({ cls := "NailedOrders", name := "isReal", desc := "(I)Z" } : Jvm.MethodName) prog_1_method_7_code (1 : Nat) (Option.some Jvm.ClassFile.FieldType.boolean)) ∈ lw_all := lw_g (lw_at lw_m2 124 rfl) rfl
theorem q424 : (Jvm.Cond.constant "NailedOrders" (8 : Nat) (2147483647 : Int32)) ∈ lw_all := lw_g (lw_at lw_m2 125 rfl) rfl
theorem q425 : (Jvm.Cond.constant "NailedOrders" (9 : Nat) (2139095040 : Int32)) ∈ lw_all := lw_g (lw_at lw_m2 126 rfl) rfl
theorem q426 : (Jvm.Cond.methodLink "NailedOrders" (14 : Nat) ({ cls := "java/lang/Float", name := "intBitsToFloat", desc := "(I)F" } : Jvm.MethodName)) ∈ lw_all := lw_g (lw_at lw_m2 127 rfl) rfl
theorem q429 : (Jvm.Cond.constantFloat "NailedOrders" (96 : Nat) (1120403456 : UInt32)) ∈ lw_all := lw_g (lw_at lw_m2 130 rfl) rfl
theorem q430 : (Jvm.Cond.methodLink "NailedOrders" (22 : Nat) ({ cls := "NailedOrders", name := "inRealRange", desc := "(FFF)Z" } : Jvm.MethodName)) ∈ lw_all := lw_g (lw_at lw_m2 131 rfl) rfl
theorem q431 : (Jvm.Cond.static ({ cls := "NailedOrders", name := "inRealRange", desc := "(FFF)Z" } : Jvm.MethodName)) ∈ lw_all := lw_g (lw_at lw_m2 132 rfl) rfl
theorem q432 : (Jvm.Cond.code ({ cls := "NailedOrders", name := "inRealRange", desc := "(FFF)Z" } : Jvm.MethodName) prog_1_method_3_code (3 : Nat) (Option.some Jvm.ClassFile.FieldType.boolean)) ∈ lw_all := lw_g (lw_at lw_m2 133 rfl) rfl
theorem q433 : (Jvm.Cond.methodLink "NailedOrders" (101 : Nat) ({ cls := "java/lang/Float", name := "floatToRawIntBits", desc := "(F)I" } : Jvm.MethodName)) ∈ lw_all := lw_g (lw_at lw_m2 134 rfl) rfl
theorem q437 : (Jvm.Cond.instanceMethod ({ cls := "NailedOrders", name := "nail", desc := "(IIII)I" } : Jvm.MethodName)) ∈ lw_all := lw_g (lw_at lw_m2 138 rfl) rfl
theorem q438 : (Jvm.Cond.selects "NailedOrders" ({ cls := "NailedOrders", name := "nail", desc := "(IIII)I" } : Jvm.MethodName) ({ cls := "NailedOrders", name := "nail", desc := "(IIII)I" } : Jvm.MethodName)) ∈ lw_all := lw_g (lw_at lw_m2 139 rfl) rfl
theorem q439 : (Jvm.Cond.code ({ cls := "NailedOrders", name := "nail", desc := "(IIII)I" } : Jvm.MethodName) prog_1_method_17_code (6 : Nat) (Option.some Jvm.ClassFile.FieldType.int)) ∈ lw_all := lw_g (lw_at lw_m2 140 rfl) rfl
theorem q440 : (Jvm.Cond.methodLink "NailedOrders" (105 : Nat) ({ cls := "NailedOrders$State", name := "nail", desc := "(IIII)I" } : Jvm.MethodName)) ∈ lw_all := lw_g (lw_at lw_m2 141 rfl) rfl
theorem q446 : (Jvm.Cond.static ({ cls := "NailedOrders", name := "isWord", desc := "(I)Z" } : Jvm.MethodName)) ∈ lw_all := lw_g (lw_at lw_m2 147 rfl) rfl
theorem q447 : (Jvm.Cond.code ({ cls := "NailedOrders", name := "isWord", desc := "(I)Z" } : Jvm.MethodName) prog_1_method_2_code (1 : Nat) (Option.some Jvm.ClassFile.FieldType.boolean)) ∈ lw_all := lw_g (lw_at lw_m2 148 rfl) rfl
theorem q449 : (Jvm.Cond.static ({ cls := "NailedOrders", name := "isNumber", desc := "(I)Z" } : Jvm.MethodName)) ∈ lw_all := lw_g (lw_at lw_m2 150 rfl) rfl
theorem q450 : (Jvm.Cond.code ({ cls := "NailedOrders", name := "isNumber", desc := "(I)Z" } : Jvm.MethodName) prog_1_method_8_code (1 : Nat) (Option.some Jvm.ClassFile.FieldType.boolean)) ∈ lw_all := lw_g (lw_at lw_m2 151 rfl) rfl
theorem q451 : (Jvm.Cond.constantFloat "NailedOrders" (20 : Nat) (3296329728 : UInt32)) ∈ lw_all := lw_g (lw_at lw_m2 152 rfl) rfl
theorem q452 : (Jvm.Cond.constantFloat "NailedOrders" (21 : Nat) (1148846080 : UInt32)) ∈ lw_all := lw_g (lw_at lw_m2 153 rfl) rfl
theorem q454 : (Jvm.Cond.static ({ cls := "NailedOrders", name := "isStrength", desc := "(I)Z" } : Jvm.MethodName)) ∈ lw_all := lw_g (lw_at lw_m2 155 rfl) rfl
theorem q455 : (Jvm.Cond.code ({ cls := "NailedOrders", name := "isStrength", desc := "(I)Z" } : Jvm.MethodName) prog_1_method_9_code (1 : Nat) (Option.some Jvm.ClassFile.FieldType.boolean)) ∈ lw_all := lw_g (lw_at lw_m2 156 rfl) rfl
theorem q456 : (Jvm.Cond.constantFloat "NailedOrders" (26 : Nat) (1036831949 : UInt32)) ∈ lw_all := lw_g (lw_at lw_m2 157 rfl) rfl
theorem q457 : (Jvm.Cond.constantFloat "NailedOrders" (27 : Nat) (1092616192 : UInt32)) ∈ lw_all := lw_g (lw_at lw_m2 158 rfl) rfl
theorem q473 : (Jvm.Cond.instanceMethod ({ cls := "NailedOrders", name := "nailLink", desc := "(IIIIII)I" } : Jvm.MethodName)) ∈ lw_all := lw_g (lw_at lw_m2 174 rfl) rfl
theorem q474 : (Jvm.Cond.selects "NailedOrders" ({ cls := "NailedOrders", name := "nailLink", desc := "(IIIIII)I" } : Jvm.MethodName) ({ cls := "NailedOrders", name := "nailLink", desc := "(IIIIII)I" } : Jvm.MethodName)) ∈ lw_all := lw_g (lw_at lw_m2 175 rfl) rfl
theorem q475 : (Jvm.Cond.code ({ cls := "NailedOrders", name := "nailLink", desc := "(IIIIII)I" } : Jvm.MethodName) prog_1_method_18_code (8 : Nat) (Option.some Jvm.ClassFile.FieldType.int)) ∈ lw_all := lw_g (lw_at lw_m2 176 rfl) rfl
theorem q476 : (Jvm.Cond.methodLink "NailedOrders" (109 : Nat) ({ cls := "NailedOrders$State", name := "nailLink", desc := "(IIIIII)I" } : Jvm.MethodName)) ∈ lw_all := lw_g (lw_at lw_m2 177 rfl) rfl
theorem q483 : (Jvm.Cond.instanceMethod ({ cls := "NailedOrders", name := "tear", desc := "(I)I" } : Jvm.MethodName)) ∈ lw_all := lw_g (lw_at lw_m2 184 rfl) rfl
theorem q484 : (Jvm.Cond.selects "NailedOrders" ({ cls := "NailedOrders", name := "tear", desc := "(I)I" } : Jvm.MethodName) ({ cls := "NailedOrders", name := "tear", desc := "(I)I" } : Jvm.MethodName)) ∈ lw_all := lw_g (lw_at lw_m2 185 rfl) rfl
theorem q485 : (Jvm.Cond.code ({ cls := "NailedOrders", name := "tear", desc := "(I)I" } : Jvm.MethodName) prog_1_method_19_code (4 : Nat) (Option.some Jvm.ClassFile.FieldType.int)) ∈ lw_all := lw_g (lw_at lw_m2 186 rfl) rfl
theorem q486 : (Jvm.Cond.methodLink "NailedOrders" (113 : Nat) ({ cls := "NailedOrders", name := "isOrder", desc := "(I)Z" } : Jvm.MethodName)) ∈ lw_all := lw_g (lw_at lw_m2 187 rfl) rfl
theorem q487 : (Jvm.Cond.privateMethod ({ cls := "NailedOrders", name := "isOrder", desc := "(I)Z" } : Jvm.MethodName)) ∈ lw_tbl := lw_at lw_m2 188 rfl
theorem q488 : (Jvm.Cond.instanceMethod ({ cls := "NailedOrders", name := "isOrder", desc := "(I)Z" } : Jvm.MethodName)) ∈ lw_all := lw_g (lw_at lw_m2 189 rfl) rfl
theorem q489 : (Jvm.Cond.code ({ cls := "NailedOrders", name := "isOrder", desc := "(I)Z" } : Jvm.MethodName) prog_1_method_11_code (2 : Nat) (Option.some Jvm.ClassFile.FieldType.boolean)) ∈ lw_all := lw_g (lw_at lw_m2 190 rfl) rfl
theorem q490 : (Jvm.Cond.methodLink "NailedOrders" (116 : Nat) ({ cls := "NailedOrders", name := "orderOf", desc := "(I)LNailedOrders$Order;" } : Jvm.MethodName)) ∈ lw_all := lw_g (lw_at lw_m2 191 rfl) rfl
theorem q491 : (Jvm.Cond.privateMethod ({ cls := "NailedOrders", name := "orderOf", desc := "(I)LNailedOrders$Order;" } : Jvm.MethodName)) ∈ lw_tbl := lw_at lw_m2 192 rfl
theorem q492 : (Jvm.Cond.instanceMethod ({ cls := "NailedOrders", name := "orderOf", desc := "(I)LNailedOrders$Order;" } : Jvm.MethodName)) ∈ lw_all := lw_g (lw_at lw_m2 193 rfl) rfl
theorem q493 : (Jvm.Cond.code ({ cls := "NailedOrders", name := "orderOf", desc := "(I)LNailedOrders$Order;" } : Jvm.MethodName) prog_1_method_12_code (2 : Nat) (Option.some (Jvm.ClassFile.FieldType.object "NailedOrders$Order"))) ∈ lw_all := lw_g (lw_at lw_m2 194 rfl) rfl
theorem q494 : (Jvm.Cond.interfaceEntry "NailedOrders" (64 : Nat)) ∈ lw_tbl := lw_at lw_m2 195 rfl
theorem q495 : (Jvm.Cond.methodLink "NailedOrders" (64 : Nat) ({ cls := "java/util/List", name := "get", desc := "(I)Ljava/lang/Object;" } : Jvm.MethodName)) ∈ lw_all := lw_g (lw_at lw_m2 196 rfl) rfl
theorem q496 : (Jvm.Cond.classLink "NailedOrders" (68 : Nat) "NailedOrders$Order") ∈ lw_all := lw_g (lw_at lw_m2 197 rfl) rfl
theorem q497 : (Jvm.Cond.methodLink "NailedOrders" (120 : Nat) ({ cls := "NailedOrders$Order", name := "hangs", desc := "()Z" } : Jvm.MethodName)) ∈ lw_all := lw_g (lw_at lw_m2 198 rfl) rfl
theorem q503 : (Jvm.Cond.methodLink "NailedOrders" (124 : Nat) ({ cls := "NailedOrders$State", name := "takeOff", desc := "(LNailedOrders$Order;I)V" } : Jvm.MethodName)) ∈ lw_all := lw_g (lw_at lw_m2 204 rfl) rfl
theorem q520 : (Jvm.Cond.selects "NailedOrders" ({ cls := "java/lang/Object", name := "equals", desc := "(Ljava/lang/Object;)Z" } : Jvm.MethodName) ({ cls := "java/lang/Object", name := "equals", desc := "(Ljava/lang/Object;)Z" } : Jvm.MethodName)) ∈ lw_all := lw_g (lw_at lw_m2 221 rfl) rfl
theorem q530 : (Jvm.Cond.classLink "NailedOrders" (59 : Nat) "java/util/List") ∈ lw_all := lw_g (lw_at lw_m2 231 rfl) rfl
theorem q532 : (Jvm.Cond.instanceMethod ({ cls := "NailedOrders", name := "hammer", desc := "(I)I" } : Jvm.MethodName)) ∈ lw_all := lw_g (lw_at lw_m2 233 rfl) rfl
theorem q533 : (Jvm.Cond.selects "NailedOrders" ({ cls := "NailedOrders", name := "hammer", desc := "(I)I" } : Jvm.MethodName) ({ cls := "NailedOrders", name := "hammer", desc := "(I)I" } : Jvm.MethodName)) ∈ lw_all := lw_g (lw_at lw_m2 234 rfl) rfl
theorem q534 : (Jvm.Cond.code ({ cls := "NailedOrders", name := "hammer", desc := "(I)I" } : Jvm.MethodName) prog_1_method_20_code (4 : Nat) (Option.some Jvm.ClassFile.FieldType.int)) ∈ lw_all := lw_g (lw_at lw_m2 235 rfl) rfl
theorem q535 : (Jvm.Cond.constantFloat "NailedOrders" (137 : Nat) (1056964608 : UInt32)) ∈ lw_all := lw_g (lw_at lw_m2 236 rfl) rfl
theorem q536 : (Jvm.Cond.methodLink "NailedOrders" (138 : Nat) ({ cls := "NailedOrders$Order", name := "hundredths", desc := "()I" } : Jvm.MethodName)) ∈ lw_all := lw_g (lw_at lw_m2 237 rfl) rfl
theorem q544 : (Jvm.Cond.instanceMethod ({ cls := "NailedOrders", name := "storm", desc := "(I)I" } : Jvm.MethodName)) ∈ lw_all := lw_g (lw_at lw_m3 5 rfl) rfl
theorem q545 : (Jvm.Cond.selects "NailedOrders" ({ cls := "NailedOrders", name := "storm", desc := "(I)I" } : Jvm.MethodName) ({ cls := "NailedOrders", name := "storm", desc := "(I)I" } : Jvm.MethodName)) ∈ lw_all := lw_g (lw_at lw_m3 6 rfl) rfl
theorem q546 : (Jvm.Cond.code ({ cls := "NailedOrders", name := "storm", desc := "(I)I" } : Jvm.MethodName) prog_1_method_21_code (3 : Nat) (Option.some Jvm.ClassFile.FieldType.int)) ∈ lw_all := lw_g (lw_at lw_m3 7 rfl) rfl
theorem q547 : (Jvm.Cond.methodLink "NailedOrders" (141 : Nat) ({ cls := "NailedOrders", name := "isStrength", desc := "(I)Z" } : Jvm.MethodName)) ∈ lw_all := lw_g (lw_at lw_m3 8 rfl) rfl
theorem q548 : (Jvm.Cond.methodLink "NailedOrders" (144 : Nat) ({ cls := "NailedOrders$State", name := "storm", desc := "(F)I" } : Jvm.MethodName)) ∈ lw_all := lw_g (lw_at lw_m3 9 rfl) rfl
theorem q572 : (Jvm.Cond.instanceMethod ({ cls := "NailedOrders", name := "type", desc := "(C)I" } : Jvm.MethodName)) ∈ lw_all := lw_g (lw_at lw_m3 33 rfl) rfl
theorem q573 : (Jvm.Cond.selects "NailedOrders" ({ cls := "NailedOrders", name := "type", desc := "(C)I" } : Jvm.MethodName) ({ cls := "NailedOrders", name := "type", desc := "(C)I" } : Jvm.MethodName)) ∈ lw_all := lw_g (lw_at lw_m3 34 rfl) rfl
theorem q574 : (Jvm.Cond.code ({ cls := "NailedOrders", name := "type", desc := "(C)I" } : Jvm.MethodName) prog_1_method_22_code (2 : Nat) (Option.some Jvm.ClassFile.FieldType.int)) ∈ lw_all := lw_g (lw_at lw_m3 35 rfl) rfl
theorem q575 : (Jvm.Cond.methodLink "NailedOrders" (147 : Nat) ({ cls := "java/lang/StringBuilder", name := "length", desc := "()I" } : Jvm.MethodName)) ∈ lw_all := lw_g (lw_at lw_m3 36 rfl) rfl
theorem q582 : (Jvm.Cond.methodLink "NailedOrders" (150 : Nat) ({ cls := "java/lang/StringBuilder", name := "append", desc := "(C)Ljava/lang/StringBuilder;" } : Jvm.MethodName)) ∈ lw_all := lw_g (lw_at lw_m3 43 rfl) rfl
theorem q661 : (Jvm.Cond.instanceMethod ({ cls := "NailedOrders", name := "clearText", desc := "()I" } : Jvm.MethodName)) ∈ lw_all := lw_g (lw_at lw_m3 122 rfl) rfl
theorem q662 : (Jvm.Cond.selects "NailedOrders" ({ cls := "NailedOrders", name := "clearText", desc := "()I" } : Jvm.MethodName) ({ cls := "NailedOrders", name := "clearText", desc := "()I" } : Jvm.MethodName)) ∈ lw_all := lw_g (lw_at lw_m3 123 rfl) rfl
theorem q663 : (Jvm.Cond.code ({ cls := "NailedOrders", name := "clearText", desc := "()I" } : Jvm.MethodName) prog_1_method_23_code (2 : Nat) (Option.some Jvm.ClassFile.FieldType.int)) ∈ lw_all := lw_g (lw_at lw_m3 124 rfl) rfl
theorem q664 : (Jvm.Cond.methodLink "NailedOrders" (154 : Nat) ({ cls := "java/lang/StringBuilder", name := "setLength", desc := "(I)V" } : Jvm.MethodName)) ∈ lw_all := lw_g (lw_at lw_m3 125 rfl) rfl
theorem q685 : (Jvm.Cond.instanceMethod ({ cls := "NailedOrders", name := "readOrders", desc := "(II)I" } : Jvm.MethodName)) ∈ lw_all := lw_g (lw_at lw_m3 146 rfl) rfl
theorem q686 : (Jvm.Cond.selects "NailedOrders" ({ cls := "NailedOrders", name := "readOrders", desc := "(II)I" } : Jvm.MethodName) ({ cls := "NailedOrders", name := "readOrders", desc := "(II)I" } : Jvm.MethodName)) ∈ lw_all := lw_g (lw_at lw_m3 147 rfl) rfl
theorem q687 : (Jvm.Cond.codeWith ({ cls := "NailedOrders", name := "readOrders", desc := "(II)I" } : Jvm.MethodName) prog_1_method_24_code (7 : Nat) (Option.some Jvm.ClassFile.FieldType.int) [((23 : Nat), (38 : Nat), (41 : Nat), (166 : Nat))]) ∈ lw_all := lw_g (lw_at lw_m3 148 rfl) rfl
theorem q688 : (Jvm.Cond.classLink "NailedOrders" (166 : Nat) "NailedOrders$TextFault") ∈ lw_all := lw_g (lw_at lw_m3 149 rfl) rfl
theorem q689 : (Jvm.Cond.classLink "NailedOrders" (158 : Nat) "NailedOrders$Reader") ∈ lw_all := lw_g (lw_at lw_m3 150 rfl) rfl
theorem q691 : (Jvm.Cond.methodLink "NailedOrders" (160 : Nat) ({ cls := "NailedOrders$Reader", name := "<init>", desc := "(Ljava/lang/CharSequence;)V" } : Jvm.MethodName)) ∈ lw_all := lw_g (lw_at lw_m3 152 rfl) rfl
theorem q702 : (Jvm.Cond.methodLink "NailedOrders" (163 : Nat) ({ cls := "NailedOrders$Reader", name := "orders", desc := "()Ljava/util/List;" } : Jvm.MethodName)) ∈ lw_all := lw_g (lw_at lw_m3 163 rfl) rfl
theorem q802 : (Jvm.Cond.fieldLinkNest "NailedOrders" (168 : Nat) "NailedOrders$TextFault" "place" "I" "NailedOrders") ∈ lw_tbl := lw_at lw_m4 23 rfl
theorem q855 : (Jvm.Cond.classLink "NailedOrders" (171 : Nat) "NailedOrders$Told") ∈ lw_all := lw_g (lw_at lw_m4 76 rfl) rfl
theorem q856 : (Jvm.Cond.methodLink "NailedOrders" (173 : Nat) ({ cls := "NailedOrders$Told", name := "nail", desc := "(LNailedOrders$State;II)I" } : Jvm.MethodName)) ∈ lw_all := lw_g (lw_at lw_m4 77 rfl) rfl
theorem q864 : (Jvm.Cond.instanceMethod ({ cls := "NailedOrders", name := "undo", desc := "()I" } : Jvm.MethodName)) ∈ lw_all := lw_g (lw_at lw_m4 85 rfl) rfl
theorem q865 : (Jvm.Cond.selects "NailedOrders" ({ cls := "NailedOrders", name := "undo", desc := "()I" } : Jvm.MethodName) ({ cls := "NailedOrders", name := "undo", desc := "()I" } : Jvm.MethodName)) ∈ lw_all := lw_g (lw_at lw_m4 86 rfl) rfl
theorem q866 : (Jvm.Cond.code ({ cls := "NailedOrders", name := "undo", desc := "()I" } : Jvm.MethodName) prog_1_method_25_code (1 : Nat) (Option.some Jvm.ClassFile.FieldType.int)) ∈ lw_all := lw_g (lw_at lw_m4 87 rfl) rfl
theorem q867 : (Jvm.Cond.interfaceEntry "NailedOrders" (176 : Nat)) ∈ lw_tbl := lw_at lw_m4 88 rfl
theorem q868 : (Jvm.Cond.methodLink "NailedOrders" (176 : Nat) ({ cls := "java/util/List", name := "isEmpty", desc := "()Z" } : Jvm.MethodName)) ∈ lw_all := lw_g (lw_at lw_m4 89 rfl) rfl
theorem q877 : (Jvm.Cond.instanceMethod ({ cls := "NailedOrders", name := "keep", desc := "()I" } : Jvm.MethodName)) ∈ lw_all := lw_g (lw_at lw_m4 98 rfl) rfl
theorem q878 : (Jvm.Cond.selects "NailedOrders" ({ cls := "NailedOrders", name := "keep", desc := "()I" } : Jvm.MethodName) ({ cls := "NailedOrders", name := "keep", desc := "()I" } : Jvm.MethodName)) ∈ lw_all := lw_g (lw_at lw_m4 99 rfl) rfl
theorem q879 : (Jvm.Cond.code ({ cls := "NailedOrders", name := "keep", desc := "()I" } : Jvm.MethodName) prog_1_method_26_code (1 : Nat) (Option.some Jvm.ClassFile.FieldType.int)) ∈ lw_all := lw_g (lw_at lw_m4 100 rfl) rfl
theorem q880 : (Jvm.Cond.methodLink "NailedOrders" (182 : Nat) ({ cls := "NailedOrders$State", name := "hanging", desc := "()I" } : Jvm.MethodName)) ∈ lw_all := lw_g (lw_at lw_m4 101 rfl) rfl
theorem q882 : (Jvm.Cond.instanceMethod ({ cls := "NailedOrders", name := "restore", desc := "()I" } : Jvm.MethodName)) ∈ lw_all := lw_g (lw_at lw_m4 103 rfl) rfl
theorem q883 : (Jvm.Cond.selects "NailedOrders" ({ cls := "NailedOrders", name := "restore", desc := "()I" } : Jvm.MethodName) ({ cls := "NailedOrders", name := "restore", desc := "()I" } : Jvm.MethodName)) ∈ lw_all := lw_g (lw_at lw_m4 104 rfl) rfl
theorem q884 : (Jvm.Cond.code ({ cls := "NailedOrders", name := "restore", desc := "()I" } : Jvm.MethodName) prog_1_method_27_code (1 : Nat) (Option.some Jvm.ClassFile.FieldType.int)) ∈ lw_all := lw_g (lw_at lw_m4 105 rfl) rfl
theorem q886 : (Jvm.Cond.instanceMethod ({ cls := "NailedOrders", name := "value", desc := "(I)F" } : Jvm.MethodName)) ∈ lw_all := lw_g (lw_at lw_m4 107 rfl) rfl
theorem q887 : (Jvm.Cond.selects "NailedOrders" ({ cls := "NailedOrders", name := "value", desc := "(I)F" } : Jvm.MethodName) ({ cls := "NailedOrders", name := "value", desc := "(I)F" } : Jvm.MethodName)) ∈ lw_all := lw_g (lw_at lw_m4 108 rfl) rfl
theorem q888 : (Jvm.Cond.code ({ cls := "NailedOrders", name := "value", desc := "(I)F" } : Jvm.MethodName) prog_1_method_28_code (2 : Nat) (Option.some Jvm.ClassFile.FieldType.float)) ∈ lw_all := lw_g (lw_at lw_m4 109 rfl) rfl
theorem q889 : (Jvm.Cond.methodLink "NailedOrders" (185 : Nat) ({ cls := "NailedOrders", name := "isWord", desc := "(I)Z" } : Jvm.MethodName)) ∈ lw_all := lw_g (lw_at lw_m4 110 rfl) rfl
theorem q890 : (Jvm.Cond.methodLink "NailedOrders" (188 : Nat) ({ cls := "NailedOrders$State", name := "value", desc := "(I)F" } : Jvm.MethodName)) ∈ lw_all := lw_g (lw_at lw_m4 111 rfl) rfl
theorem q907 : (Jvm.Cond.static ({ cls := "NailedOrders", name := "nothing", desc := "()F" } : Jvm.MethodName)) ∈ lw_all := lw_g (lw_at lw_m4 128 rfl) rfl
theorem q908 : (Jvm.Cond.code ({ cls := "NailedOrders", name := "nothing", desc := "()F" } : Jvm.MethodName) prog_1_method_5_code (0 : Nat) (Option.some Jvm.ClassFile.FieldType.float)) ∈ lw_all := lw_g (lw_at lw_m4 129 rfl) rfl
theorem q909 : (Jvm.Cond.constantFloat "NailedOrders" (7 : Nat) (2143289344 : UInt32)) ∈ lw_all := lw_g (lw_at lw_m4 130 rfl) rfl
theorem q923 : (Jvm.Cond.static ({ cls := "NailedOrders", name := "isThere", desc := "(F)Z" } : Jvm.MethodName)) ∈ lw_all := lw_g (lw_at lw_m4 144 rfl) rfl
theorem q924 : (Jvm.Cond.code ({ cls := "NailedOrders", name := "isThere", desc := "(F)Z" } : Jvm.MethodName) prog_1_method_6_code (1 : Nat) (Option.some Jvm.ClassFile.FieldType.boolean)) ∈ lw_all := lw_g (lw_at lw_m4 145 rfl) rfl
theorem q936 : (Jvm.Cond.methodLink "NailedOrders" (191 : Nat) ({ cls := "NailedOrders", name := "nothing", desc := "()F" } : Jvm.MethodName)) ∈ lw_all := lw_g (lw_at lw_m4 157 rfl) rfl
theorem q938 : (Jvm.Cond.instanceMethod ({ cls := "NailedOrders", name := "valueOf", desc := "(I)F" } : Jvm.MethodName)) ∈ lw_all := lw_g (lw_at lw_m4 159 rfl) rfl
theorem q939 : (Jvm.Cond.selects "NailedOrders" ({ cls := "NailedOrders", name := "valueOf", desc := "(I)F" } : Jvm.MethodName) ({ cls := "NailedOrders", name := "valueOf", desc := "(I)F" } : Jvm.MethodName)) ∈ lw_all := lw_g (lw_at lw_m4 160 rfl) rfl
theorem q940 : (Jvm.Cond.code ({ cls := "NailedOrders", name := "valueOf", desc := "(I)F" } : Jvm.MethodName) prog_1_method_29_code (2 : Nat) (Option.some Jvm.ClassFile.FieldType.float)) ∈ lw_all := lw_g (lw_at lw_m4 161 rfl) rfl
theorem q941 : (Jvm.Cond.methodLink "NailedOrders" (195 : Nat) ({ cls := "NailedOrders$State", name := "valueOf", desc := "(LNailedOrders$Order;)F" } : Jvm.MethodName)) ∈ lw_all := lw_g (lw_at lw_m4 162 rfl) rfl
theorem q946 : (Jvm.Cond.instanceMethod ({ cls := "NailedOrders", name := "word", desc := "(II)I" } : Jvm.MethodName)) ∈ lw_all := lw_g (lw_at lw_m4 167 rfl) rfl
theorem q947 : (Jvm.Cond.selects "NailedOrders" ({ cls := "NailedOrders", name := "word", desc := "(II)I" } : Jvm.MethodName) ({ cls := "NailedOrders", name := "word", desc := "(II)I" } : Jvm.MethodName)) ∈ lw_all := lw_g (lw_at lw_m4 168 rfl) rfl
theorem q948 : (Jvm.Cond.code ({ cls := "NailedOrders", name := "word", desc := "(II)I" } : Jvm.MethodName) prog_1_method_31_code (4 : Nat) (Option.some Jvm.ClassFile.FieldType.int)) ∈ lw_all := lw_g (lw_at lw_m4 169 rfl) rfl
theorem q949 : (Jvm.Cond.methodLink "NailedOrders" (202 : Nat) ({ cls := "NailedOrders$State", name := "ruler", desc := "(I)LNailedOrders$Order;" } : Jvm.MethodName)) ∈ lw_all := lw_g (lw_at lw_m4 170 rfl) rfl
theorem q950 : (Jvm.Cond.methodLink "NailedOrders" (205 : Nat) ({ cls := "NailedOrders", name := "numberOf", desc := "(LNailedOrders$Order;)I" } : Jvm.MethodName)) ∈ lw_all := lw_g (lw_at lw_m4 171 rfl) rfl
theorem q951 : (Jvm.Cond.static ({ cls := "NailedOrders", name := "numberOf", desc := "(LNailedOrders$Order;)I" } : Jvm.MethodName)) ∈ lw_all := lw_g (lw_at lw_m4 172 rfl) rfl
theorem q952 : (Jvm.Cond.code ({ cls := "NailedOrders", name := "numberOf", desc := "(LNailedOrders$Order;)I" } : Jvm.MethodName) prog_1_method_30_code (1 : Nat) (Option.some Jvm.ClassFile.FieldType.int)) ∈ lw_all := lw_g (lw_at lw_m4 173 rfl) rfl
theorem q953 : (Jvm.Cond.methodLink "NailedOrders" (209 : Nat) ({ cls := "NailedOrders", name := "isThere", desc := "(F)Z" } : Jvm.MethodName)) ∈ lw_all := lw_g (lw_at lw_m4 174 rfl) rfl
theorem q954 : (Jvm.Cond.methodLink "NailedOrders" (213 : Nat) ({ cls := "NailedOrders$State", name := "against", desc := "(I)LNailedOrders$Order;" } : Jvm.MethodName)) ∈ lw_all := lw_g (lw_at lw_m4 175 rfl) rfl
theorem q964 : (Jvm.Cond.static ({ cls := "NailedOrders", name := "size", desc := "(F)F" } : Jvm.MethodName)) ∈ lw_all := lw_g (lw_at lw_m4 185 rfl) rfl
theorem q965 : (Jvm.Cond.code ({ cls := "NailedOrders", name := "size", desc := "(F)F" } : Jvm.MethodName) prog_1_method_4_code (1 : Nat) (Option.some Jvm.ClassFile.FieldType.float)) ∈ lw_all := lw_g (lw_at lw_m4 186 rfl) rfl
theorem q966 : (Jvm.Cond.methodLink "NailedOrders" (216 : Nat) ({ cls := "NailedOrders$State", name := "dependents", desc := "(I)I" } : Jvm.MethodName)) ∈ lw_all := lw_g (lw_at lw_m4 187 rfl) rfl
theorem q978 : (Jvm.Cond.methodLink "NailedOrders" (220 : Nat) ({ cls := "NailedOrders$State", name := "links", desc := "(I)I" } : Jvm.MethodName)) ∈ lw_all := lw_g (lw_at lw_m4 199 rfl) rfl
theorem q983 : (Jvm.Cond.instanceMethod ({ cls := "NailedOrders", name := "hangsAt", desc := "(II)I" } : Jvm.MethodName)) ∈ lw_all := lw_g (lw_at lw_m4 204 rfl) rfl
theorem q984 : (Jvm.Cond.selects "NailedOrders" ({ cls := "NailedOrders", name := "hangsAt", desc := "(II)I" } : Jvm.MethodName) ({ cls := "NailedOrders", name := "hangsAt", desc := "(II)I" } : Jvm.MethodName)) ∈ lw_all := lw_g (lw_at lw_m4 205 rfl) rfl
theorem q985 : (Jvm.Cond.code ({ cls := "NailedOrders", name := "hangsAt", desc := "(II)I" } : Jvm.MethodName) prog_1_method_32_code (4 : Nat) (Option.some Jvm.ClassFile.FieldType.int)) ∈ lw_all := lw_g (lw_at lw_m4 206 rfl) rfl
theorem q987 : (Jvm.Cond.instanceMethod ({ cls := "NailedOrders", name := "order", desc := "(II)I" } : Jvm.MethodName)) ∈ lw_all := lw_g (lw_at lw_m4 208 rfl) rfl
theorem q988 : (Jvm.Cond.selects "NailedOrders" ({ cls := "NailedOrders", name := "order", desc := "(II)I" } : Jvm.MethodName) ({ cls := "NailedOrders", name := "order", desc := "(II)I" } : Jvm.MethodName)) ∈ lw_all := lw_g (lw_at lw_m4 209 rfl) rfl
theorem q989 : (Jvm.Cond.code ({ cls := "NailedOrders", name := "order", desc := "(II)I" } : Jvm.MethodName) prog_1_method_33_code (4 : Nat) (Option.some Jvm.ClassFile.FieldType.int)) ∈ lw_all := lw_g (lw_at lw_m4 210 rfl) rfl
theorem q990 : (Jvm.Cond.methodLink "NailedOrders" (226 : Nat) ({ cls := "NailedOrders$Order", name := "other", desc := "()I" } : Jvm.MethodName)) ∈ lw_all := lw_g (lw_at lw_m4 211 rfl) rfl
theorem q991 : (Jvm.Cond.methodLink "NailedOrders" (229 : Nat) ({ cls := "NailedOrders$State", name := "over", desc := "(LNailedOrders$Order;)I" } : Jvm.MethodName)) ∈ lw_all := lw_g (lw_at lw_m4 212 rfl) rfl
theorem q992 : (Jvm.Cond.interfaceEntry "NailedOrders" (232 : Nat)) ∈ lw_tbl := lw_at lw_m4 213 rfl
theorem q993 : (Jvm.Cond.methodLink "NailedOrders" (232 : Nat) ({ cls := "java/util/List", name := "indexOf", desc := "(Ljava/lang/Object;)I" } : Jvm.MethodName)) ∈ lw_all := lw_g (lw_at lw_m4 214 rfl) rfl
theorem q995 : (Jvm.Cond.instanceMethod ({ cls := "NailedOrders", name := "real", desc := "(II)F" } : Jvm.MethodName)) ∈ lw_all := lw_g (lw_at lw_m4 216 rfl) rfl
theorem q996 : (Jvm.Cond.selects "NailedOrders" ({ cls := "NailedOrders", name := "real", desc := "(II)F" } : Jvm.MethodName) ({ cls := "NailedOrders", name := "real", desc := "(II)F" } : Jvm.MethodName)) ∈ lw_all := lw_g (lw_at lw_m4 217 rfl) rfl
theorem q997 : (Jvm.Cond.code ({ cls := "NailedOrders", name := "real", desc := "(II)F" } : Jvm.MethodName) prog_1_method_34_code (4 : Nat) (Option.some Jvm.ClassFile.FieldType.float)) ∈ lw_all := lw_g (lw_at lw_m4 218 rfl) rfl
theorem q998 : (Jvm.Cond.methodLink "NailedOrders" (239 : Nat) ({ cls := "NailedOrders$Order", name := "factor", desc := "()F" } : Jvm.MethodName)) ∈ lw_all := lw_g (lw_at lw_m4 219 rfl) rfl
theorem q1000 : (Jvm.Cond.instanceMethod ({ cls := "NailedOrders", name := "reason", desc := "(II)I" } : Jvm.MethodName)) ∈ lw_all := lw_g (lw_at lw_m4 221 rfl) rfl
theorem q1001 : (Jvm.Cond.selects "NailedOrders" ({ cls := "NailedOrders", name := "reason", desc := "(II)I" } : Jvm.MethodName) ({ cls := "NailedOrders", name := "reason", desc := "(II)I" } : Jvm.MethodName)) ∈ lw_all := lw_g (lw_at lw_m4 222 rfl) rfl
theorem q1002 : (Jvm.Cond.code ({ cls := "NailedOrders", name := "reason", desc := "(II)I" } : Jvm.MethodName) prog_1_method_35_code (5 : Nat) (Option.some Jvm.ClassFile.FieldType.int)) ∈ lw_all := lw_g (lw_at lw_m4 223 rfl) rfl
theorem q1003 : (Jvm.Cond.methodLink "NailedOrders" (242 : Nat) ({ cls := "NailedOrders$State", name := "linked", desc := "(I)I" } : Jvm.MethodName)) ∈ lw_all := lw_g (lw_at lw_m4 224 rfl) rfl
theorem q1005 : (Jvm.Cond.instanceMethod ({ cls := "NailedOrders", name := "changesWithout", desc := "(I)I" } : Jvm.MethodName)) ∈ lw_all := lw_g (lw_at lw_m4 226 rfl) rfl
theorem q1006 : (Jvm.Cond.selects "NailedOrders" ({ cls := "NailedOrders", name := "changesWithout", desc := "(I)I" } : Jvm.MethodName) ({ cls := "NailedOrders", name := "changesWithout", desc := "(I)I" } : Jvm.MethodName)) ∈ lw_all := lw_g (lw_at lw_m4 227 rfl) rfl
theorem q1007 : (Jvm.Cond.code ({ cls := "NailedOrders", name := "changesWithout", desc := "(I)I" } : Jvm.MethodName) prog_1_method_36_code (5 : Nat) (Option.some Jvm.ClassFile.FieldType.int)) ∈ lw_all := lw_g (lw_at lw_m4 228 rfl) rfl
theorem q1008 : (Jvm.Cond.methodLink "NailedOrders" (245 : Nat) ({ cls := "NailedOrders$State", name := "differ", desc := "(FF)Z" } : Jvm.MethodName)) ∈ lw_all := lw_g (lw_at lw_m4 229 rfl) rfl
theorem q1010 : (Jvm.Cond.instanceMethod ({ cls := "NailedOrders", name := "stormsLeft", desc := "(II)I" } : Jvm.MethodName)) ∈ lw_all := lw_g (lw_at lw_m4 231 rfl) rfl
theorem q1011 : (Jvm.Cond.selects "NailedOrders" ({ cls := "NailedOrders", name := "stormsLeft", desc := "(II)I" } : Jvm.MethodName) ({ cls := "NailedOrders", name := "stormsLeft", desc := "(II)I" } : Jvm.MethodName)) ∈ lw_all := lw_g (lw_at lw_m4 232 rfl) rfl
theorem q1012 : (Jvm.Cond.code ({ cls := "NailedOrders", name := "stormsLeft", desc := "(II)I" } : Jvm.MethodName) prog_1_method_37_code (6 : Nat) (Option.some Jvm.ClassFile.FieldType.int)) ∈ lw_all := lw_g (lw_at lw_m4 233 rfl) rfl
theorem q1014 : (Jvm.Cond.instanceMethod ({ cls := "NailedOrders", name := "person", desc := "(II)I" } : Jvm.MethodName)) ∈ lw_all := lw_g (lw_at lw_m4 235 rfl) rfl
theorem q1015 : (Jvm.Cond.selects "NailedOrders" ({ cls := "NailedOrders", name := "person", desc := "(II)I" } : Jvm.MethodName) ({ cls := "NailedOrders", name := "person", desc := "(II)I" } : Jvm.MethodName)) ∈ lw_all := lw_g (lw_at lw_m4 236 rfl) rfl
theorem q1016 : (Jvm.Cond.code ({ cls := "NailedOrders", name := "person", desc := "(II)I" } : Jvm.MethodName) prog_1_method_38_code (7 : Nat) (Option.some Jvm.ClassFile.FieldType.int)) ∈ lw_all := lw_g (lw_at lw_m4 237 rfl) rfl
theorem q1018 : (Jvm.Cond.instanceMethod ({ cls := "NailedOrders", name := "count", desc := "(I)I" } : Jvm.MethodName)) ∈ lw_all := lw_g (lw_at lw_m4 239 rfl) rfl
theorem q1019 : (Jvm.Cond.selects "NailedOrders" ({ cls := "NailedOrders", name := "count", desc := "(I)I" } : Jvm.MethodName) ({ cls := "NailedOrders", name := "count", desc := "(I)I" } : Jvm.MethodName)) ∈ lw_all := lw_g (lw_at lw_m5 0 rfl) rfl
theorem q1020 : (Jvm.Cond.code ({ cls := "NailedOrders", name := "count", desc := "(I)I" } : Jvm.MethodName) prog_1_method_41_code (2 : Nat) (Option.some Jvm.ClassFile.FieldType.int)) ∈ lw_all := lw_g (lw_at lw_m5 1 rfl) rfl
theorem q1021 : (Jvm.Cond.methodLink "NailedOrders" (255 : Nat) ({ cls := "NailedOrders", name := "ordersThat", desc := "(I)I" } : Jvm.MethodName)) ∈ lw_all := lw_g (lw_at lw_m5 2 rfl) rfl
theorem q1022 : (Jvm.Cond.privateMethod ({ cls := "NailedOrders", name := "ordersThat", desc := "(I)I" } : Jvm.MethodName)) ∈ lw_tbl := lw_at lw_m5 3 rfl
theorem q1023 : (Jvm.Cond.instanceMethod ({ cls := "NailedOrders", name := "ordersThat", desc := "(I)I" } : Jvm.MethodName)) ∈ lw_all := lw_g (lw_at lw_m5 4 rfl) rfl
theorem q1024 : (Jvm.Cond.code ({ cls := "NailedOrders", name := "ordersThat", desc := "(I)I" } : Jvm.MethodName) prog_1_method_39_code (4 : Nat) (Option.some Jvm.ClassFile.FieldType.int)) ∈ lw_all := lw_g (lw_at lw_m5 5 rfl) rfl
theorem q1025 : (Jvm.Cond.methodLink "NailedOrders" (258 : Nat) ({ cls := "NailedOrders", name := "wordsThat", desc := "(I)I" } : Jvm.MethodName)) ∈ lw_all := lw_g (lw_at lw_m5 6 rfl) rfl
theorem q1026 : (Jvm.Cond.privateMethod ({ cls := "NailedOrders", name := "wordsThat", desc := "(I)I" } : Jvm.MethodName)) ∈ lw_tbl := lw_at lw_m5 7 rfl
theorem q1027 : (Jvm.Cond.instanceMethod ({ cls := "NailedOrders", name := "wordsThat", desc := "(I)I" } : Jvm.MethodName)) ∈ lw_all := lw_g (lw_at lw_m5 8 rfl) rfl
theorem q1028 : (Jvm.Cond.code ({ cls := "NailedOrders", name := "wordsThat", desc := "(I)I" } : Jvm.MethodName) prog_1_method_40_code (6 : Nat) (Option.some Jvm.ClassFile.FieldType.int)) ∈ lw_all := lw_g (lw_at lw_m5 9 rfl) rfl
theorem q1029 : (Jvm.Cond.methodLink "NailedOrders" (252 : Nat) ({ cls := "NailedOrders$State", name := "isInRing", desc := "(I)Z" } : Jvm.MethodName)) ∈ lw_all := lw_g (lw_at lw_m5 10 rfl) rfl
theorem q1385 : (Jvm.Cond.castable "NailedOrders" "java/lang/Object") ∈ lw_tbl := lw_at lw_m6 126 rfl
theorem in_X0 : ∀ w ∈ wsX00, w ∈ lw_all := lw_in wsX00 [252, 254, 256, 258] (by decide +kernel) (by decide +kernel)
