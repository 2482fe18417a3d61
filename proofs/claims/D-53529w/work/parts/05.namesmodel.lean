/-! NailedOrdersModel -/
set_option maxRecDepth 100000
def RX2 : String := "NailedOrdersModel"
def TX2 : u_T := fun k => match k with
  | 0 => ("NailedOrdersModel", "thrown", "I", false)
  | 1 => ("NailedOrdersModel", "now", "[I", true)
  | 2 => ("NailedOrdersModel", "put", "[I", true)
  | 3 => ("NailedOrdersModel", "kept", "[I", true)
  | 4 => ("NailedOrdersModel", "isKept", "Z", false)
  | 5 => ("NailedOrdersModel", "was", "[I", true)
  | 6 => ("NailedOrdersModel", "acts", "I", false)
  | 7 => ("NailedOrdersModel", "text", "[I", true)
  | 8 => ("NailedOrdersModel", "typed", "I", false)
  | 9 => ("NailedOrdersModel", "way", "[I", true)
  | 10 => ("NailedOrdersModel", "has", "Z", false)
  | 11 => ("NailedOrdersModel", "at", "I", false)
  | 12 => ("NailedOrdersModel", "isWrong", "Z", false)
  | 13 => ("NailedOrdersModel", "told", "[I", true)
  | 14 => ("NailedOrdersModel", "hadValue", "[Z", true)
  | _ => ("NailedOrdersModel", "hadThat", "[F", true)
def tyX2 : Nat → FieldType := fun k => match k with
  | 0 => .int
  | 1 => .array .int
  | 2 => .array .int
  | 3 => .array .int
  | 4 => .boolean
  | 5 => .array .int
  | 6 => .int
  | 7 => .array .int
  | 8 => .int
  | 9 => .array .int
  | 10 => .boolean
  | 11 => .int
  | 12 => .boolean
  | 13 => .array .int
  | 14 => .array .boolean
  | _ => .array .float
abbrev wsX20 : List Cond := u_ws RX2 TX2 16
set_option maxRecDepth 100000 in
theorem nmX2 : ∀ a, a < 16 → ∀ b, b < 16 → a ≠ b → (TX2 a).2.1 ≠ (TX2 b).2.1 := by decide +kernel
set_option maxRecDepth 100000 in
theorem tyX2_ok : ∀ k, k < 16 → parseFieldDescriptor (TX2 k).2.2.1 = some (tyX2 k) := by decide +kernel
abbrev cX2_init : ByteArray := prog_9_method_1_code
def yX2_init : MethodName := ⟨RX2, "<init>", "()V"⟩
def dkwX2_init_3 : List UInt8 := [181, 0, 31, 42, 16, 16, 188, 6, 181, 0, 35, 177]
abbrev dktX2_init_3 : List UInt8 := dkwX2_init_3 ++ []
def dkwX2_init_2 : List UInt8 := [181, 0, 22, 42, 16, 17, 188, 10, 181, 0, 25, 42, 16, 64, 188, 10, 181, 0, 28, 42, 16, 16, 188, 4]
abbrev dktX2_init_2 : List UInt8 := dkwX2_init_2 ++ dktX2_init_3
def dkwX2_init_1 : List UInt8 := [17, 1, 36, 188, 10, 181, 0, 16, 42, 17, 4, 144, 188, 10, 181, 0, 19, 42, 16, 60, 188, 10]
abbrev dktX2_init_1 : List UInt8 := dkwX2_init_1 ++ dktX2_init_2
def dkwX2_init_0 : List UInt8 := [42, 183, 0, 1, 42, 17, 1, 36, 188, 10, 181, 0, 7, 42, 17, 1, 36, 188, 10, 181, 0, 13, 42]
abbrev dktX2_init_0 : List UInt8 := dkwX2_init_0 ++ dktX2_init_1
theorem dksX2_init_0 : cX2_init.data.toList.drop 0 = dktX2_init_0 := by decide +kernel
theorem dksX2_init_1 : cX2_init.data.toList.drop 23 = dktX2_init_1 := dk_seg dksX2_init_0 23 rfl rfl
theorem dksX2_init_2 : cX2_init.data.toList.drop 45 = dktX2_init_2 := dk_seg dksX2_init_1 22 rfl rfl
theorem dksX2_init_3 : cX2_init.data.toList.drop 69 = dktX2_init_3 := dk_seg dksX2_init_2 24 rfl rfl
theorem dX2_init_0 : decode cX2_init 0 = .ok (.aload_n 0, 1) := dk_42 (dk_at dksX2_init_0 0 rfl rfl)
theorem dX2_init_1 : decode cX2_init 1 = .ok (.invokespecial 1, 3) := dk_183 0 1 (dk_at dksX2_init_0 1 rfl rfl)
theorem dX2_init_4 : decode cX2_init 4 = .ok (.aload_n 0, 1) := dk_42 (dk_at dksX2_init_0 4 rfl rfl)
theorem dX2_init_5 : decode cX2_init 5 = .ok (.sipush 292, 3) := dk_17 1 36 (dk_at dksX2_init_0 5 rfl rfl)
theorem dX2_init_8 : decode cX2_init 8 = .ok (.newarray .int, 2) := dk_188_10 (dk_at dksX2_init_0 8 rfl rfl)
theorem dX2_init_10 : decode cX2_init 10 = .ok (.putfield 7, 3) := dk_181 0 7 (dk_at dksX2_init_0 10 rfl rfl)
theorem dX2_init_13 : decode cX2_init 13 = .ok (.aload_n 0, 1) := dk_42 (dk_at dksX2_init_0 13 rfl rfl)
theorem dX2_init_14 : decode cX2_init 14 = .ok (.sipush 292, 3) := dk_17 1 36 (dk_at dksX2_init_0 14 rfl rfl)
theorem dX2_init_17 : decode cX2_init 17 = .ok (.newarray .int, 2) := dk_188_10 (dk_at dksX2_init_0 17 rfl rfl)
theorem dX2_init_19 : decode cX2_init 19 = .ok (.putfield 13, 3) := dk_181 0 13 (dk_at dksX2_init_0 19 rfl rfl)
theorem dX2_init_22 : decode cX2_init 22 = .ok (.aload_n 0, 1) := dk_42 (dk_at dksX2_init_0 22 rfl rfl)
theorem dX2_init_23 : decode cX2_init 23 = .ok (.sipush 292, 3) := dk_17 1 36 (dk_at dksX2_init_1 0 rfl rfl)
theorem dX2_init_26 : decode cX2_init 26 = .ok (.newarray .int, 2) := dk_188_10 (dk_at dksX2_init_1 3 rfl rfl)
theorem dX2_init_28 : decode cX2_init 28 = .ok (.putfield 16, 3) := dk_181 0 16 (dk_at dksX2_init_1 5 rfl rfl)
theorem dX2_init_31 : decode cX2_init 31 = .ok (.aload_n 0, 1) := dk_42 (dk_at dksX2_init_1 8 rfl rfl)
theorem dX2_init_32 : decode cX2_init 32 = .ok (.sipush 1168, 3) := dk_17 4 144 (dk_at dksX2_init_1 9 rfl rfl)
theorem dX2_init_35 : decode cX2_init 35 = .ok (.newarray .int, 2) := dk_188_10 (dk_at dksX2_init_1 12 rfl rfl)
theorem dX2_init_37 : decode cX2_init 37 = .ok (.putfield 19, 3) := dk_181 0 19 (dk_at dksX2_init_1 14 rfl rfl)
theorem dX2_init_40 : decode cX2_init 40 = .ok (.aload_n 0, 1) := dk_42 (dk_at dksX2_init_1 17 rfl rfl)
theorem dX2_init_41 : decode cX2_init 41 = .ok (.bipush 60, 2) := dk_16 60 (dk_at dksX2_init_1 18 rfl rfl)
theorem dX2_init_43 : decode cX2_init 43 = .ok (.newarray .int, 2) := dk_188_10 (dk_at dksX2_init_1 20 rfl rfl)
theorem dX2_init_45 : decode cX2_init 45 = .ok (.putfield 22, 3) := dk_181 0 22 (dk_at dksX2_init_2 0 rfl rfl)
theorem dX2_init_48 : decode cX2_init 48 = .ok (.aload_n 0, 1) := dk_42 (dk_at dksX2_init_2 3 rfl rfl)
theorem dX2_init_49 : decode cX2_init 49 = .ok (.bipush 17, 2) := dk_16 17 (dk_at dksX2_init_2 4 rfl rfl)
theorem dX2_init_51 : decode cX2_init 51 = .ok (.newarray .int, 2) := dk_188_10 (dk_at dksX2_init_2 6 rfl rfl)
theorem dX2_init_53 : decode cX2_init 53 = .ok (.putfield 25, 3) := dk_181 0 25 (dk_at dksX2_init_2 8 rfl rfl)
theorem dX2_init_56 : decode cX2_init 56 = .ok (.aload_n 0, 1) := dk_42 (dk_at dksX2_init_2 11 rfl rfl)
theorem dX2_init_57 : decode cX2_init 57 = .ok (.bipush 64, 2) := dk_16 64 (dk_at dksX2_init_2 12 rfl rfl)
theorem dX2_init_59 : decode cX2_init 59 = .ok (.newarray .int, 2) := dk_188_10 (dk_at dksX2_init_2 14 rfl rfl)
theorem dX2_init_61 : decode cX2_init 61 = .ok (.putfield 28, 3) := dk_181 0 28 (dk_at dksX2_init_2 16 rfl rfl)
theorem dX2_init_64 : decode cX2_init 64 = .ok (.aload_n 0, 1) := dk_42 (dk_at dksX2_init_2 19 rfl rfl)
theorem dX2_init_65 : decode cX2_init 65 = .ok (.bipush 16, 2) := dk_16 16 (dk_at dksX2_init_2 20 rfl rfl)
theorem dX2_init_67 : decode cX2_init 67 = .ok (.newarray .boolean, 2) := dk_188_4 (dk_at dksX2_init_2 22 rfl rfl)
theorem dX2_init_69 : decode cX2_init 69 = .ok (.putfield 31, 3) := dk_181 0 31 (dk_at dksX2_init_3 0 rfl rfl)
theorem dX2_init_72 : decode cX2_init 72 = .ok (.aload_n 0, 1) := dk_42 (dk_at dksX2_init_3 3 rfl rfl)
theorem dX2_init_73 : decode cX2_init 73 = .ok (.bipush 16, 2) := dk_16 16 (dk_at dksX2_init_3 4 rfl rfl)
theorem dX2_init_75 : decode cX2_init 75 = .ok (.newarray .float, 2) := dk_188_6 (dk_at dksX2_init_3 6 rfl rfl)
theorem dX2_init_77 : decode cX2_init 77 = .ok (.putfield 35, 3) := dk_181 0 35 (dk_at dksX2_init_3 8 rfl rfl)
theorem dX2_init_80 : decode cX2_init 80 = .ok (.return_, 1) := dk_177 (dk_at dksX2_init_3 11 rfl rfl)
abbrev cX2_addPerson : ByteArray := prog_9_method_27_code
def yX2_addPerson : MethodName := ⟨RX2, "addPerson", "(I)I"⟩
def dkwX2_addPerson_2 : List UInt8 := [180, 0, 7, 3, 92, 46, 4, 96, 79, 42, 42, 180, 0, 7, 3, 46, 4, 100, 182, 0, 110, 172]
abbrev dktX2_addPerson_2 : List UInt8 := dkwX2_addPerson_2 ++ []
def dkwX2_addPerson_1 : List UInt8 := [160, 0, 6, 16, 253, 172, 42, 180, 0, 7, 16, 6, 42, 180, 0, 7, 3, 46, 96, 27, 79, 42]
abbrev dktX2_addPerson_1 : List UInt8 := dkwX2_addPerson_1 ++ dktX2_addPerson_2
def dkwX2_addPerson_0 : List UInt8 := [42, 182, 0, 107, 27, 4, 8, 184, 0, 53, 154, 0, 6, 16, 254, 172, 42, 180, 0, 7, 3, 46, 16, 6]
abbrev dktX2_addPerson_0 : List UInt8 := dkwX2_addPerson_0 ++ dktX2_addPerson_1
theorem dksX2_addPerson_0 : cX2_addPerson.data.toList.drop 0 = dktX2_addPerson_0 := by decide +kernel
theorem dksX2_addPerson_1 : cX2_addPerson.data.toList.drop 24 = dktX2_addPerson_1 := dk_seg dksX2_addPerson_0 24 rfl rfl
theorem dksX2_addPerson_2 : cX2_addPerson.data.toList.drop 46 = dktX2_addPerson_2 := dk_seg dksX2_addPerson_1 22 rfl rfl
theorem dX2_addPerson_0 : decode cX2_addPerson 0 = .ok (.aload_n 0, 1) := dk_42 (dk_at dksX2_addPerson_0 0 rfl rfl)
theorem dX2_addPerson_1 : decode cX2_addPerson 1 = .ok (.invokevirtual 107, 3) := dk_182 0 107 (dk_at dksX2_addPerson_0 1 rfl rfl)
theorem dX2_addPerson_4 : decode cX2_addPerson 4 = .ok (.iload_n 1, 1) := dk_27 (dk_at dksX2_addPerson_0 4 rfl rfl)
theorem dX2_addPerson_5 : decode cX2_addPerson 5 = .ok (.iconst 1, 1) := dk_4 (dk_at dksX2_addPerson_0 5 rfl rfl)
theorem dX2_addPerson_6 : decode cX2_addPerson 6 = .ok (.iconst 5, 1) := dk_8 (dk_at dksX2_addPerson_0 6 rfl rfl)
theorem dX2_addPerson_7 : decode cX2_addPerson 7 = .ok (.invokestatic 53, 3) := dk_184 0 53 (dk_at dksX2_addPerson_0 7 rfl rfl)
theorem dX2_addPerson_10 : decode cX2_addPerson 10 = .ok (.ifCond .ne 6, 3) := dk_154 0 6 (dk_at dksX2_addPerson_0 10 rfl rfl)
theorem dX2_addPerson_13 : decode cX2_addPerson 13 = .ok (.bipush (-2), 2) := dk_16 254 (dk_at dksX2_addPerson_0 13 rfl rfl)
theorem dX2_addPerson_15 : decode cX2_addPerson 15 = .ok (.ireturn, 1) := dk_172 (dk_at dksX2_addPerson_0 15 rfl rfl)
theorem dX2_addPerson_16 : decode cX2_addPerson 16 = .ok (.aload_n 0, 1) := dk_42 (dk_at dksX2_addPerson_0 16 rfl rfl)
theorem dX2_addPerson_17 : decode cX2_addPerson 17 = .ok (.getfield 7, 3) := dk_180 0 7 (dk_at dksX2_addPerson_0 17 rfl rfl)
theorem dX2_addPerson_20 : decode cX2_addPerson 20 = .ok (.iconst 0, 1) := dk_3 (dk_at dksX2_addPerson_0 20 rfl rfl)
theorem dX2_addPerson_21 : decode cX2_addPerson 21 = .ok (.iaload, 1) := dk_46 (dk_at dksX2_addPerson_0 21 rfl rfl)
theorem dX2_addPerson_22 : decode cX2_addPerson 22 = .ok (.bipush 6, 2) := dk_16 6 (dk_at dksX2_addPerson_0 22 rfl rfl)
theorem dX2_addPerson_24 : decode cX2_addPerson 24 = .ok (.if_icmp .ne 6, 3) := dk_160 0 6 (dk_at dksX2_addPerson_1 0 rfl rfl)
theorem dX2_addPerson_27 : decode cX2_addPerson 27 = .ok (.bipush (-3), 2) := dk_16 253 (dk_at dksX2_addPerson_1 3 rfl rfl)
theorem dX2_addPerson_29 : decode cX2_addPerson 29 = .ok (.ireturn, 1) := dk_172 (dk_at dksX2_addPerson_1 5 rfl rfl)
theorem dX2_addPerson_30 : decode cX2_addPerson 30 = .ok (.aload_n 0, 1) := dk_42 (dk_at dksX2_addPerson_1 6 rfl rfl)
theorem dX2_addPerson_31 : decode cX2_addPerson 31 = .ok (.getfield 7, 3) := dk_180 0 7 (dk_at dksX2_addPerson_1 7 rfl rfl)
theorem dX2_addPerson_34 : decode cX2_addPerson 34 = .ok (.bipush 6, 2) := dk_16 6 (dk_at dksX2_addPerson_1 10 rfl rfl)
theorem dX2_addPerson_36 : decode cX2_addPerson 36 = .ok (.aload_n 0, 1) := dk_42 (dk_at dksX2_addPerson_1 12 rfl rfl)
theorem dX2_addPerson_37 : decode cX2_addPerson 37 = .ok (.getfield 7, 3) := dk_180 0 7 (dk_at dksX2_addPerson_1 13 rfl rfl)
theorem dX2_addPerson_40 : decode cX2_addPerson 40 = .ok (.iconst 0, 1) := dk_3 (dk_at dksX2_addPerson_1 16 rfl rfl)
theorem dX2_addPerson_41 : decode cX2_addPerson 41 = .ok (.iaload, 1) := dk_46 (dk_at dksX2_addPerson_1 17 rfl rfl)
theorem dX2_addPerson_42 : decode cX2_addPerson 42 = .ok (.iadd, 1) := dk_96 (dk_at dksX2_addPerson_1 18 rfl rfl)
theorem dX2_addPerson_43 : decode cX2_addPerson 43 = .ok (.iload_n 1, 1) := dk_27 (dk_at dksX2_addPerson_1 19 rfl rfl)
theorem dX2_addPerson_44 : decode cX2_addPerson 44 = .ok (.iastore, 1) := dk_79 (dk_at dksX2_addPerson_1 20 rfl rfl)
theorem dX2_addPerson_45 : decode cX2_addPerson 45 = .ok (.aload_n 0, 1) := dk_42 (dk_at dksX2_addPerson_1 21 rfl rfl)
theorem dX2_addPerson_46 : decode cX2_addPerson 46 = .ok (.getfield 7, 3) := dk_180 0 7 (dk_at dksX2_addPerson_2 0 rfl rfl)
theorem dX2_addPerson_49 : decode cX2_addPerson 49 = .ok (.iconst 0, 1) := dk_3 (dk_at dksX2_addPerson_2 3 rfl rfl)
theorem dX2_addPerson_50 : decode cX2_addPerson 50 = .ok (.dup2, 1) := dk_92 (dk_at dksX2_addPerson_2 4 rfl rfl)
theorem dX2_addPerson_51 : decode cX2_addPerson 51 = .ok (.iaload, 1) := dk_46 (dk_at dksX2_addPerson_2 5 rfl rfl)
theorem dX2_addPerson_52 : decode cX2_addPerson 52 = .ok (.iconst 1, 1) := dk_4 (dk_at dksX2_addPerson_2 6 rfl rfl)
theorem dX2_addPerson_53 : decode cX2_addPerson 53 = .ok (.iadd, 1) := dk_96 (dk_at dksX2_addPerson_2 7 rfl rfl)
theorem dX2_addPerson_54 : decode cX2_addPerson 54 = .ok (.iastore, 1) := dk_79 (dk_at dksX2_addPerson_2 8 rfl rfl)
theorem dX2_addPerson_55 : decode cX2_addPerson 55 = .ok (.aload_n 0, 1) := dk_42 (dk_at dksX2_addPerson_2 9 rfl rfl)
theorem dX2_addPerson_56 : decode cX2_addPerson 56 = .ok (.aload_n 0, 1) := dk_42 (dk_at dksX2_addPerson_2 10 rfl rfl)
theorem dX2_addPerson_57 : decode cX2_addPerson 57 = .ok (.getfield 7, 3) := dk_180 0 7 (dk_at dksX2_addPerson_2 11 rfl rfl)
theorem dX2_addPerson_60 : decode cX2_addPerson 60 = .ok (.iconst 0, 1) := dk_3 (dk_at dksX2_addPerson_2 14 rfl rfl)
theorem dX2_addPerson_61 : decode cX2_addPerson 61 = .ok (.iaload, 1) := dk_46 (dk_at dksX2_addPerson_2 15 rfl rfl)
theorem dX2_addPerson_62 : decode cX2_addPerson 62 = .ok (.iconst 1, 1) := dk_4 (dk_at dksX2_addPerson_2 16 rfl rfl)
theorem dX2_addPerson_63 : decode cX2_addPerson 63 = .ok (.isub, 1) := dk_100 (dk_at dksX2_addPerson_2 17 rfl rfl)
theorem dX2_addPerson_64 : decode cX2_addPerson 64 = .ok (.invokevirtual 110, 3) := dk_182 0 110 (dk_at dksX2_addPerson_2 18 rfl rfl)
theorem dX2_addPerson_67 : decode cX2_addPerson 67 = .ok (.ireturn, 1) := dk_172 (dk_at dksX2_addPerson_2 21 rfl rfl)
abbrev cX2_aside : ByteArray := prog_9_method_14_code
def yX2_aside : MethodName := ⟨RX2, "aside", "()V"⟩
def dkwX2_aside_1 : List UInt8 := [46, 79, 132, 1, 1, 167, 255, 234, 177]
abbrev dktX2_aside_1 : List UInt8 := dkwX2_aside_1 ++ []
def dkwX2_aside_0 : List UInt8 := [42, 3, 181, 0, 39, 3, 60, 27, 17, 1, 36, 162, 0, 21, 42, 180, 0, 13, 27, 42, 180, 0, 7, 27]
abbrev dktX2_aside_0 : List UInt8 := dkwX2_aside_0 ++ dktX2_aside_1
theorem dksX2_aside_0 : cX2_aside.data.toList.drop 0 = dktX2_aside_0 := by decide +kernel
theorem dksX2_aside_1 : cX2_aside.data.toList.drop 24 = dktX2_aside_1 := dk_seg dksX2_aside_0 24 rfl rfl
theorem dX2_aside_0 : decode cX2_aside 0 = .ok (.aload_n 0, 1) := dk_42 (dk_at dksX2_aside_0 0 rfl rfl)
theorem dX2_aside_1 : decode cX2_aside 1 = .ok (.iconst 0, 1) := dk_3 (dk_at dksX2_aside_0 1 rfl rfl)
theorem dX2_aside_2 : decode cX2_aside 2 = .ok (.putfield 39, 3) := dk_181 0 39 (dk_at dksX2_aside_0 2 rfl rfl)
theorem dX2_aside_5 : decode cX2_aside 5 = .ok (.iconst 0, 1) := dk_3 (dk_at dksX2_aside_0 5 rfl rfl)
theorem dX2_aside_6 : decode cX2_aside 6 = .ok (.istore_n 1, 1) := dk_60 (dk_at dksX2_aside_0 6 rfl rfl)
theorem dX2_aside_7 : decode cX2_aside 7 = .ok (.iload_n 1, 1) := dk_27 (dk_at dksX2_aside_0 7 rfl rfl)
theorem dX2_aside_8 : decode cX2_aside 8 = .ok (.sipush 292, 3) := dk_17 1 36 (dk_at dksX2_aside_0 8 rfl rfl)
theorem dX2_aside_11 : decode cX2_aside 11 = .ok (.if_icmp .ge 21, 3) := dk_162 0 21 (dk_at dksX2_aside_0 11 rfl rfl)
theorem dX2_aside_14 : decode cX2_aside 14 = .ok (.aload_n 0, 1) := dk_42 (dk_at dksX2_aside_0 14 rfl rfl)
theorem dX2_aside_15 : decode cX2_aside 15 = .ok (.getfield 13, 3) := dk_180 0 13 (dk_at dksX2_aside_0 15 rfl rfl)
theorem dX2_aside_18 : decode cX2_aside 18 = .ok (.iload_n 1, 1) := dk_27 (dk_at dksX2_aside_0 18 rfl rfl)
theorem dX2_aside_19 : decode cX2_aside 19 = .ok (.aload_n 0, 1) := dk_42 (dk_at dksX2_aside_0 19 rfl rfl)
theorem dX2_aside_20 : decode cX2_aside 20 = .ok (.getfield 7, 3) := dk_180 0 7 (dk_at dksX2_aside_0 20 rfl rfl)
theorem dX2_aside_23 : decode cX2_aside 23 = .ok (.iload_n 1, 1) := dk_27 (dk_at dksX2_aside_0 23 rfl rfl)
theorem dX2_aside_24 : decode cX2_aside 24 = .ok (.iaload, 1) := dk_46 (dk_at dksX2_aside_1 0 rfl rfl)
theorem dX2_aside_25 : decode cX2_aside 25 = .ok (.iastore, 1) := dk_79 (dk_at dksX2_aside_1 1 rfl rfl)
theorem dX2_aside_26 : decode cX2_aside 26 = .ok (.iinc 1 1, 3) := dk_132 1 1 (dk_at dksX2_aside_1 2 rfl rfl)
theorem dX2_aside_29 : decode cX2_aside 29 = .ok (.goto (-22), 3) := dk_167 255 234 (dk_at dksX2_aside_1 5 rfl rfl)
theorem dX2_aside_32 : decode cX2_aside 32 = .ok (.return_, 1) := dk_177 (dk_at dksX2_aside_1 8 rfl rfl)
abbrev cX2_in : ByteArray := prog_9_method_3_code
def yX2_in : MethodName := ⟨RX2, "in", "(III)Z"⟩
def dkwX2_in_0 : List UInt8 := [26, 27, 161, 0, 12, 26, 28, 163, 0, 7, 4, 167, 0, 4, 3, 172]
abbrev dktX2_in_0 : List UInt8 := dkwX2_in_0 ++ []
theorem dksX2_in_0 : cX2_in.data.toList.drop 0 = dktX2_in_0 := by decide +kernel
theorem dX2_in_0 : decode cX2_in 0 = .ok (.iload_n 0, 1) := dk_26 (dk_at dksX2_in_0 0 rfl rfl)
theorem dX2_in_1 : decode cX2_in 1 = .ok (.iload_n 1, 1) := dk_27 (dk_at dksX2_in_0 1 rfl rfl)
theorem dX2_in_2 : decode cX2_in 2 = .ok (.if_icmp .lt 12, 3) := dk_161 0 12 (dk_at dksX2_in_0 2 rfl rfl)
theorem dX2_in_5 : decode cX2_in 5 = .ok (.iload_n 0, 1) := dk_26 (dk_at dksX2_in_0 5 rfl rfl)
theorem dX2_in_6 : decode cX2_in 6 = .ok (.iload_n 2, 1) := dk_28 (dk_at dksX2_in_0 6 rfl rfl)
theorem dX2_in_7 : decode cX2_in 7 = .ok (.if_icmp .gt 7, 3) := dk_163 0 7 (dk_at dksX2_in_0 7 rfl rfl)
theorem dX2_in_10 : decode cX2_in 10 = .ok (.iconst 1, 1) := dk_4 (dk_at dksX2_in_0 10 rfl rfl)
theorem dX2_in_11 : decode cX2_in 11 = .ok (.goto 4, 3) := dk_167 0 4 (dk_at dksX2_in_0 11 rfl rfl)
theorem dX2_in_14 : decode cX2_in 14 = .ok (.iconst 0, 1) := dk_3 (dk_at dksX2_in_0 14 rfl rfl)
theorem dX2_in_15 : decode cX2_in 15 = .ok (.ireturn, 1) := dk_172 (dk_at dksX2_in_0 15 rfl rfl)
abbrev cX2_acted : ByteArray := prog_9_method_16_code
def yX2_acted : MethodName := ⟨RX2, "acted", "(I)I"⟩
def dkwX2_acted_4 : List UInt8 := [181, 0, 63, 27, 172]
abbrev dktX2_acted_4 : List UInt8 := dkwX2_acted_4 ++ []
def dkwX2_acted_3 : List UInt8 := [28, 96, 42, 180, 0, 13, 28, 46, 79, 132, 2, 1, 167, 255, 225, 42, 89, 180, 0, 63, 4, 96]
abbrev dktX2_acted_3 : List UInt8 := dkwX2_acted_3 ++ dktX2_acted_4
def dkwX2_acted_2 : List UInt8 := [181, 0, 63, 3, 61, 28, 17, 1, 36, 162, 0, 30, 42, 180, 0, 19, 17, 1, 36, 42, 180, 0, 63, 104]
abbrev dktX2_acted_2 : List UInt8 := dkwX2_acted_2 ++ dktX2_acted_3
def dkwX2_acted_1 : List UInt8 := [180, 0, 19, 28, 17, 1, 36, 96, 46, 79, 132, 2, 1, 167, 255, 230, 42, 89, 180, 0, 63, 4, 100]
abbrev dktX2_acted_1 : List UInt8 := dkwX2_acted_1 ++ dktX2_acted_2
def dkwX2_acted_0 : List UInt8 := [42, 180, 0, 63, 7, 160, 0, 44, 3, 61, 28, 17, 3, 108, 162, 0, 25, 42, 180, 0, 19, 28, 42]
abbrev dktX2_acted_0 : List UInt8 := dkwX2_acted_0 ++ dktX2_acted_1
theorem dksX2_acted_0 : cX2_acted.data.toList.drop 0 = dktX2_acted_0 := by decide +kernel
theorem dksX2_acted_1 : cX2_acted.data.toList.drop 23 = dktX2_acted_1 := dk_seg dksX2_acted_0 23 rfl rfl
theorem dksX2_acted_2 : cX2_acted.data.toList.drop 46 = dktX2_acted_2 := dk_seg dksX2_acted_1 23 rfl rfl
theorem dksX2_acted_3 : cX2_acted.data.toList.drop 70 = dktX2_acted_3 := dk_seg dksX2_acted_2 24 rfl rfl
theorem dksX2_acted_4 : cX2_acted.data.toList.drop 92 = dktX2_acted_4 := dk_seg dksX2_acted_3 22 rfl rfl
theorem dX2_acted_0 : decode cX2_acted 0 = .ok (.aload_n 0, 1) := dk_42 (dk_at dksX2_acted_0 0 rfl rfl)
theorem dX2_acted_1 : decode cX2_acted 1 = .ok (.getfield 63, 3) := dk_180 0 63 (dk_at dksX2_acted_0 1 rfl rfl)
theorem dX2_acted_4 : decode cX2_acted 4 = .ok (.iconst 4, 1) := dk_7 (dk_at dksX2_acted_0 4 rfl rfl)
theorem dX2_acted_5 : decode cX2_acted 5 = .ok (.if_icmp .ne 44, 3) := dk_160 0 44 (dk_at dksX2_acted_0 5 rfl rfl)
theorem dX2_acted_8 : decode cX2_acted 8 = .ok (.iconst 0, 1) := dk_3 (dk_at dksX2_acted_0 8 rfl rfl)
theorem dX2_acted_9 : decode cX2_acted 9 = .ok (.istore_n 2, 1) := dk_61 (dk_at dksX2_acted_0 9 rfl rfl)
theorem dX2_acted_10 : decode cX2_acted 10 = .ok (.iload_n 2, 1) := dk_28 (dk_at dksX2_acted_0 10 rfl rfl)
theorem dX2_acted_11 : decode cX2_acted 11 = .ok (.sipush 876, 3) := dk_17 3 108 (dk_at dksX2_acted_0 11 rfl rfl)
theorem dX2_acted_14 : decode cX2_acted 14 = .ok (.if_icmp .ge 25, 3) := dk_162 0 25 (dk_at dksX2_acted_0 14 rfl rfl)
theorem dX2_acted_17 : decode cX2_acted 17 = .ok (.aload_n 0, 1) := dk_42 (dk_at dksX2_acted_0 17 rfl rfl)
theorem dX2_acted_18 : decode cX2_acted 18 = .ok (.getfield 19, 3) := dk_180 0 19 (dk_at dksX2_acted_0 18 rfl rfl)
theorem dX2_acted_21 : decode cX2_acted 21 = .ok (.iload_n 2, 1) := dk_28 (dk_at dksX2_acted_0 21 rfl rfl)
theorem dX2_acted_22 : decode cX2_acted 22 = .ok (.aload_n 0, 1) := dk_42 (dk_at dksX2_acted_0 22 rfl rfl)
theorem dX2_acted_23 : decode cX2_acted 23 = .ok (.getfield 19, 3) := dk_180 0 19 (dk_at dksX2_acted_1 0 rfl rfl)
theorem dX2_acted_26 : decode cX2_acted 26 = .ok (.iload_n 2, 1) := dk_28 (dk_at dksX2_acted_1 3 rfl rfl)
theorem dX2_acted_27 : decode cX2_acted 27 = .ok (.sipush 292, 3) := dk_17 1 36 (dk_at dksX2_acted_1 4 rfl rfl)
theorem dX2_acted_30 : decode cX2_acted 30 = .ok (.iadd, 1) := dk_96 (dk_at dksX2_acted_1 7 rfl rfl)
theorem dX2_acted_31 : decode cX2_acted 31 = .ok (.iaload, 1) := dk_46 (dk_at dksX2_acted_1 8 rfl rfl)
theorem dX2_acted_32 : decode cX2_acted 32 = .ok (.iastore, 1) := dk_79 (dk_at dksX2_acted_1 9 rfl rfl)
theorem dX2_acted_33 : decode cX2_acted 33 = .ok (.iinc 2 1, 3) := dk_132 2 1 (dk_at dksX2_acted_1 10 rfl rfl)
theorem dX2_acted_36 : decode cX2_acted 36 = .ok (.goto (-26), 3) := dk_167 255 230 (dk_at dksX2_acted_1 13 rfl rfl)
theorem dX2_acted_39 : decode cX2_acted 39 = .ok (.aload_n 0, 1) := dk_42 (dk_at dksX2_acted_1 16 rfl rfl)
theorem dX2_acted_40 : decode cX2_acted 40 = .ok (.dup, 1) := dk_89 (dk_at dksX2_acted_1 17 rfl rfl)
theorem dX2_acted_41 : decode cX2_acted 41 = .ok (.getfield 63, 3) := dk_180 0 63 (dk_at dksX2_acted_1 18 rfl rfl)
theorem dX2_acted_44 : decode cX2_acted 44 = .ok (.iconst 1, 1) := dk_4 (dk_at dksX2_acted_1 21 rfl rfl)
theorem dX2_acted_45 : decode cX2_acted 45 = .ok (.isub, 1) := dk_100 (dk_at dksX2_acted_1 22 rfl rfl)
theorem dX2_acted_46 : decode cX2_acted 46 = .ok (.putfield 63, 3) := dk_181 0 63 (dk_at dksX2_acted_2 0 rfl rfl)
theorem dX2_acted_49 : decode cX2_acted 49 = .ok (.iconst 0, 1) := dk_3 (dk_at dksX2_acted_2 3 rfl rfl)
theorem dX2_acted_50 : decode cX2_acted 50 = .ok (.istore_n 2, 1) := dk_61 (dk_at dksX2_acted_2 4 rfl rfl)
theorem dX2_acted_51 : decode cX2_acted 51 = .ok (.iload_n 2, 1) := dk_28 (dk_at dksX2_acted_2 5 rfl rfl)
theorem dX2_acted_52 : decode cX2_acted 52 = .ok (.sipush 292, 3) := dk_17 1 36 (dk_at dksX2_acted_2 6 rfl rfl)
theorem dX2_acted_55 : decode cX2_acted 55 = .ok (.if_icmp .ge 30, 3) := dk_162 0 30 (dk_at dksX2_acted_2 9 rfl rfl)
theorem dX2_acted_58 : decode cX2_acted 58 = .ok (.aload_n 0, 1) := dk_42 (dk_at dksX2_acted_2 12 rfl rfl)
theorem dX2_acted_59 : decode cX2_acted 59 = .ok (.getfield 19, 3) := dk_180 0 19 (dk_at dksX2_acted_2 13 rfl rfl)
theorem dX2_acted_62 : decode cX2_acted 62 = .ok (.sipush 292, 3) := dk_17 1 36 (dk_at dksX2_acted_2 16 rfl rfl)
theorem dX2_acted_65 : decode cX2_acted 65 = .ok (.aload_n 0, 1) := dk_42 (dk_at dksX2_acted_2 19 rfl rfl)
theorem dX2_acted_66 : decode cX2_acted 66 = .ok (.getfield 63, 3) := dk_180 0 63 (dk_at dksX2_acted_2 20 rfl rfl)
theorem dX2_acted_69 : decode cX2_acted 69 = .ok (.imul, 1) := dk_104 (dk_at dksX2_acted_2 23 rfl rfl)
theorem dX2_acted_70 : decode cX2_acted 70 = .ok (.iload_n 2, 1) := dk_28 (dk_at dksX2_acted_3 0 rfl rfl)
theorem dX2_acted_71 : decode cX2_acted 71 = .ok (.iadd, 1) := dk_96 (dk_at dksX2_acted_3 1 rfl rfl)
theorem dX2_acted_72 : decode cX2_acted 72 = .ok (.aload_n 0, 1) := dk_42 (dk_at dksX2_acted_3 2 rfl rfl)
theorem dX2_acted_73 : decode cX2_acted 73 = .ok (.getfield 13, 3) := dk_180 0 13 (dk_at dksX2_acted_3 3 rfl rfl)
theorem dX2_acted_76 : decode cX2_acted 76 = .ok (.iload_n 2, 1) := dk_28 (dk_at dksX2_acted_3 6 rfl rfl)
theorem dX2_acted_77 : decode cX2_acted 77 = .ok (.iaload, 1) := dk_46 (dk_at dksX2_acted_3 7 rfl rfl)
theorem dX2_acted_78 : decode cX2_acted 78 = .ok (.iastore, 1) := dk_79 (dk_at dksX2_acted_3 8 rfl rfl)
theorem dX2_acted_79 : decode cX2_acted 79 = .ok (.iinc 2 1, 3) := dk_132 2 1 (dk_at dksX2_acted_3 9 rfl rfl)
theorem dX2_acted_82 : decode cX2_acted 82 = .ok (.goto (-31), 3) := dk_167 255 225 (dk_at dksX2_acted_3 12 rfl rfl)
theorem dX2_acted_85 : decode cX2_acted 85 = .ok (.aload_n 0, 1) := dk_42 (dk_at dksX2_acted_3 15 rfl rfl)
theorem dX2_acted_86 : decode cX2_acted 86 = .ok (.dup, 1) := dk_89 (dk_at dksX2_acted_3 16 rfl rfl)
theorem dX2_acted_87 : decode cX2_acted 87 = .ok (.getfield 63, 3) := dk_180 0 63 (dk_at dksX2_acted_3 17 rfl rfl)
theorem dX2_acted_90 : decode cX2_acted 90 = .ok (.iconst 1, 1) := dk_4 (dk_at dksX2_acted_3 20 rfl rfl)
theorem dX2_acted_91 : decode cX2_acted 91 = .ok (.iadd, 1) := dk_96 (dk_at dksX2_acted_3 21 rfl rfl)
theorem dX2_acted_92 : decode cX2_acted 92 = .ok (.putfield 63, 3) := dk_181 0 63 (dk_at dksX2_acted_4 0 rfl rfl)
theorem dX2_acted_95 : decode cX2_acted 95 = .ok (.iload_n 1, 1) := dk_27 (dk_at dksX2_acted_4 3 rfl rfl)
theorem dX2_acted_96 : decode cX2_acted 96 = .ok (.ireturn, 1) := dk_172 (dk_at dksX2_acted_4 4 rfl rfl)
abbrev cX2_setRank : ByteArray := prog_9_method_28_code
def yX2_setRank : MethodName := ⟨RX2, "setRank", "(II)I"⟩
def dkwX2_setRank_2 : List UInt8 := [180, 0, 7, 16, 6, 27, 96, 28, 79, 42, 29, 182, 0, 110, 172]
abbrev dktX2_setRank_2 : List UInt8 := dkwX2_setRank_2 ++ []
def dkwX2_setRank_1 : List UInt8 := [16, 254, 172, 42, 180, 0, 7, 16, 6, 27, 96, 46, 62, 29, 28, 160, 0, 6, 16, 251, 172, 42]
abbrev dktX2_setRank_1 : List UInt8 := dkwX2_setRank_1 ++ dktX2_setRank_2
def dkwX2_setRank_0 : List UInt8 := [42, 182, 0, 107, 42, 27, 182, 0, 113, 154, 0, 5, 2, 172, 28, 4, 8, 184, 0, 53, 154, 0, 6]
abbrev dktX2_setRank_0 : List UInt8 := dkwX2_setRank_0 ++ dktX2_setRank_1
theorem dksX2_setRank_0 : cX2_setRank.data.toList.drop 0 = dktX2_setRank_0 := by decide +kernel
theorem dksX2_setRank_1 : cX2_setRank.data.toList.drop 23 = dktX2_setRank_1 := dk_seg dksX2_setRank_0 23 rfl rfl
theorem dksX2_setRank_2 : cX2_setRank.data.toList.drop 45 = dktX2_setRank_2 := dk_seg dksX2_setRank_1 22 rfl rfl
theorem dX2_setRank_0 : decode cX2_setRank 0 = .ok (.aload_n 0, 1) := dk_42 (dk_at dksX2_setRank_0 0 rfl rfl)
theorem dX2_setRank_1 : decode cX2_setRank 1 = .ok (.invokevirtual 107, 3) := dk_182 0 107 (dk_at dksX2_setRank_0 1 rfl rfl)
theorem dX2_setRank_4 : decode cX2_setRank 4 = .ok (.aload_n 0, 1) := dk_42 (dk_at dksX2_setRank_0 4 rfl rfl)
theorem dX2_setRank_5 : decode cX2_setRank 5 = .ok (.iload_n 1, 1) := dk_27 (dk_at dksX2_setRank_0 5 rfl rfl)
theorem dX2_setRank_6 : decode cX2_setRank 6 = .ok (.invokevirtual 113, 3) := dk_182 0 113 (dk_at dksX2_setRank_0 6 rfl rfl)
theorem dX2_setRank_9 : decode cX2_setRank 9 = .ok (.ifCond .ne 5, 3) := dk_154 0 5 (dk_at dksX2_setRank_0 9 rfl rfl)
theorem dX2_setRank_12 : decode cX2_setRank 12 = .ok (.iconst (-1), 1) := dk_2 (dk_at dksX2_setRank_0 12 rfl rfl)
theorem dX2_setRank_13 : decode cX2_setRank 13 = .ok (.ireturn, 1) := dk_172 (dk_at dksX2_setRank_0 13 rfl rfl)
theorem dX2_setRank_14 : decode cX2_setRank 14 = .ok (.iload_n 2, 1) := dk_28 (dk_at dksX2_setRank_0 14 rfl rfl)
theorem dX2_setRank_15 : decode cX2_setRank 15 = .ok (.iconst 1, 1) := dk_4 (dk_at dksX2_setRank_0 15 rfl rfl)
theorem dX2_setRank_16 : decode cX2_setRank 16 = .ok (.iconst 5, 1) := dk_8 (dk_at dksX2_setRank_0 16 rfl rfl)
theorem dX2_setRank_17 : decode cX2_setRank 17 = .ok (.invokestatic 53, 3) := dk_184 0 53 (dk_at dksX2_setRank_0 17 rfl rfl)
theorem dX2_setRank_20 : decode cX2_setRank 20 = .ok (.ifCond .ne 6, 3) := dk_154 0 6 (dk_at dksX2_setRank_0 20 rfl rfl)
theorem dX2_setRank_23 : decode cX2_setRank 23 = .ok (.bipush (-2), 2) := dk_16 254 (dk_at dksX2_setRank_1 0 rfl rfl)
theorem dX2_setRank_25 : decode cX2_setRank 25 = .ok (.ireturn, 1) := dk_172 (dk_at dksX2_setRank_1 2 rfl rfl)
theorem dX2_setRank_26 : decode cX2_setRank 26 = .ok (.aload_n 0, 1) := dk_42 (dk_at dksX2_setRank_1 3 rfl rfl)
theorem dX2_setRank_27 : decode cX2_setRank 27 = .ok (.getfield 7, 3) := dk_180 0 7 (dk_at dksX2_setRank_1 4 rfl rfl)
theorem dX2_setRank_30 : decode cX2_setRank 30 = .ok (.bipush 6, 2) := dk_16 6 (dk_at dksX2_setRank_1 7 rfl rfl)
theorem dX2_setRank_32 : decode cX2_setRank 32 = .ok (.iload_n 1, 1) := dk_27 (dk_at dksX2_setRank_1 9 rfl rfl)
theorem dX2_setRank_33 : decode cX2_setRank 33 = .ok (.iadd, 1) := dk_96 (dk_at dksX2_setRank_1 10 rfl rfl)
theorem dX2_setRank_34 : decode cX2_setRank 34 = .ok (.iaload, 1) := dk_46 (dk_at dksX2_setRank_1 11 rfl rfl)
theorem dX2_setRank_35 : decode cX2_setRank 35 = .ok (.istore_n 3, 1) := dk_62 (dk_at dksX2_setRank_1 12 rfl rfl)
theorem dX2_setRank_36 : decode cX2_setRank 36 = .ok (.iload_n 3, 1) := dk_29 (dk_at dksX2_setRank_1 13 rfl rfl)
theorem dX2_setRank_37 : decode cX2_setRank 37 = .ok (.iload_n 2, 1) := dk_28 (dk_at dksX2_setRank_1 14 rfl rfl)
theorem dX2_setRank_38 : decode cX2_setRank 38 = .ok (.if_icmp .ne 6, 3) := dk_160 0 6 (dk_at dksX2_setRank_1 15 rfl rfl)
theorem dX2_setRank_41 : decode cX2_setRank 41 = .ok (.bipush (-5), 2) := dk_16 251 (dk_at dksX2_setRank_1 18 rfl rfl)
theorem dX2_setRank_43 : decode cX2_setRank 43 = .ok (.ireturn, 1) := dk_172 (dk_at dksX2_setRank_1 20 rfl rfl)
theorem dX2_setRank_44 : decode cX2_setRank 44 = .ok (.aload_n 0, 1) := dk_42 (dk_at dksX2_setRank_1 21 rfl rfl)
theorem dX2_setRank_45 : decode cX2_setRank 45 = .ok (.getfield 7, 3) := dk_180 0 7 (dk_at dksX2_setRank_2 0 rfl rfl)
theorem dX2_setRank_48 : decode cX2_setRank 48 = .ok (.bipush 6, 2) := dk_16 6 (dk_at dksX2_setRank_2 3 rfl rfl)
theorem dX2_setRank_50 : decode cX2_setRank 50 = .ok (.iload_n 1, 1) := dk_27 (dk_at dksX2_setRank_2 5 rfl rfl)
theorem dX2_setRank_51 : decode cX2_setRank 51 = .ok (.iadd, 1) := dk_96 (dk_at dksX2_setRank_2 6 rfl rfl)
theorem dX2_setRank_52 : decode cX2_setRank 52 = .ok (.iload_n 2, 1) := dk_28 (dk_at dksX2_setRank_2 7 rfl rfl)
theorem dX2_setRank_53 : decode cX2_setRank 53 = .ok (.iastore, 1) := dk_79 (dk_at dksX2_setRank_2 8 rfl rfl)
theorem dX2_setRank_54 : decode cX2_setRank 54 = .ok (.aload_n 0, 1) := dk_42 (dk_at dksX2_setRank_2 9 rfl rfl)
theorem dX2_setRank_55 : decode cX2_setRank 55 = .ok (.iload_n 3, 1) := dk_29 (dk_at dksX2_setRank_2 10 rfl rfl)
theorem dX2_setRank_56 : decode cX2_setRank 56 = .ok (.invokevirtual 110, 3) := dk_182 0 110 (dk_at dksX2_setRank_2 11 rfl rfl)
theorem dX2_setRank_59 : decode cX2_setRank 59 = .ok (.ireturn, 1) := dk_172 (dk_at dksX2_setRank_2 14 rfl rfl)
abbrev cX2_isPerson : ByteArray := prog_9_method_8_code
def yX2_isPerson : MethodName := ⟨RX2, "isPerson", "(I)Z"⟩
def dkwX2_isPerson_0 : List UInt8 := [27, 3, 42, 180, 0, 7, 3, 46, 4, 100, 184, 0, 53, 172]
abbrev dktX2_isPerson_0 : List UInt8 := dkwX2_isPerson_0 ++ []
theorem dksX2_isPerson_0 : cX2_isPerson.data.toList.drop 0 = dktX2_isPerson_0 := by decide +kernel
theorem dX2_isPerson_0 : decode cX2_isPerson 0 = .ok (.iload_n 1, 1) := dk_27 (dk_at dksX2_isPerson_0 0 rfl rfl)
theorem dX2_isPerson_1 : decode cX2_isPerson 1 = .ok (.iconst 0, 1) := dk_3 (dk_at dksX2_isPerson_0 1 rfl rfl)
theorem dX2_isPerson_2 : decode cX2_isPerson 2 = .ok (.aload_n 0, 1) := dk_42 (dk_at dksX2_isPerson_0 2 rfl rfl)
theorem dX2_isPerson_3 : decode cX2_isPerson 3 = .ok (.getfield 7, 3) := dk_180 0 7 (dk_at dksX2_isPerson_0 3 rfl rfl)
theorem dX2_isPerson_6 : decode cX2_isPerson 6 = .ok (.iconst 0, 1) := dk_3 (dk_at dksX2_isPerson_0 6 rfl rfl)
theorem dX2_isPerson_7 : decode cX2_isPerson 7 = .ok (.iaload, 1) := dk_46 (dk_at dksX2_isPerson_0 7 rfl rfl)
theorem dX2_isPerson_8 : decode cX2_isPerson 8 = .ok (.iconst 1, 1) := dk_4 (dk_at dksX2_isPerson_0 8 rfl rfl)
theorem dX2_isPerson_9 : decode cX2_isPerson 9 = .ok (.isub, 1) := dk_100 (dk_at dksX2_isPerson_0 9 rfl rfl)
theorem dX2_isPerson_10 : decode cX2_isPerson 10 = .ok (.invokestatic 53, 3) := dk_184 0 53 (dk_at dksX2_isPerson_0 10 rfl rfl)
theorem dX2_isPerson_13 : decode cX2_isPerson 13 = .ok (.ireturn, 1) := dk_172 (dk_at dksX2_isPerson_0 13 rfl rfl)
abbrev cX2_setTolerance : ByteArray := prog_9_method_29_code
def yX2_setTolerance : MethodName := ⟨RX2, "setTolerance", "(I)I"⟩
def dkwX2_setTolerance_2 : List UInt8 := [172]
abbrev dktX2_setTolerance_2 : List UInt8 := dkwX2_setTolerance_2 ++ []
def dkwX2_setTolerance_1 : List UInt8 := [180, 0, 7, 8, 46, 27, 160, 0, 6, 16, 251, 172, 42, 180, 0, 7, 8, 27, 79, 42, 4, 182, 0, 110]
abbrev dktX2_setTolerance_1 : List UInt8 := dkwX2_setTolerance_1 ++ dktX2_setTolerance_2
def dkwX2_setTolerance_0 : List UInt8 := [42, 182, 0, 107, 27, 155, 0, 13, 27, 11, 18, 116, 184, 0, 117, 154, 0, 6, 16, 254, 172, 42]
abbrev dktX2_setTolerance_0 : List UInt8 := dkwX2_setTolerance_0 ++ dktX2_setTolerance_1
theorem dksX2_setTolerance_0 : cX2_setTolerance.data.toList.drop 0 = dktX2_setTolerance_0 := by decide +kernel
theorem dksX2_setTolerance_1 : cX2_setTolerance.data.toList.drop 22 = dktX2_setTolerance_1 := dk_seg dksX2_setTolerance_0 22 rfl rfl
theorem dksX2_setTolerance_2 : cX2_setTolerance.data.toList.drop 46 = dktX2_setTolerance_2 := dk_seg dksX2_setTolerance_1 24 rfl rfl
theorem dX2_setTolerance_0 : decode cX2_setTolerance 0 = .ok (.aload_n 0, 1) := dk_42 (dk_at dksX2_setTolerance_0 0 rfl rfl)
theorem dX2_setTolerance_1 : decode cX2_setTolerance 1 = .ok (.invokevirtual 107, 3) := dk_182 0 107 (dk_at dksX2_setTolerance_0 1 rfl rfl)
theorem dX2_setTolerance_4 : decode cX2_setTolerance 4 = .ok (.iload_n 1, 1) := dk_27 (dk_at dksX2_setTolerance_0 4 rfl rfl)
theorem dX2_setTolerance_5 : decode cX2_setTolerance 5 = .ok (.ifCond .lt 13, 3) := dk_155 0 13 (dk_at dksX2_setTolerance_0 5 rfl rfl)
theorem dX2_setTolerance_8 : decode cX2_setTolerance 8 = .ok (.iload_n 1, 1) := dk_27 (dk_at dksX2_setTolerance_0 8 rfl rfl)
theorem dX2_setTolerance_9 : decode cX2_setTolerance 9 = .ok (.fconst 0, 1) := dk_11 (dk_at dksX2_setTolerance_0 9 rfl rfl)
theorem dX2_setTolerance_10 : decode cX2_setTolerance 10 = .ok (.ldc 116, 2) := dk_18 116 (dk_at dksX2_setTolerance_0 10 rfl rfl)
theorem dX2_setTolerance_12 : decode cX2_setTolerance 12 = .ok (.invokestatic 117, 3) := dk_184 0 117 (dk_at dksX2_setTolerance_0 12 rfl rfl)
theorem dX2_setTolerance_15 : decode cX2_setTolerance 15 = .ok (.ifCond .ne 6, 3) := dk_154 0 6 (dk_at dksX2_setTolerance_0 15 rfl rfl)
theorem dX2_setTolerance_18 : decode cX2_setTolerance 18 = .ok (.bipush (-2), 2) := dk_16 254 (dk_at dksX2_setTolerance_0 18 rfl rfl)
theorem dX2_setTolerance_20 : decode cX2_setTolerance 20 = .ok (.ireturn, 1) := dk_172 (dk_at dksX2_setTolerance_0 20 rfl rfl)
theorem dX2_setTolerance_21 : decode cX2_setTolerance 21 = .ok (.aload_n 0, 1) := dk_42 (dk_at dksX2_setTolerance_0 21 rfl rfl)
theorem dX2_setTolerance_22 : decode cX2_setTolerance 22 = .ok (.getfield 7, 3) := dk_180 0 7 (dk_at dksX2_setTolerance_1 0 rfl rfl)
theorem dX2_setTolerance_25 : decode cX2_setTolerance 25 = .ok (.iconst 5, 1) := dk_8 (dk_at dksX2_setTolerance_1 3 rfl rfl)
theorem dX2_setTolerance_26 : decode cX2_setTolerance 26 = .ok (.iaload, 1) := dk_46 (dk_at dksX2_setTolerance_1 4 rfl rfl)
theorem dX2_setTolerance_27 : decode cX2_setTolerance 27 = .ok (.iload_n 1, 1) := dk_27 (dk_at dksX2_setTolerance_1 5 rfl rfl)
theorem dX2_setTolerance_28 : decode cX2_setTolerance 28 = .ok (.if_icmp .ne 6, 3) := dk_160 0 6 (dk_at dksX2_setTolerance_1 6 rfl rfl)
theorem dX2_setTolerance_31 : decode cX2_setTolerance 31 = .ok (.bipush (-5), 2) := dk_16 251 (dk_at dksX2_setTolerance_1 9 rfl rfl)
theorem dX2_setTolerance_33 : decode cX2_setTolerance 33 = .ok (.ireturn, 1) := dk_172 (dk_at dksX2_setTolerance_1 11 rfl rfl)
theorem dX2_setTolerance_34 : decode cX2_setTolerance 34 = .ok (.aload_n 0, 1) := dk_42 (dk_at dksX2_setTolerance_1 12 rfl rfl)
theorem dX2_setTolerance_35 : decode cX2_setTolerance 35 = .ok (.getfield 7, 3) := dk_180 0 7 (dk_at dksX2_setTolerance_1 13 rfl rfl)
theorem dX2_setTolerance_38 : decode cX2_setTolerance 38 = .ok (.iconst 5, 1) := dk_8 (dk_at dksX2_setTolerance_1 16 rfl rfl)
theorem dX2_setTolerance_39 : decode cX2_setTolerance 39 = .ok (.iload_n 1, 1) := dk_27 (dk_at dksX2_setTolerance_1 17 rfl rfl)
theorem dX2_setTolerance_40 : decode cX2_setTolerance 40 = .ok (.iastore, 1) := dk_79 (dk_at dksX2_setTolerance_1 18 rfl rfl)
theorem dX2_setTolerance_41 : decode cX2_setTolerance 41 = .ok (.aload_n 0, 1) := dk_42 (dk_at dksX2_setTolerance_1 19 rfl rfl)
theorem dX2_setTolerance_42 : decode cX2_setTolerance 42 = .ok (.iconst 1, 1) := dk_4 (dk_at dksX2_setTolerance_1 20 rfl rfl)
theorem dX2_setTolerance_43 : decode cX2_setTolerance 43 = .ok (.invokevirtual 110, 3) := dk_182 0 110 (dk_at dksX2_setTolerance_1 21 rfl rfl)
theorem dX2_setTolerance_46 : decode cX2_setTolerance 46 = .ok (.ireturn, 1) := dk_172 (dk_at dksX2_setTolerance_2 0 rfl rfl)
abbrev cX2_isFrom : ByteArray := prog_9_method_13_code
def yX2_isFrom : MethodName := ⟨RX2, "isFrom", "(IFF)Z"⟩
def dkwX2_isFrom_1 : List UInt8 := [150, 157, 0, 7, 4, 167, 0, 4, 3, 172]
abbrev dktX2_isFrom_1 : List UInt8 := dkwX2_isFrom_1 ++ []
def dkwX2_isFrom_0 : List UInt8 := [26, 18, 61, 126, 18, 62, 164, 0, 5, 3, 172, 26, 184, 0, 43, 70, 37, 35, 149, 155, 0, 13, 37, 36]
abbrev dktX2_isFrom_0 : List UInt8 := dkwX2_isFrom_0 ++ dktX2_isFrom_1
theorem dksX2_isFrom_0 : cX2_isFrom.data.toList.drop 0 = dktX2_isFrom_0 := by decide +kernel
theorem dksX2_isFrom_1 : cX2_isFrom.data.toList.drop 24 = dktX2_isFrom_1 := dk_seg dksX2_isFrom_0 24 rfl rfl
theorem dX2_isFrom_0 : decode cX2_isFrom 0 = .ok (.iload_n 0, 1) := dk_26 (dk_at dksX2_isFrom_0 0 rfl rfl)
theorem dX2_isFrom_1 : decode cX2_isFrom 1 = .ok (.ldc 61, 2) := dk_18 61 (dk_at dksX2_isFrom_0 1 rfl rfl)
theorem dX2_isFrom_3 : decode cX2_isFrom 3 = .ok (.iand, 1) := dk_126 (dk_at dksX2_isFrom_0 3 rfl rfl)
theorem dX2_isFrom_4 : decode cX2_isFrom 4 = .ok (.ldc 62, 2) := dk_18 62 (dk_at dksX2_isFrom_0 4 rfl rfl)
theorem dX2_isFrom_6 : decode cX2_isFrom 6 = .ok (.if_icmp .le 5, 3) := dk_164 0 5 (dk_at dksX2_isFrom_0 6 rfl rfl)
theorem dX2_isFrom_9 : decode cX2_isFrom 9 = .ok (.iconst 0, 1) := dk_3 (dk_at dksX2_isFrom_0 9 rfl rfl)
theorem dX2_isFrom_10 : decode cX2_isFrom 10 = .ok (.ireturn, 1) := dk_172 (dk_at dksX2_isFrom_0 10 rfl rfl)
theorem dX2_isFrom_11 : decode cX2_isFrom 11 = .ok (.iload_n 0, 1) := dk_26 (dk_at dksX2_isFrom_0 11 rfl rfl)
theorem dX2_isFrom_12 : decode cX2_isFrom 12 = .ok (.invokestatic 43, 3) := dk_184 0 43 (dk_at dksX2_isFrom_0 12 rfl rfl)
theorem dX2_isFrom_15 : decode cX2_isFrom 15 = .ok (.fstore_n 3, 1) := dk_70 (dk_at dksX2_isFrom_0 15 rfl rfl)
theorem dX2_isFrom_16 : decode cX2_isFrom 16 = .ok (.fload_n 3, 1) := dk_37 (dk_at dksX2_isFrom_0 16 rfl rfl)
theorem dX2_isFrom_17 : decode cX2_isFrom 17 = .ok (.fload_n 1, 1) := dk_35 (dk_at dksX2_isFrom_0 17 rfl rfl)
theorem dX2_isFrom_18 : decode cX2_isFrom 18 = .ok (.fcmp .l, 1) := dk_149 (dk_at dksX2_isFrom_0 18 rfl rfl)
theorem dX2_isFrom_19 : decode cX2_isFrom 19 = .ok (.ifCond .lt 13, 3) := dk_155 0 13 (dk_at dksX2_isFrom_0 19 rfl rfl)
theorem dX2_isFrom_22 : decode cX2_isFrom 22 = .ok (.fload_n 3, 1) := dk_37 (dk_at dksX2_isFrom_0 22 rfl rfl)
theorem dX2_isFrom_23 : decode cX2_isFrom 23 = .ok (.fload_n 2, 1) := dk_36 (dk_at dksX2_isFrom_0 23 rfl rfl)
theorem dX2_isFrom_24 : decode cX2_isFrom 24 = .ok (.fcmp .g, 1) := dk_150 (dk_at dksX2_isFrom_1 0 rfl rfl)
theorem dX2_isFrom_25 : decode cX2_isFrom 25 = .ok (.ifCond .gt 7, 3) := dk_157 0 7 (dk_at dksX2_isFrom_1 1 rfl rfl)
theorem dX2_isFrom_28 : decode cX2_isFrom 28 = .ok (.iconst 1, 1) := dk_4 (dk_at dksX2_isFrom_1 4 rfl rfl)
theorem dX2_isFrom_29 : decode cX2_isFrom 29 = .ok (.goto 4, 3) := dk_167 0 4 (dk_at dksX2_isFrom_1 5 rfl rfl)
theorem dX2_isFrom_32 : decode cX2_isFrom 32 = .ok (.iconst 0, 1) := dk_3 (dk_at dksX2_isFrom_1 8 rfl rfl)
theorem dX2_isFrom_33 : decode cX2_isFrom 33 = .ok (.ireturn, 1) := dk_172 (dk_at dksX2_isFrom_1 9 rfl rfl)
abbrev cX2_nail : ByteArray := prog_9_method_34_code
def yX2_nail : MethodName := ⟨RX2, "nail", "(IIII)I"⟩
def dkwX2_nail_1 : List UInt8 := [156, 0, 8, 21, 5, 167, 0, 9, 42, 21, 5, 182, 0, 110, 172]
abbrev dktX2_nail_1 : List UInt8 := dkwX2_nail_1 ++ []
def dkwX2_nail_0 : List UInt8 := [42, 182, 0, 107, 42, 27, 28, 16, 251, 184, 0, 142, 29, 21, 4, 182, 0, 145, 54, 5, 21, 5]
abbrev dktX2_nail_0 : List UInt8 := dkwX2_nail_0 ++ dktX2_nail_1
theorem dksX2_nail_0 : cX2_nail.data.toList.drop 0 = dktX2_nail_0 := by decide +kernel
theorem dksX2_nail_1 : cX2_nail.data.toList.drop 22 = dktX2_nail_1 := dk_seg dksX2_nail_0 22 rfl rfl
theorem dX2_nail_0 : decode cX2_nail 0 = .ok (.aload_n 0, 1) := dk_42 (dk_at dksX2_nail_0 0 rfl rfl)
theorem dX2_nail_1 : decode cX2_nail 1 = .ok (.invokevirtual 107, 3) := dk_182 0 107 (dk_at dksX2_nail_0 1 rfl rfl)
theorem dX2_nail_4 : decode cX2_nail 4 = .ok (.aload_n 0, 1) := dk_42 (dk_at dksX2_nail_0 4 rfl rfl)
theorem dX2_nail_5 : decode cX2_nail 5 = .ok (.iload_n 1, 1) := dk_27 (dk_at dksX2_nail_0 5 rfl rfl)
theorem dX2_nail_6 : decode cX2_nail 6 = .ok (.iload_n 2, 1) := dk_28 (dk_at dksX2_nail_0 6 rfl rfl)
theorem dX2_nail_7 : decode cX2_nail 7 = .ok (.bipush (-5), 2) := dk_16 251 (dk_at dksX2_nail_0 7 rfl rfl)
theorem dX2_nail_9 : decode cX2_nail 9 = .ok (.invokestatic 142, 3) := dk_184 0 142 (dk_at dksX2_nail_0 9 rfl rfl)
theorem dX2_nail_12 : decode cX2_nail 12 = .ok (.iload_n 3, 1) := dk_29 (dk_at dksX2_nail_0 12 rfl rfl)
theorem dX2_nail_13 : decode cX2_nail 13 = .ok (.iload 4, 2) := dk_21 4 (dk_at dksX2_nail_0 13 rfl rfl)
theorem dX2_nail_15 : decode cX2_nail 15 = .ok (.invokevirtual 145, 3) := dk_182 0 145 (dk_at dksX2_nail_0 15 rfl rfl)
theorem dX2_nail_18 : decode cX2_nail 18 = .ok (.istore 5, 2) := dk_54 5 (dk_at dksX2_nail_0 18 rfl rfl)
theorem dX2_nail_20 : decode cX2_nail 20 = .ok (.iload 5, 2) := dk_21 5 (dk_at dksX2_nail_0 20 rfl rfl)
theorem dX2_nail_22 : decode cX2_nail 22 = .ok (.ifCond .ge 8, 3) := dk_156 0 8 (dk_at dksX2_nail_1 0 rfl rfl)
theorem dX2_nail_25 : decode cX2_nail 25 = .ok (.iload 5, 2) := dk_21 5 (dk_at dksX2_nail_1 3 rfl rfl)
theorem dX2_nail_27 : decode cX2_nail 27 = .ok (.goto 9, 3) := dk_167 0 9 (dk_at dksX2_nail_1 5 rfl rfl)
theorem dX2_nail_30 : decode cX2_nail 30 = .ok (.aload_n 0, 1) := dk_42 (dk_at dksX2_nail_1 8 rfl rfl)
theorem dX2_nail_31 : decode cX2_nail 31 = .ok (.iload 5, 2) := dk_21 5 (dk_at dksX2_nail_1 9 rfl rfl)
theorem dX2_nail_33 : decode cX2_nail 33 = .ok (.invokevirtual 110, 3) := dk_182 0 110 (dk_at dksX2_nail_1 11 rfl rfl)
theorem dX2_nail_36 : decode cX2_nail 36 = .ok (.ireturn, 1) := dk_172 (dk_at dksX2_nail_1 14 rfl rfl)
abbrev cX2_one : ByteArray := prog_9_method_33_code
def yX2_one : MethodName := ⟨RX2, "one", "()I"⟩
theorem dX2_one_0 : decode cX2_one 0 = .ok (.fconst 1, 1) := by decide +kernel
theorem dX2_one_1 : decode cX2_one 1 = .ok (.invokestatic 138, 3) := by decide +kernel
theorem dX2_one_4 : decode cX2_one 4 = .ok (.ireturn, 1) := by decide +kernel
abbrev cX2_nails : ByteArray := prog_9_method_32_code
def yX2_nails : MethodName := ⟨RX2, "nails", "(IIIIII)I"⟩
def dkwX2_nails_8 : List UInt8 := [4, 46, 4, 100, 172]
abbrev dktX2_nails_8 : List UInt8 := dkwX2_nails_8 ++ []
def dkwX2_nails_7 : List UInt8 := [180, 0, 7, 21, 7, 16, 6, 96, 4, 79, 42, 180, 0, 7, 4, 92, 46, 4, 96, 79, 42, 180, 0, 7]
abbrev dktX2_nails_7 : List UInt8 := dkwX2_nails_7 ++ dktX2_nails_8
def dkwX2_nails_6 : List UInt8 := [42, 180, 0, 7, 21, 7, 7, 96, 21, 5, 79, 42, 180, 0, 7, 21, 7, 8, 96, 21, 6, 79, 42]
abbrev dktX2_nails_6 : List UInt8 := dkwX2_nails_6 ++ dktX2_nails_7
def dkwX2_nails_5 : List UInt8 := [96, 28, 79, 42, 180, 0, 7, 21, 7, 5, 96, 29, 79, 42, 180, 0, 7, 21, 7, 6, 96, 21, 4, 79]
abbrev dktX2_nails_5 : List UInt8 := dkwX2_nails_5 ++ dktX2_nails_6
def dkwX2_nails_4 : List UInt8 := [180, 0, 7, 4, 46, 104, 96, 54, 7, 42, 180, 0, 7, 21, 7, 27, 79, 42, 180, 0, 7, 21, 7, 4]
abbrev dktX2_nails_4 : List UInt8 := dkwX2_nails_4 ++ dktX2_nails_5
def dkwX2_nails_3 : List UInt8 := [159, 0, 14, 42, 180, 0, 7, 4, 46, 16, 40, 160, 0, 6, 16, 253, 172, 16, 12, 16, 7, 42]
abbrev dktX2_nails_3 : List UInt8 := dkwX2_nails_3 ++ dktX2_nails_4
def dkwX2_nails_2 : List UInt8 := [21, 6, 184, 0, 131, 153, 0, 8, 29, 28, 160, 0, 6, 16, 254, 172, 42, 182, 0, 134, 16, 24]
abbrev dktX2_nails_2 : List UInt8 := dkwX2_nails_2 ++ dktX2_nails_3
def dkwX2_nails_1 : List UInt8 := [184, 0, 125, 154, 0, 5, 2, 172, 21, 4, 184, 0, 128, 153, 0, 24, 21, 5, 184, 0, 128, 153, 0, 16]
abbrev dktX2_nails_1 : List UInt8 := dkwX2_nails_1 ++ dktX2_nails_2
def dkwX2_nails_0 : List UInt8 := [42, 27, 182, 0, 113, 153, 0, 23, 28, 184, 0, 125, 153, 0, 16, 29, 16, 251, 159, 0, 12, 29]
abbrev dktX2_nails_0 : List UInt8 := dkwX2_nails_0 ++ dktX2_nails_1
theorem dksX2_nails_0 : cX2_nails.data.toList.drop 0 = dktX2_nails_0 := by decide +kernel
theorem dksX2_nails_1 : cX2_nails.data.toList.drop 22 = dktX2_nails_1 := dk_seg dksX2_nails_0 22 rfl rfl
theorem dksX2_nails_2 : cX2_nails.data.toList.drop 46 = dktX2_nails_2 := dk_seg dksX2_nails_1 24 rfl rfl
theorem dksX2_nails_3 : cX2_nails.data.toList.drop 68 = dktX2_nails_3 := dk_seg dksX2_nails_2 22 rfl rfl
theorem dksX2_nails_4 : cX2_nails.data.toList.drop 90 = dktX2_nails_4 := dk_seg dksX2_nails_3 22 rfl rfl
theorem dksX2_nails_5 : cX2_nails.data.toList.drop 114 = dktX2_nails_5 := dk_seg dksX2_nails_4 24 rfl rfl
theorem dksX2_nails_6 : cX2_nails.data.toList.drop 138 = dktX2_nails_6 := dk_seg dksX2_nails_5 24 rfl rfl
theorem dksX2_nails_7 : cX2_nails.data.toList.drop 161 = dktX2_nails_7 := dk_seg dksX2_nails_6 23 rfl rfl
theorem dksX2_nails_8 : cX2_nails.data.toList.drop 185 = dktX2_nails_8 := dk_seg dksX2_nails_7 24 rfl rfl
theorem dX2_nails_0 : decode cX2_nails 0 = .ok (.aload_n 0, 1) := dk_42 (dk_at dksX2_nails_0 0 rfl rfl)
theorem dX2_nails_1 : decode cX2_nails 1 = .ok (.iload_n 1, 1) := dk_27 (dk_at dksX2_nails_0 1 rfl rfl)
theorem dX2_nails_2 : decode cX2_nails 2 = .ok (.invokevirtual 113, 3) := dk_182 0 113 (dk_at dksX2_nails_0 2 rfl rfl)
theorem dX2_nails_5 : decode cX2_nails 5 = .ok (.ifCond .eq 23, 3) := dk_153 0 23 (dk_at dksX2_nails_0 5 rfl rfl)
theorem dX2_nails_8 : decode cX2_nails 8 = .ok (.iload_n 2, 1) := dk_28 (dk_at dksX2_nails_0 8 rfl rfl)
theorem dX2_nails_9 : decode cX2_nails 9 = .ok (.invokestatic 125, 3) := dk_184 0 125 (dk_at dksX2_nails_0 9 rfl rfl)
theorem dX2_nails_12 : decode cX2_nails 12 = .ok (.ifCond .eq 16, 3) := dk_153 0 16 (dk_at dksX2_nails_0 12 rfl rfl)
theorem dX2_nails_15 : decode cX2_nails 15 = .ok (.iload_n 3, 1) := dk_29 (dk_at dksX2_nails_0 15 rfl rfl)
theorem dX2_nails_16 : decode cX2_nails 16 = .ok (.bipush (-5), 2) := dk_16 251 (dk_at dksX2_nails_0 16 rfl rfl)
theorem dX2_nails_18 : decode cX2_nails 18 = .ok (.if_icmp .eq 12, 3) := dk_159 0 12 (dk_at dksX2_nails_0 18 rfl rfl)
theorem dX2_nails_21 : decode cX2_nails 21 = .ok (.iload_n 3, 1) := dk_29 (dk_at dksX2_nails_0 21 rfl rfl)
theorem dX2_nails_22 : decode cX2_nails 22 = .ok (.invokestatic 125, 3) := dk_184 0 125 (dk_at dksX2_nails_1 0 rfl rfl)
theorem dX2_nails_25 : decode cX2_nails 25 = .ok (.ifCond .ne 5, 3) := dk_154 0 5 (dk_at dksX2_nails_1 3 rfl rfl)
theorem dX2_nails_28 : decode cX2_nails 28 = .ok (.iconst (-1), 1) := dk_2 (dk_at dksX2_nails_1 6 rfl rfl)
theorem dX2_nails_29 : decode cX2_nails 29 = .ok (.ireturn, 1) := dk_172 (dk_at dksX2_nails_1 7 rfl rfl)
theorem dX2_nails_30 : decode cX2_nails 30 = .ok (.iload 4, 2) := dk_21 4 (dk_at dksX2_nails_1 8 rfl rfl)
theorem dX2_nails_32 : decode cX2_nails 32 = .ok (.invokestatic 128, 3) := dk_184 0 128 (dk_at dksX2_nails_1 10 rfl rfl)
theorem dX2_nails_35 : decode cX2_nails 35 = .ok (.ifCond .eq 24, 3) := dk_153 0 24 (dk_at dksX2_nails_1 13 rfl rfl)
theorem dX2_nails_38 : decode cX2_nails 38 = .ok (.iload 5, 2) := dk_21 5 (dk_at dksX2_nails_1 16 rfl rfl)
theorem dX2_nails_40 : decode cX2_nails 40 = .ok (.invokestatic 128, 3) := dk_184 0 128 (dk_at dksX2_nails_1 18 rfl rfl)
theorem dX2_nails_43 : decode cX2_nails 43 = .ok (.ifCond .eq 16, 3) := dk_153 0 16 (dk_at dksX2_nails_1 21 rfl rfl)
theorem dX2_nails_46 : decode cX2_nails 46 = .ok (.iload 6, 2) := dk_21 6 (dk_at dksX2_nails_2 0 rfl rfl)
theorem dX2_nails_48 : decode cX2_nails 48 = .ok (.invokestatic 131, 3) := dk_184 0 131 (dk_at dksX2_nails_2 2 rfl rfl)
theorem dX2_nails_51 : decode cX2_nails 51 = .ok (.ifCond .eq 8, 3) := dk_153 0 8 (dk_at dksX2_nails_2 5 rfl rfl)
theorem dX2_nails_54 : decode cX2_nails 54 = .ok (.iload_n 3, 1) := dk_29 (dk_at dksX2_nails_2 8 rfl rfl)
theorem dX2_nails_55 : decode cX2_nails 55 = .ok (.iload_n 2, 1) := dk_28 (dk_at dksX2_nails_2 9 rfl rfl)
theorem dX2_nails_56 : decode cX2_nails 56 = .ok (.if_icmp .ne 6, 3) := dk_160 0 6 (dk_at dksX2_nails_2 10 rfl rfl)
theorem dX2_nails_59 : decode cX2_nails 59 = .ok (.bipush (-2), 2) := dk_16 254 (dk_at dksX2_nails_2 13 rfl rfl)
theorem dX2_nails_61 : decode cX2_nails 61 = .ok (.ireturn, 1) := dk_172 (dk_at dksX2_nails_2 15 rfl rfl)
theorem dX2_nails_62 : decode cX2_nails 62 = .ok (.aload_n 0, 1) := dk_42 (dk_at dksX2_nails_2 16 rfl rfl)
theorem dX2_nails_63 : decode cX2_nails 63 = .ok (.invokevirtual 134, 3) := dk_182 0 134 (dk_at dksX2_nails_2 17 rfl rfl)
theorem dX2_nails_66 : decode cX2_nails 66 = .ok (.bipush 24, 2) := dk_16 24 (dk_at dksX2_nails_2 20 rfl rfl)
theorem dX2_nails_68 : decode cX2_nails 68 = .ok (.if_icmp .eq 14, 3) := dk_159 0 14 (dk_at dksX2_nails_3 0 rfl rfl)
theorem dX2_nails_71 : decode cX2_nails 71 = .ok (.aload_n 0, 1) := dk_42 (dk_at dksX2_nails_3 3 rfl rfl)
theorem dX2_nails_72 : decode cX2_nails 72 = .ok (.getfield 7, 3) := dk_180 0 7 (dk_at dksX2_nails_3 4 rfl rfl)
theorem dX2_nails_75 : decode cX2_nails 75 = .ok (.iconst 1, 1) := dk_4 (dk_at dksX2_nails_3 7 rfl rfl)
theorem dX2_nails_76 : decode cX2_nails 76 = .ok (.iaload, 1) := dk_46 (dk_at dksX2_nails_3 8 rfl rfl)
theorem dX2_nails_77 : decode cX2_nails 77 = .ok (.bipush 40, 2) := dk_16 40 (dk_at dksX2_nails_3 9 rfl rfl)
theorem dX2_nails_79 : decode cX2_nails 79 = .ok (.if_icmp .ne 6, 3) := dk_160 0 6 (dk_at dksX2_nails_3 11 rfl rfl)
theorem dX2_nails_82 : decode cX2_nails 82 = .ok (.bipush (-3), 2) := dk_16 253 (dk_at dksX2_nails_3 14 rfl rfl)
theorem dX2_nails_84 : decode cX2_nails 84 = .ok (.ireturn, 1) := dk_172 (dk_at dksX2_nails_3 16 rfl rfl)
theorem dX2_nails_85 : decode cX2_nails 85 = .ok (.bipush 12, 2) := dk_16 12 (dk_at dksX2_nails_3 17 rfl rfl)
theorem dX2_nails_87 : decode cX2_nails 87 = .ok (.bipush 7, 2) := dk_16 7 (dk_at dksX2_nails_3 19 rfl rfl)
theorem dX2_nails_89 : decode cX2_nails 89 = .ok (.aload_n 0, 1) := dk_42 (dk_at dksX2_nails_3 21 rfl rfl)
theorem dX2_nails_90 : decode cX2_nails 90 = .ok (.getfield 7, 3) := dk_180 0 7 (dk_at dksX2_nails_4 0 rfl rfl)
theorem dX2_nails_93 : decode cX2_nails 93 = .ok (.iconst 1, 1) := dk_4 (dk_at dksX2_nails_4 3 rfl rfl)
theorem dX2_nails_94 : decode cX2_nails 94 = .ok (.iaload, 1) := dk_46 (dk_at dksX2_nails_4 4 rfl rfl)
theorem dX2_nails_95 : decode cX2_nails 95 = .ok (.imul, 1) := dk_104 (dk_at dksX2_nails_4 5 rfl rfl)
theorem dX2_nails_96 : decode cX2_nails 96 = .ok (.iadd, 1) := dk_96 (dk_at dksX2_nails_4 6 rfl rfl)
theorem dX2_nails_97 : decode cX2_nails 97 = .ok (.istore 7, 2) := dk_54 7 (dk_at dksX2_nails_4 7 rfl rfl)
theorem dX2_nails_99 : decode cX2_nails 99 = .ok (.aload_n 0, 1) := dk_42 (dk_at dksX2_nails_4 9 rfl rfl)
theorem dX2_nails_100 : decode cX2_nails 100 = .ok (.getfield 7, 3) := dk_180 0 7 (dk_at dksX2_nails_4 10 rfl rfl)
theorem dX2_nails_103 : decode cX2_nails 103 = .ok (.iload 7, 2) := dk_21 7 (dk_at dksX2_nails_4 13 rfl rfl)
theorem dX2_nails_105 : decode cX2_nails 105 = .ok (.iload_n 1, 1) := dk_27 (dk_at dksX2_nails_4 15 rfl rfl)
theorem dX2_nails_106 : decode cX2_nails 106 = .ok (.iastore, 1) := dk_79 (dk_at dksX2_nails_4 16 rfl rfl)
theorem dX2_nails_107 : decode cX2_nails 107 = .ok (.aload_n 0, 1) := dk_42 (dk_at dksX2_nails_4 17 rfl rfl)
theorem dX2_nails_108 : decode cX2_nails 108 = .ok (.getfield 7, 3) := dk_180 0 7 (dk_at dksX2_nails_4 18 rfl rfl)
theorem dX2_nails_111 : decode cX2_nails 111 = .ok (.iload 7, 2) := dk_21 7 (dk_at dksX2_nails_4 21 rfl rfl)
theorem dX2_nails_113 : decode cX2_nails 113 = .ok (.iconst 1, 1) := dk_4 (dk_at dksX2_nails_4 23 rfl rfl)
theorem dX2_nails_114 : decode cX2_nails 114 = .ok (.iadd, 1) := dk_96 (dk_at dksX2_nails_5 0 rfl rfl)
theorem dX2_nails_115 : decode cX2_nails 115 = .ok (.iload_n 2, 1) := dk_28 (dk_at dksX2_nails_5 1 rfl rfl)
theorem dX2_nails_116 : decode cX2_nails 116 = .ok (.iastore, 1) := dk_79 (dk_at dksX2_nails_5 2 rfl rfl)
theorem dX2_nails_117 : decode cX2_nails 117 = .ok (.aload_n 0, 1) := dk_42 (dk_at dksX2_nails_5 3 rfl rfl)
theorem dX2_nails_118 : decode cX2_nails 118 = .ok (.getfield 7, 3) := dk_180 0 7 (dk_at dksX2_nails_5 4 rfl rfl)
theorem dX2_nails_121 : decode cX2_nails 121 = .ok (.iload 7, 2) := dk_21 7 (dk_at dksX2_nails_5 7 rfl rfl)
theorem dX2_nails_123 : decode cX2_nails 123 = .ok (.iconst 2, 1) := dk_5 (dk_at dksX2_nails_5 9 rfl rfl)
theorem dX2_nails_124 : decode cX2_nails 124 = .ok (.iadd, 1) := dk_96 (dk_at dksX2_nails_5 10 rfl rfl)
theorem dX2_nails_125 : decode cX2_nails 125 = .ok (.iload_n 3, 1) := dk_29 (dk_at dksX2_nails_5 11 rfl rfl)
theorem dX2_nails_126 : decode cX2_nails 126 = .ok (.iastore, 1) := dk_79 (dk_at dksX2_nails_5 12 rfl rfl)
theorem dX2_nails_127 : decode cX2_nails 127 = .ok (.aload_n 0, 1) := dk_42 (dk_at dksX2_nails_5 13 rfl rfl)
theorem dX2_nails_128 : decode cX2_nails 128 = .ok (.getfield 7, 3) := dk_180 0 7 (dk_at dksX2_nails_5 14 rfl rfl)
theorem dX2_nails_131 : decode cX2_nails 131 = .ok (.iload 7, 2) := dk_21 7 (dk_at dksX2_nails_5 17 rfl rfl)
theorem dX2_nails_133 : decode cX2_nails 133 = .ok (.iconst 3, 1) := dk_6 (dk_at dksX2_nails_5 19 rfl rfl)
theorem dX2_nails_134 : decode cX2_nails 134 = .ok (.iadd, 1) := dk_96 (dk_at dksX2_nails_5 20 rfl rfl)
theorem dX2_nails_135 : decode cX2_nails 135 = .ok (.iload 4, 2) := dk_21 4 (dk_at dksX2_nails_5 21 rfl rfl)
theorem dX2_nails_137 : decode cX2_nails 137 = .ok (.iastore, 1) := dk_79 (dk_at dksX2_nails_5 23 rfl rfl)
theorem dX2_nails_138 : decode cX2_nails 138 = .ok (.aload_n 0, 1) := dk_42 (dk_at dksX2_nails_6 0 rfl rfl)
theorem dX2_nails_139 : decode cX2_nails 139 = .ok (.getfield 7, 3) := dk_180 0 7 (dk_at dksX2_nails_6 1 rfl rfl)
theorem dX2_nails_142 : decode cX2_nails 142 = .ok (.iload 7, 2) := dk_21 7 (dk_at dksX2_nails_6 4 rfl rfl)
theorem dX2_nails_144 : decode cX2_nails 144 = .ok (.iconst 4, 1) := dk_7 (dk_at dksX2_nails_6 6 rfl rfl)
theorem dX2_nails_145 : decode cX2_nails 145 = .ok (.iadd, 1) := dk_96 (dk_at dksX2_nails_6 7 rfl rfl)
theorem dX2_nails_146 : decode cX2_nails 146 = .ok (.iload 5, 2) := dk_21 5 (dk_at dksX2_nails_6 8 rfl rfl)
theorem dX2_nails_148 : decode cX2_nails 148 = .ok (.iastore, 1) := dk_79 (dk_at dksX2_nails_6 10 rfl rfl)
theorem dX2_nails_149 : decode cX2_nails 149 = .ok (.aload_n 0, 1) := dk_42 (dk_at dksX2_nails_6 11 rfl rfl)
theorem dX2_nails_150 : decode cX2_nails 150 = .ok (.getfield 7, 3) := dk_180 0 7 (dk_at dksX2_nails_6 12 rfl rfl)
theorem dX2_nails_153 : decode cX2_nails 153 = .ok (.iload 7, 2) := dk_21 7 (dk_at dksX2_nails_6 15 rfl rfl)
theorem dX2_nails_155 : decode cX2_nails 155 = .ok (.iconst 5, 1) := dk_8 (dk_at dksX2_nails_6 17 rfl rfl)
theorem dX2_nails_156 : decode cX2_nails 156 = .ok (.iadd, 1) := dk_96 (dk_at dksX2_nails_6 18 rfl rfl)
theorem dX2_nails_157 : decode cX2_nails 157 = .ok (.iload 6, 2) := dk_21 6 (dk_at dksX2_nails_6 19 rfl rfl)
theorem dX2_nails_159 : decode cX2_nails 159 = .ok (.iastore, 1) := dk_79 (dk_at dksX2_nails_6 21 rfl rfl)
theorem dX2_nails_160 : decode cX2_nails 160 = .ok (.aload_n 0, 1) := dk_42 (dk_at dksX2_nails_6 22 rfl rfl)
theorem dX2_nails_161 : decode cX2_nails 161 = .ok (.getfield 7, 3) := dk_180 0 7 (dk_at dksX2_nails_7 0 rfl rfl)
theorem dX2_nails_164 : decode cX2_nails 164 = .ok (.iload 7, 2) := dk_21 7 (dk_at dksX2_nails_7 3 rfl rfl)
theorem dX2_nails_166 : decode cX2_nails 166 = .ok (.bipush 6, 2) := dk_16 6 (dk_at dksX2_nails_7 5 rfl rfl)
theorem dX2_nails_168 : decode cX2_nails 168 = .ok (.iadd, 1) := dk_96 (dk_at dksX2_nails_7 7 rfl rfl)
theorem dX2_nails_169 : decode cX2_nails 169 = .ok (.iconst 1, 1) := dk_4 (dk_at dksX2_nails_7 8 rfl rfl)
theorem dX2_nails_170 : decode cX2_nails 170 = .ok (.iastore, 1) := dk_79 (dk_at dksX2_nails_7 9 rfl rfl)
theorem dX2_nails_171 : decode cX2_nails 171 = .ok (.aload_n 0, 1) := dk_42 (dk_at dksX2_nails_7 10 rfl rfl)
theorem dX2_nails_172 : decode cX2_nails 172 = .ok (.getfield 7, 3) := dk_180 0 7 (dk_at dksX2_nails_7 11 rfl rfl)
theorem dX2_nails_175 : decode cX2_nails 175 = .ok (.iconst 1, 1) := dk_4 (dk_at dksX2_nails_7 14 rfl rfl)
theorem dX2_nails_176 : decode cX2_nails 176 = .ok (.dup2, 1) := dk_92 (dk_at dksX2_nails_7 15 rfl rfl)
theorem dX2_nails_177 : decode cX2_nails 177 = .ok (.iaload, 1) := dk_46 (dk_at dksX2_nails_7 16 rfl rfl)
theorem dX2_nails_178 : decode cX2_nails 178 = .ok (.iconst 1, 1) := dk_4 (dk_at dksX2_nails_7 17 rfl rfl)
theorem dX2_nails_179 : decode cX2_nails 179 = .ok (.iadd, 1) := dk_96 (dk_at dksX2_nails_7 18 rfl rfl)
theorem dX2_nails_180 : decode cX2_nails 180 = .ok (.iastore, 1) := dk_79 (dk_at dksX2_nails_7 19 rfl rfl)
theorem dX2_nails_181 : decode cX2_nails 181 = .ok (.aload_n 0, 1) := dk_42 (dk_at dksX2_nails_7 20 rfl rfl)
theorem dX2_nails_182 : decode cX2_nails 182 = .ok (.getfield 7, 3) := dk_180 0 7 (dk_at dksX2_nails_7 21 rfl rfl)
theorem dX2_nails_185 : decode cX2_nails 185 = .ok (.iconst 1, 1) := dk_4 (dk_at dksX2_nails_8 0 rfl rfl)
theorem dX2_nails_186 : decode cX2_nails 186 = .ok (.iaload, 1) := dk_46 (dk_at dksX2_nails_8 1 rfl rfl)
theorem dX2_nails_187 : decode cX2_nails 187 = .ok (.iconst 1, 1) := dk_4 (dk_at dksX2_nails_8 2 rfl rfl)
theorem dX2_nails_188 : decode cX2_nails 188 = .ok (.isub, 1) := dk_100 (dk_at dksX2_nails_8 3 rfl rfl)
theorem dX2_nails_189 : decode cX2_nails 189 = .ok (.ireturn, 1) := dk_172 (dk_at dksX2_nails_8 4 rfl rfl)
abbrev cX2_isWord : ByteArray := prog_9_method_7_code
def yX2_isWord : MethodName := ⟨RX2, "isWord", "(I)Z"⟩
def dkwX2_isWord_0 : List UInt8 := [26, 3, 16, 15, 184, 0, 53, 172]
abbrev dktX2_isWord_0 : List UInt8 := dkwX2_isWord_0 ++ []
theorem dksX2_isWord_0 : cX2_isWord.data.toList.drop 0 = dktX2_isWord_0 := by decide +kernel
theorem dX2_isWord_0 : decode cX2_isWord 0 = .ok (.iload_n 0, 1) := dk_26 (dk_at dksX2_isWord_0 0 rfl rfl)
theorem dX2_isWord_1 : decode cX2_isWord 1 = .ok (.iconst 0, 1) := dk_3 (dk_at dksX2_isWord_0 1 rfl rfl)
theorem dX2_isWord_2 : decode cX2_isWord 2 = .ok (.bipush 15, 2) := dk_16 15 (dk_at dksX2_isWord_0 2 rfl rfl)
theorem dX2_isWord_4 : decode cX2_isWord 4 = .ok (.invokestatic 53, 3) := dk_184 0 53 (dk_at dksX2_isWord_0 4 rfl rfl)
theorem dX2_isWord_7 : decode cX2_isWord 7 = .ok (.ireturn, 1) := dk_172 (dk_at dksX2_isWord_0 7 rfl rfl)
abbrev cX2_isNumber : ByteArray := prog_9_method_30_code
def yX2_isNumber : MethodName := ⟨RX2, "isNumber", "(I)Z"⟩
def dkwX2_isNumber_0 : List UInt8 := [26, 18, 121, 18, 122, 184, 0, 117, 172]
abbrev dktX2_isNumber_0 : List UInt8 := dkwX2_isNumber_0 ++ []
theorem dksX2_isNumber_0 : cX2_isNumber.data.toList.drop 0 = dktX2_isNumber_0 := by decide +kernel
theorem dX2_isNumber_0 : decode cX2_isNumber 0 = .ok (.iload_n 0, 1) := dk_26 (dk_at dksX2_isNumber_0 0 rfl rfl)
theorem dX2_isNumber_1 : decode cX2_isNumber 1 = .ok (.ldc 121, 2) := dk_18 121 (dk_at dksX2_isNumber_0 1 rfl rfl)
theorem dX2_isNumber_3 : decode cX2_isNumber 3 = .ok (.ldc 122, 2) := dk_18 122 (dk_at dksX2_isNumber_0 3 rfl rfl)
theorem dX2_isNumber_5 : decode cX2_isNumber 5 = .ok (.invokestatic 117, 3) := dk_184 0 117 (dk_at dksX2_isNumber_0 5 rfl rfl)
theorem dX2_isNumber_8 : decode cX2_isNumber 8 = .ok (.ireturn, 1) := dk_172 (dk_at dksX2_isNumber_0 8 rfl rfl)
abbrev cX2_isForce : ByteArray := prog_9_method_31_code
def yX2_isForce : MethodName := ⟨RX2, "isForce", "(I)Z"⟩
def dkwX2_isForce_0 : List UInt8 := [26, 18, 123, 18, 124, 184, 0, 117, 172]
abbrev dktX2_isForce_0 : List UInt8 := dkwX2_isForce_0 ++ []
theorem dksX2_isForce_0 : cX2_isForce.data.toList.drop 0 = dktX2_isForce_0 := by decide +kernel
theorem dX2_isForce_0 : decode cX2_isForce 0 = .ok (.iload_n 0, 1) := dk_26 (dk_at dksX2_isForce_0 0 rfl rfl)
theorem dX2_isForce_1 : decode cX2_isForce 1 = .ok (.ldc 123, 2) := dk_18 123 (dk_at dksX2_isForce_0 1 rfl rfl)
theorem dX2_isForce_3 : decode cX2_isForce 3 = .ok (.ldc 124, 2) := dk_18 124 (dk_at dksX2_isForce_0 3 rfl rfl)
theorem dX2_isForce_5 : decode cX2_isForce 5 = .ok (.invokestatic 117, 3) := dk_184 0 117 (dk_at dksX2_isForce_0 5 rfl rfl)
theorem dX2_isForce_8 : decode cX2_isForce 8 = .ok (.ireturn, 1) := dk_172 (dk_at dksX2_isForce_0 8 rfl rfl)
abbrev cX2_allHang : ByteArray := prog_9_method_18_code
def yX2_allHang : MethodName := ⟨RX2, "allHang", "()I"⟩
def dkwX2_allHang_1 : List UInt8 := [132, 2, 1, 167, 255, 233, 27, 172]
abbrev dktX2_allHang_1 : List UInt8 := dkwX2_allHang_1 ++ []
def dkwX2_allHang_0 : List UInt8 := [3, 60, 3, 61, 28, 42, 180, 0, 7, 4, 46, 162, 0, 19, 27, 42, 28, 16, 6, 182, 0, 49, 96, 60]
abbrev dktX2_allHang_0 : List UInt8 := dkwX2_allHang_0 ++ dktX2_allHang_1
theorem dksX2_allHang_0 : cX2_allHang.data.toList.drop 0 = dktX2_allHang_0 := by decide +kernel
theorem dksX2_allHang_1 : cX2_allHang.data.toList.drop 24 = dktX2_allHang_1 := dk_seg dksX2_allHang_0 24 rfl rfl
theorem dX2_allHang_0 : decode cX2_allHang 0 = .ok (.iconst 0, 1) := dk_3 (dk_at dksX2_allHang_0 0 rfl rfl)
theorem dX2_allHang_1 : decode cX2_allHang 1 = .ok (.istore_n 1, 1) := dk_60 (dk_at dksX2_allHang_0 1 rfl rfl)
theorem dX2_allHang_2 : decode cX2_allHang 2 = .ok (.iconst 0, 1) := dk_3 (dk_at dksX2_allHang_0 2 rfl rfl)
theorem dX2_allHang_3 : decode cX2_allHang 3 = .ok (.istore_n 2, 1) := dk_61 (dk_at dksX2_allHang_0 3 rfl rfl)
theorem dX2_allHang_4 : decode cX2_allHang 4 = .ok (.iload_n 2, 1) := dk_28 (dk_at dksX2_allHang_0 4 rfl rfl)
theorem dX2_allHang_5 : decode cX2_allHang 5 = .ok (.aload_n 0, 1) := dk_42 (dk_at dksX2_allHang_0 5 rfl rfl)
theorem dX2_allHang_6 : decode cX2_allHang 6 = .ok (.getfield 7, 3) := dk_180 0 7 (dk_at dksX2_allHang_0 6 rfl rfl)
theorem dX2_allHang_9 : decode cX2_allHang 9 = .ok (.iconst 1, 1) := dk_4 (dk_at dksX2_allHang_0 9 rfl rfl)
theorem dX2_allHang_10 : decode cX2_allHang 10 = .ok (.iaload, 1) := dk_46 (dk_at dksX2_allHang_0 10 rfl rfl)
theorem dX2_allHang_11 : decode cX2_allHang 11 = .ok (.if_icmp .ge 19, 3) := dk_162 0 19 (dk_at dksX2_allHang_0 11 rfl rfl)
theorem dX2_allHang_14 : decode cX2_allHang 14 = .ok (.iload_n 1, 1) := dk_27 (dk_at dksX2_allHang_0 14 rfl rfl)
theorem dX2_allHang_15 : decode cX2_allHang 15 = .ok (.aload_n 0, 1) := dk_42 (dk_at dksX2_allHang_0 15 rfl rfl)
theorem dX2_allHang_16 : decode cX2_allHang 16 = .ok (.iload_n 2, 1) := dk_28 (dk_at dksX2_allHang_0 16 rfl rfl)
theorem dX2_allHang_17 : decode cX2_allHang 17 = .ok (.bipush 6, 2) := dk_16 6 (dk_at dksX2_allHang_0 17 rfl rfl)
theorem dX2_allHang_19 : decode cX2_allHang 19 = .ok (.invokevirtual 49, 3) := dk_182 0 49 (dk_at dksX2_allHang_0 19 rfl rfl)
theorem dX2_allHang_22 : decode cX2_allHang 22 = .ok (.iadd, 1) := dk_96 (dk_at dksX2_allHang_0 22 rfl rfl)
theorem dX2_allHang_23 : decode cX2_allHang 23 = .ok (.istore_n 1, 1) := dk_60 (dk_at dksX2_allHang_0 23 rfl rfl)
theorem dX2_allHang_24 : decode cX2_allHang 24 = .ok (.iinc 2 1, 3) := dk_132 2 1 (dk_at dksX2_allHang_1 0 rfl rfl)
theorem dX2_allHang_27 : decode cX2_allHang 27 = .ok (.goto (-23), 3) := dk_167 255 233 (dk_at dksX2_allHang_1 3 rfl rfl)
theorem dX2_allHang_30 : decode cX2_allHang 30 = .ok (.iload_n 1, 1) := dk_27 (dk_at dksX2_allHang_1 6 rfl rfl)
theorem dX2_allHang_31 : decode cX2_allHang 31 = .ok (.ireturn, 1) := dk_172 (dk_at dksX2_allHang_1 7 rfl rfl)
abbrev cX2_of : ByteArray := prog_9_method_4_code
def yX2_of : MethodName := ⟨RX2, "of", "(II)I"⟩
def dkwX2_of_0 : List UInt8 := [42, 180, 0, 7, 16, 12, 16, 7, 27, 104, 96, 28, 96, 46, 172]
abbrev dktX2_of_0 : List UInt8 := dkwX2_of_0 ++ []
theorem dksX2_of_0 : cX2_of.data.toList.drop 0 = dktX2_of_0 := by decide +kernel
theorem dX2_of_0 : decode cX2_of 0 = .ok (.aload_n 0, 1) := dk_42 (dk_at dksX2_of_0 0 rfl rfl)
theorem dX2_of_1 : decode cX2_of 1 = .ok (.getfield 7, 3) := dk_180 0 7 (dk_at dksX2_of_0 1 rfl rfl)
theorem dX2_of_4 : decode cX2_of 4 = .ok (.bipush 12, 2) := dk_16 12 (dk_at dksX2_of_0 4 rfl rfl)
theorem dX2_of_6 : decode cX2_of 6 = .ok (.bipush 7, 2) := dk_16 7 (dk_at dksX2_of_0 6 rfl rfl)
theorem dX2_of_8 : decode cX2_of 8 = .ok (.iload_n 1, 1) := dk_27 (dk_at dksX2_of_0 8 rfl rfl)
theorem dX2_of_9 : decode cX2_of 9 = .ok (.imul, 1) := dk_104 (dk_at dksX2_of_0 9 rfl rfl)
theorem dX2_of_10 : decode cX2_of 10 = .ok (.iadd, 1) := dk_96 (dk_at dksX2_of_0 10 rfl rfl)
theorem dX2_of_11 : decode cX2_of 11 = .ok (.iload_n 2, 1) := dk_28 (dk_at dksX2_of_0 11 rfl rfl)
theorem dX2_of_12 : decode cX2_of 12 = .ok (.iadd, 1) := dk_96 (dk_at dksX2_of_0 12 rfl rfl)
theorem dX2_of_13 : decode cX2_of 13 = .ok (.iaload, 1) := dk_46 (dk_at dksX2_of_0 13 rfl rfl)
theorem dX2_of_14 : decode cX2_of 14 = .ok (.ireturn, 1) := dk_172 (dk_at dksX2_of_0 14 rfl rfl)
abbrev cX2_nailLink : ByteArray := prog_9_method_35_code
def yX2_nailLink : MethodName := ⟨RX2, "nailLink", "(IIIIII)I"⟩
def dkwX2_nailLink_1 : List UInt8 := [21, 6, 182, 0, 145, 54, 7, 21, 7, 156, 0, 8, 21, 7, 167, 0, 9, 42, 21, 7, 182, 0, 110, 172]
abbrev dktX2_nailLink_1 : List UInt8 := dkwX2_nailLink_1 ++ []
def dkwX2_nailLink_0 : List UInt8 := [42, 182, 0, 107, 42, 27, 28, 29, 184, 0, 125, 153, 0, 7, 29, 167, 0, 5, 16, 16, 21, 4, 21, 5]
abbrev dktX2_nailLink_0 : List UInt8 := dkwX2_nailLink_0 ++ dktX2_nailLink_1
theorem dksX2_nailLink_0 : cX2_nailLink.data.toList.drop 0 = dktX2_nailLink_0 := by decide +kernel
theorem dksX2_nailLink_1 : cX2_nailLink.data.toList.drop 24 = dktX2_nailLink_1 := dk_seg dksX2_nailLink_0 24 rfl rfl
theorem dX2_nailLink_0 : decode cX2_nailLink 0 = .ok (.aload_n 0, 1) := dk_42 (dk_at dksX2_nailLink_0 0 rfl rfl)
theorem dX2_nailLink_1 : decode cX2_nailLink 1 = .ok (.invokevirtual 107, 3) := dk_182 0 107 (dk_at dksX2_nailLink_0 1 rfl rfl)
theorem dX2_nailLink_4 : decode cX2_nailLink 4 = .ok (.aload_n 0, 1) := dk_42 (dk_at dksX2_nailLink_0 4 rfl rfl)
theorem dX2_nailLink_5 : decode cX2_nailLink 5 = .ok (.iload_n 1, 1) := dk_27 (dk_at dksX2_nailLink_0 5 rfl rfl)
theorem dX2_nailLink_6 : decode cX2_nailLink 6 = .ok (.iload_n 2, 1) := dk_28 (dk_at dksX2_nailLink_0 6 rfl rfl)
theorem dX2_nailLink_7 : decode cX2_nailLink 7 = .ok (.iload_n 3, 1) := dk_29 (dk_at dksX2_nailLink_0 7 rfl rfl)
theorem dX2_nailLink_8 : decode cX2_nailLink 8 = .ok (.invokestatic 125, 3) := dk_184 0 125 (dk_at dksX2_nailLink_0 8 rfl rfl)
theorem dX2_nailLink_11 : decode cX2_nailLink 11 = .ok (.ifCond .eq 7, 3) := dk_153 0 7 (dk_at dksX2_nailLink_0 11 rfl rfl)
theorem dX2_nailLink_14 : decode cX2_nailLink 14 = .ok (.iload_n 3, 1) := dk_29 (dk_at dksX2_nailLink_0 14 rfl rfl)
theorem dX2_nailLink_15 : decode cX2_nailLink 15 = .ok (.goto 5, 3) := dk_167 0 5 (dk_at dksX2_nailLink_0 15 rfl rfl)
theorem dX2_nailLink_18 : decode cX2_nailLink 18 = .ok (.bipush 16, 2) := dk_16 16 (dk_at dksX2_nailLink_0 18 rfl rfl)
theorem dX2_nailLink_20 : decode cX2_nailLink 20 = .ok (.iload 4, 2) := dk_21 4 (dk_at dksX2_nailLink_0 20 rfl rfl)
theorem dX2_nailLink_22 : decode cX2_nailLink 22 = .ok (.iload 5, 2) := dk_21 5 (dk_at dksX2_nailLink_0 22 rfl rfl)
theorem dX2_nailLink_24 : decode cX2_nailLink 24 = .ok (.iload 6, 2) := dk_21 6 (dk_at dksX2_nailLink_1 0 rfl rfl)
theorem dX2_nailLink_26 : decode cX2_nailLink 26 = .ok (.invokevirtual 145, 3) := dk_182 0 145 (dk_at dksX2_nailLink_1 2 rfl rfl)
theorem dX2_nailLink_29 : decode cX2_nailLink 29 = .ok (.istore 7, 2) := dk_54 7 (dk_at dksX2_nailLink_1 5 rfl rfl)
theorem dX2_nailLink_31 : decode cX2_nailLink 31 = .ok (.iload 7, 2) := dk_21 7 (dk_at dksX2_nailLink_1 7 rfl rfl)
theorem dX2_nailLink_33 : decode cX2_nailLink 33 = .ok (.ifCond .ge 8, 3) := dk_156 0 8 (dk_at dksX2_nailLink_1 9 rfl rfl)
theorem dX2_nailLink_36 : decode cX2_nailLink 36 = .ok (.iload 7, 2) := dk_21 7 (dk_at dksX2_nailLink_1 12 rfl rfl)
theorem dX2_nailLink_38 : decode cX2_nailLink 38 = .ok (.goto 9, 3) := dk_167 0 9 (dk_at dksX2_nailLink_1 14 rfl rfl)
theorem dX2_nailLink_41 : decode cX2_nailLink 41 = .ok (.aload_n 0, 1) := dk_42 (dk_at dksX2_nailLink_1 17 rfl rfl)
theorem dX2_nailLink_42 : decode cX2_nailLink 42 = .ok (.iload 7, 2) := dk_21 7 (dk_at dksX2_nailLink_1 18 rfl rfl)
theorem dX2_nailLink_44 : decode cX2_nailLink 44 = .ok (.invokevirtual 110, 3) := dk_182 0 110 (dk_at dksX2_nailLink_1 20 rfl rfl)
theorem dX2_nailLink_47 : decode cX2_nailLink 47 = .ok (.ireturn, 1) := dk_172 (dk_at dksX2_nailLink_1 23 rfl rfl)
abbrev cX2_tear : ByteArray := prog_9_method_36_code
def yX2_tear : MethodName := ⟨RX2, "tear", "(I)I"⟩
def dkwX2_tear_2 : List UInt8 := [4, 96, 79, 42, 42, 42, 27, 4, 182, 0, 49, 3, 182, 0, 152, 182, 0, 110, 172]
abbrev dktX2_tear_2 : List UInt8 := dkwX2_tear_2 ++ []
def dkwX2_tear_1 : List UInt8 := [172, 42, 180, 0, 7, 16, 12, 16, 7, 27, 104, 96, 16, 6, 96, 3, 79, 42, 180, 0, 7, 6, 92, 46]
abbrev dktX2_tear_1 : List UInt8 := dkwX2_tear_1 ++ dktX2_tear_2
def dkwX2_tear_0 : List UInt8 := [42, 182, 0, 107, 42, 27, 182, 0, 149, 154, 0, 5, 2, 172, 42, 27, 182, 0, 57, 154, 0, 6, 16, 251]
abbrev dktX2_tear_0 : List UInt8 := dkwX2_tear_0 ++ dktX2_tear_1
theorem dksX2_tear_0 : cX2_tear.data.toList.drop 0 = dktX2_tear_0 := by decide +kernel
theorem dksX2_tear_1 : cX2_tear.data.toList.drop 24 = dktX2_tear_1 := dk_seg dksX2_tear_0 24 rfl rfl
theorem dksX2_tear_2 : cX2_tear.data.toList.drop 48 = dktX2_tear_2 := dk_seg dksX2_tear_1 24 rfl rfl
theorem dX2_tear_0 : decode cX2_tear 0 = .ok (.aload_n 0, 1) := dk_42 (dk_at dksX2_tear_0 0 rfl rfl)
theorem dX2_tear_1 : decode cX2_tear 1 = .ok (.invokevirtual 107, 3) := dk_182 0 107 (dk_at dksX2_tear_0 1 rfl rfl)
theorem dX2_tear_4 : decode cX2_tear 4 = .ok (.aload_n 0, 1) := dk_42 (dk_at dksX2_tear_0 4 rfl rfl)
theorem dX2_tear_5 : decode cX2_tear 5 = .ok (.iload_n 1, 1) := dk_27 (dk_at dksX2_tear_0 5 rfl rfl)
theorem dX2_tear_6 : decode cX2_tear 6 = .ok (.invokevirtual 149, 3) := dk_182 0 149 (dk_at dksX2_tear_0 6 rfl rfl)
theorem dX2_tear_9 : decode cX2_tear 9 = .ok (.ifCond .ne 5, 3) := dk_154 0 5 (dk_at dksX2_tear_0 9 rfl rfl)
theorem dX2_tear_12 : decode cX2_tear 12 = .ok (.iconst (-1), 1) := dk_2 (dk_at dksX2_tear_0 12 rfl rfl)
theorem dX2_tear_13 : decode cX2_tear 13 = .ok (.ireturn, 1) := dk_172 (dk_at dksX2_tear_0 13 rfl rfl)
theorem dX2_tear_14 : decode cX2_tear 14 = .ok (.aload_n 0, 1) := dk_42 (dk_at dksX2_tear_0 14 rfl rfl)
theorem dX2_tear_15 : decode cX2_tear 15 = .ok (.iload_n 1, 1) := dk_27 (dk_at dksX2_tear_0 15 rfl rfl)
theorem dX2_tear_16 : decode cX2_tear 16 = .ok (.invokevirtual 57, 3) := dk_182 0 57 (dk_at dksX2_tear_0 16 rfl rfl)
theorem dX2_tear_19 : decode cX2_tear 19 = .ok (.ifCond .ne 6, 3) := dk_154 0 6 (dk_at dksX2_tear_0 19 rfl rfl)
theorem dX2_tear_22 : decode cX2_tear 22 = .ok (.bipush (-5), 2) := dk_16 251 (dk_at dksX2_tear_0 22 rfl rfl)
theorem dX2_tear_24 : decode cX2_tear 24 = .ok (.ireturn, 1) := dk_172 (dk_at dksX2_tear_1 0 rfl rfl)
theorem dX2_tear_25 : decode cX2_tear 25 = .ok (.aload_n 0, 1) := dk_42 (dk_at dksX2_tear_1 1 rfl rfl)
theorem dX2_tear_26 : decode cX2_tear 26 = .ok (.getfield 7, 3) := dk_180 0 7 (dk_at dksX2_tear_1 2 rfl rfl)
theorem dX2_tear_29 : decode cX2_tear 29 = .ok (.bipush 12, 2) := dk_16 12 (dk_at dksX2_tear_1 5 rfl rfl)
theorem dX2_tear_31 : decode cX2_tear 31 = .ok (.bipush 7, 2) := dk_16 7 (dk_at dksX2_tear_1 7 rfl rfl)
theorem dX2_tear_33 : decode cX2_tear 33 = .ok (.iload_n 1, 1) := dk_27 (dk_at dksX2_tear_1 9 rfl rfl)
theorem dX2_tear_34 : decode cX2_tear 34 = .ok (.imul, 1) := dk_104 (dk_at dksX2_tear_1 10 rfl rfl)
theorem dX2_tear_35 : decode cX2_tear 35 = .ok (.iadd, 1) := dk_96 (dk_at dksX2_tear_1 11 rfl rfl)
theorem dX2_tear_36 : decode cX2_tear 36 = .ok (.bipush 6, 2) := dk_16 6 (dk_at dksX2_tear_1 12 rfl rfl)
theorem dX2_tear_38 : decode cX2_tear 38 = .ok (.iadd, 1) := dk_96 (dk_at dksX2_tear_1 14 rfl rfl)
theorem dX2_tear_39 : decode cX2_tear 39 = .ok (.iconst 0, 1) := dk_3 (dk_at dksX2_tear_1 15 rfl rfl)
theorem dX2_tear_40 : decode cX2_tear 40 = .ok (.iastore, 1) := dk_79 (dk_at dksX2_tear_1 16 rfl rfl)
theorem dX2_tear_41 : decode cX2_tear 41 = .ok (.aload_n 0, 1) := dk_42 (dk_at dksX2_tear_1 17 rfl rfl)
theorem dX2_tear_42 : decode cX2_tear 42 = .ok (.getfield 7, 3) := dk_180 0 7 (dk_at dksX2_tear_1 18 rfl rfl)
theorem dX2_tear_45 : decode cX2_tear 45 = .ok (.iconst 3, 1) := dk_6 (dk_at dksX2_tear_1 21 rfl rfl)
theorem dX2_tear_46 : decode cX2_tear 46 = .ok (.dup2, 1) := dk_92 (dk_at dksX2_tear_1 22 rfl rfl)
theorem dX2_tear_47 : decode cX2_tear 47 = .ok (.iaload, 1) := dk_46 (dk_at dksX2_tear_1 23 rfl rfl)
theorem dX2_tear_48 : decode cX2_tear 48 = .ok (.iconst 1, 1) := dk_4 (dk_at dksX2_tear_2 0 rfl rfl)
theorem dX2_tear_49 : decode cX2_tear 49 = .ok (.iadd, 1) := dk_96 (dk_at dksX2_tear_2 1 rfl rfl)
theorem dX2_tear_50 : decode cX2_tear 50 = .ok (.iastore, 1) := dk_79 (dk_at dksX2_tear_2 2 rfl rfl)
theorem dX2_tear_51 : decode cX2_tear 51 = .ok (.aload_n 0, 1) := dk_42 (dk_at dksX2_tear_2 3 rfl rfl)
theorem dX2_tear_52 : decode cX2_tear 52 = .ok (.aload_n 0, 1) := dk_42 (dk_at dksX2_tear_2 4 rfl rfl)
theorem dX2_tear_53 : decode cX2_tear 53 = .ok (.aload_n 0, 1) := dk_42 (dk_at dksX2_tear_2 5 rfl rfl)
theorem dX2_tear_54 : decode cX2_tear 54 = .ok (.iload_n 1, 1) := dk_27 (dk_at dksX2_tear_2 6 rfl rfl)
theorem dX2_tear_55 : decode cX2_tear 55 = .ok (.iconst 1, 1) := dk_4 (dk_at dksX2_tear_2 7 rfl rfl)
theorem dX2_tear_56 : decode cX2_tear 56 = .ok (.invokevirtual 49, 3) := dk_182 0 49 (dk_at dksX2_tear_2 8 rfl rfl)
theorem dX2_tear_59 : decode cX2_tear 59 = .ok (.iconst 0, 1) := dk_3 (dk_at dksX2_tear_2 11 rfl rfl)
theorem dX2_tear_60 : decode cX2_tear 60 = .ok (.invokevirtual 152, 3) := dk_182 0 152 (dk_at dksX2_tear_2 12 rfl rfl)
theorem dX2_tear_63 : decode cX2_tear 63 = .ok (.invokevirtual 110, 3) := dk_182 0 110 (dk_at dksX2_tear_2 15 rfl rfl)
theorem dX2_tear_66 : decode cX2_tear 66 = .ok (.ireturn, 1) := dk_172 (dk_at dksX2_tear_2 18 rfl rfl)
abbrev cX2_isOrder : ByteArray := prog_9_method_9_code
def yX2_isOrder : MethodName := ⟨RX2, "isOrder", "(I)Z"⟩
def dkwX2_isOrder_0 : List UInt8 := [27, 3, 42, 180, 0, 7, 4, 46, 4, 100, 184, 0, 53, 172]
abbrev dktX2_isOrder_0 : List UInt8 := dkwX2_isOrder_0 ++ []
theorem dksX2_isOrder_0 : cX2_isOrder.data.toList.drop 0 = dktX2_isOrder_0 := by decide +kernel
theorem dX2_isOrder_0 : decode cX2_isOrder 0 = .ok (.iload_n 1, 1) := dk_27 (dk_at dksX2_isOrder_0 0 rfl rfl)
theorem dX2_isOrder_1 : decode cX2_isOrder 1 = .ok (.iconst 0, 1) := dk_3 (dk_at dksX2_isOrder_0 1 rfl rfl)
theorem dX2_isOrder_2 : decode cX2_isOrder 2 = .ok (.aload_n 0, 1) := dk_42 (dk_at dksX2_isOrder_0 2 rfl rfl)
theorem dX2_isOrder_3 : decode cX2_isOrder 3 = .ok (.getfield 7, 3) := dk_180 0 7 (dk_at dksX2_isOrder_0 3 rfl rfl)
theorem dX2_isOrder_6 : decode cX2_isOrder 6 = .ok (.iconst 1, 1) := dk_4 (dk_at dksX2_isOrder_0 6 rfl rfl)
theorem dX2_isOrder_7 : decode cX2_isOrder 7 = .ok (.iaload, 1) := dk_46 (dk_at dksX2_isOrder_0 7 rfl rfl)
theorem dX2_isOrder_8 : decode cX2_isOrder 8 = .ok (.iconst 1, 1) := dk_4 (dk_at dksX2_isOrder_0 8 rfl rfl)
theorem dX2_isOrder_9 : decode cX2_isOrder 9 = .ok (.isub, 1) := dk_100 (dk_at dksX2_isOrder_0 9 rfl rfl)
theorem dX2_isOrder_10 : decode cX2_isOrder 10 = .ok (.invokestatic 53, 3) := dk_184 0 53 (dk_at dksX2_isOrder_0 10 rfl rfl)
theorem dX2_isOrder_13 : decode cX2_isOrder 13 = .ok (.ireturn, 1) := dk_172 (dk_at dksX2_isOrder_0 13 rfl rfl)
abbrev cX2_hangs : ByteArray := prog_9_method_10_code
def yX2_hangs : MethodName := ⟨RX2, "hangs", "(I)Z"⟩
def dkwX2_hangs_0 : List UInt8 := [42, 27, 16, 6, 182, 0, 49, 4, 160, 0, 7, 4, 167, 0, 4, 3, 172]
abbrev dktX2_hangs_0 : List UInt8 := dkwX2_hangs_0 ++ []
theorem dksX2_hangs_0 : cX2_hangs.data.toList.drop 0 = dktX2_hangs_0 := by decide +kernel
theorem dX2_hangs_0 : decode cX2_hangs 0 = .ok (.aload_n 0, 1) := dk_42 (dk_at dksX2_hangs_0 0 rfl rfl)
theorem dX2_hangs_1 : decode cX2_hangs 1 = .ok (.iload_n 1, 1) := dk_27 (dk_at dksX2_hangs_0 1 rfl rfl)
theorem dX2_hangs_2 : decode cX2_hangs 2 = .ok (.bipush 6, 2) := dk_16 6 (dk_at dksX2_hangs_0 2 rfl rfl)
theorem dX2_hangs_4 : decode cX2_hangs 4 = .ok (.invokevirtual 49, 3) := dk_182 0 49 (dk_at dksX2_hangs_0 4 rfl rfl)
theorem dX2_hangs_7 : decode cX2_hangs 7 = .ok (.iconst 1, 1) := dk_4 (dk_at dksX2_hangs_0 7 rfl rfl)
theorem dX2_hangs_8 : decode cX2_hangs 8 = .ok (.if_icmp .ne 7, 3) := dk_160 0 7 (dk_at dksX2_hangs_0 8 rfl rfl)
theorem dX2_hangs_11 : decode cX2_hangs 11 = .ok (.iconst 1, 1) := dk_4 (dk_at dksX2_hangs_0 11 rfl rfl)
theorem dX2_hangs_12 : decode cX2_hangs 12 = .ok (.goto 4, 3) := dk_167 0 4 (dk_at dksX2_hangs_0 12 rfl rfl)
theorem dX2_hangs_15 : decode cX2_hangs 15 = .ok (.iconst 0, 1) := dk_3 (dk_at dksX2_hangs_0 15 rfl rfl)
theorem dX2_hangs_16 : decode cX2_hangs 16 = .ok (.ireturn, 1) := dk_172 (dk_at dksX2_hangs_0 16 rfl rfl)
abbrev cX2_many : ByteArray := prog_9_method_17_code
def yX2_many : MethodName := ⟨RX2, "many", "(II)I"⟩
def dkwX2_many_1 : List UInt8 := [153, 0, 7, 4, 167, 0, 4, 3, 96, 62, 132, 4, 1, 167, 255, 224, 29, 172]
abbrev dktX2_many_1 : List UInt8 := dkwX2_many_1 ++ []
def dkwX2_many_0 : List UInt8 := [3, 62, 28, 54, 4, 21, 4, 42, 180, 0, 7, 4, 46, 162, 0, 27, 29, 42, 21, 4, 27, 182, 0, 66]
abbrev dktX2_many_0 : List UInt8 := dkwX2_many_0 ++ dktX2_many_1
theorem dksX2_many_0 : cX2_many.data.toList.drop 0 = dktX2_many_0 := by decide +kernel
theorem dksX2_many_1 : cX2_many.data.toList.drop 24 = dktX2_many_1 := dk_seg dksX2_many_0 24 rfl rfl
theorem dX2_many_0 : decode cX2_many 0 = .ok (.iconst 0, 1) := dk_3 (dk_at dksX2_many_0 0 rfl rfl)
theorem dX2_many_1 : decode cX2_many 1 = .ok (.istore_n 3, 1) := dk_62 (dk_at dksX2_many_0 1 rfl rfl)
theorem dX2_many_2 : decode cX2_many 2 = .ok (.iload_n 2, 1) := dk_28 (dk_at dksX2_many_0 2 rfl rfl)
theorem dX2_many_3 : decode cX2_many 3 = .ok (.istore 4, 2) := dk_54 4 (dk_at dksX2_many_0 3 rfl rfl)
theorem dX2_many_5 : decode cX2_many 5 = .ok (.iload 4, 2) := dk_21 4 (dk_at dksX2_many_0 5 rfl rfl)
theorem dX2_many_7 : decode cX2_many 7 = .ok (.aload_n 0, 1) := dk_42 (dk_at dksX2_many_0 7 rfl rfl)
theorem dX2_many_8 : decode cX2_many 8 = .ok (.getfield 7, 3) := dk_180 0 7 (dk_at dksX2_many_0 8 rfl rfl)
theorem dX2_many_11 : decode cX2_many 11 = .ok (.iconst 1, 1) := dk_4 (dk_at dksX2_many_0 11 rfl rfl)
theorem dX2_many_12 : decode cX2_many 12 = .ok (.iaload, 1) := dk_46 (dk_at dksX2_many_0 12 rfl rfl)
theorem dX2_many_13 : decode cX2_many 13 = .ok (.if_icmp .ge 27, 3) := dk_162 0 27 (dk_at dksX2_many_0 13 rfl rfl)
theorem dX2_many_16 : decode cX2_many 16 = .ok (.iload_n 3, 1) := dk_29 (dk_at dksX2_many_0 16 rfl rfl)
theorem dX2_many_17 : decode cX2_many 17 = .ok (.aload_n 0, 1) := dk_42 (dk_at dksX2_many_0 17 rfl rfl)
theorem dX2_many_18 : decode cX2_many 18 = .ok (.iload 4, 2) := dk_21 4 (dk_at dksX2_many_0 18 rfl rfl)
theorem dX2_many_20 : decode cX2_many 20 = .ok (.iload_n 1, 1) := dk_27 (dk_at dksX2_many_0 20 rfl rfl)
theorem dX2_many_21 : decode cX2_many 21 = .ok (.invokevirtual 66, 3) := dk_182 0 66 (dk_at dksX2_many_0 21 rfl rfl)
theorem dX2_many_24 : decode cX2_many 24 = .ok (.ifCond .eq 7, 3) := dk_153 0 7 (dk_at dksX2_many_1 0 rfl rfl)
theorem dX2_many_27 : decode cX2_many 27 = .ok (.iconst 1, 1) := dk_4 (dk_at dksX2_many_1 3 rfl rfl)
theorem dX2_many_28 : decode cX2_many 28 = .ok (.goto 4, 3) := dk_167 0 4 (dk_at dksX2_many_1 4 rfl rfl)
theorem dX2_many_31 : decode cX2_many 31 = .ok (.iconst 0, 1) := dk_3 (dk_at dksX2_many_1 7 rfl rfl)
theorem dX2_many_32 : decode cX2_many 32 = .ok (.iadd, 1) := dk_96 (dk_at dksX2_many_1 8 rfl rfl)
theorem dX2_many_33 : decode cX2_many 33 = .ok (.istore_n 3, 1) := dk_62 (dk_at dksX2_many_1 9 rfl rfl)
theorem dX2_many_34 : decode cX2_many 34 = .ok (.iinc 4 1, 3) := dk_132 4 1 (dk_at dksX2_many_1 10 rfl rfl)
theorem dX2_many_37 : decode cX2_many 37 = .ok (.goto (-32), 3) := dk_167 255 224 (dk_at dksX2_many_1 13 rfl rfl)
theorem dX2_many_40 : decode cX2_many 40 = .ok (.iload_n 3, 1) := dk_29 (dk_at dksX2_many_1 16 rfl rfl)
theorem dX2_many_41 : decode cX2_many 41 = .ok (.ireturn, 1) := dk_172 (dk_at dksX2_many_1 17 rfl rfl)
abbrev cX2_hangsFor : ByteArray := prog_9_method_11_code
def yX2_hangsFor : MethodName := ⟨RX2, "hangsFor", "(II)Z"⟩
def dkwX2_hangsFor_0 : List UInt8 := [42, 27, 182, 0, 57, 153, 0, 17, 42, 27, 4, 182, 0, 49, 28, 160, 0, 7, 4, 167, 0, 4, 3, 172]
abbrev dktX2_hangsFor_0 : List UInt8 := dkwX2_hangsFor_0 ++ []
theorem dksX2_hangsFor_0 : cX2_hangsFor.data.toList.drop 0 = dktX2_hangsFor_0 := by decide +kernel
theorem dX2_hangsFor_0 : decode cX2_hangsFor 0 = .ok (.aload_n 0, 1) := dk_42 (dk_at dksX2_hangsFor_0 0 rfl rfl)
theorem dX2_hangsFor_1 : decode cX2_hangsFor 1 = .ok (.iload_n 1, 1) := dk_27 (dk_at dksX2_hangsFor_0 1 rfl rfl)
theorem dX2_hangsFor_2 : decode cX2_hangsFor 2 = .ok (.invokevirtual 57, 3) := dk_182 0 57 (dk_at dksX2_hangsFor_0 2 rfl rfl)
theorem dX2_hangsFor_5 : decode cX2_hangsFor 5 = .ok (.ifCond .eq 17, 3) := dk_153 0 17 (dk_at dksX2_hangsFor_0 5 rfl rfl)
theorem dX2_hangsFor_8 : decode cX2_hangsFor 8 = .ok (.aload_n 0, 1) := dk_42 (dk_at dksX2_hangsFor_0 8 rfl rfl)
theorem dX2_hangsFor_9 : decode cX2_hangsFor 9 = .ok (.iload_n 1, 1) := dk_27 (dk_at dksX2_hangsFor_0 9 rfl rfl)
theorem dX2_hangsFor_10 : decode cX2_hangsFor 10 = .ok (.iconst 1, 1) := dk_4 (dk_at dksX2_hangsFor_0 10 rfl rfl)
theorem dX2_hangsFor_11 : decode cX2_hangsFor 11 = .ok (.invokevirtual 49, 3) := dk_182 0 49 (dk_at dksX2_hangsFor_0 11 rfl rfl)
theorem dX2_hangsFor_14 : decode cX2_hangsFor 14 = .ok (.iload_n 2, 1) := dk_28 (dk_at dksX2_hangsFor_0 14 rfl rfl)
theorem dX2_hangsFor_15 : decode cX2_hangsFor 15 = .ok (.if_icmp .ne 7, 3) := dk_160 0 7 (dk_at dksX2_hangsFor_0 15 rfl rfl)
theorem dX2_hangsFor_18 : decode cX2_hangsFor 18 = .ok (.iconst 1, 1) := dk_4 (dk_at dksX2_hangsFor_0 18 rfl rfl)
theorem dX2_hangsFor_19 : decode cX2_hangsFor 19 = .ok (.goto 4, 3) := dk_167 0 4 (dk_at dksX2_hangsFor_0 19 rfl rfl)
theorem dX2_hangsFor_22 : decode cX2_hangsFor 22 = .ok (.iconst 0, 1) := dk_3 (dk_at dksX2_hangsFor_0 22 rfl rfl)
theorem dX2_hangsFor_23 : decode cX2_hangsFor 23 = .ok (.ireturn, 1) := dk_172 (dk_at dksX2_hangsFor_0 23 rfl rfl)
abbrev cX2_hammer : ByteArray := prog_9_method_39_code
def yX2_hammer : MethodName := ⟨RX2, "hammer", "(I)I"⟩
def dkwX2_hammer_2 : List UInt8 := [27, 182, 0, 160, 182, 0, 110, 172]
abbrev dktX2_hammer_2 : List UInt8 := dkwX2_hammer_2 ++ []
def dkwX2_hammer_1 : List UInt8 := [172, 42, 27, 8, 182, 0, 77, 69, 42, 27, 36, 18, 124, 36, 102, 18, 155, 106, 98, 182, 0, 156, 42, 42]
abbrev dktX2_hammer_1 : List UInt8 := dkwX2_hammer_1 ++ dktX2_hammer_2
def dkwX2_hammer_0 : List UInt8 := [42, 182, 0, 107, 42, 27, 182, 0, 149, 154, 0, 5, 2, 172, 42, 27, 182, 0, 57, 154, 0, 6, 16, 252]
abbrev dktX2_hammer_0 : List UInt8 := dkwX2_hammer_0 ++ dktX2_hammer_1
theorem dksX2_hammer_0 : cX2_hammer.data.toList.drop 0 = dktX2_hammer_0 := by decide +kernel
theorem dksX2_hammer_1 : cX2_hammer.data.toList.drop 24 = dktX2_hammer_1 := dk_seg dksX2_hammer_0 24 rfl rfl
theorem dksX2_hammer_2 : cX2_hammer.data.toList.drop 48 = dktX2_hammer_2 := dk_seg dksX2_hammer_1 24 rfl rfl
theorem dX2_hammer_0 : decode cX2_hammer 0 = .ok (.aload_n 0, 1) := dk_42 (dk_at dksX2_hammer_0 0 rfl rfl)
theorem dX2_hammer_1 : decode cX2_hammer 1 = .ok (.invokevirtual 107, 3) := dk_182 0 107 (dk_at dksX2_hammer_0 1 rfl rfl)
theorem dX2_hammer_4 : decode cX2_hammer 4 = .ok (.aload_n 0, 1) := dk_42 (dk_at dksX2_hammer_0 4 rfl rfl)
theorem dX2_hammer_5 : decode cX2_hammer 5 = .ok (.iload_n 1, 1) := dk_27 (dk_at dksX2_hammer_0 5 rfl rfl)
theorem dX2_hammer_6 : decode cX2_hammer 6 = .ok (.invokevirtual 149, 3) := dk_182 0 149 (dk_at dksX2_hammer_0 6 rfl rfl)
theorem dX2_hammer_9 : decode cX2_hammer 9 = .ok (.ifCond .ne 5, 3) := dk_154 0 5 (dk_at dksX2_hammer_0 9 rfl rfl)
theorem dX2_hammer_12 : decode cX2_hammer 12 = .ok (.iconst (-1), 1) := dk_2 (dk_at dksX2_hammer_0 12 rfl rfl)
theorem dX2_hammer_13 : decode cX2_hammer 13 = .ok (.ireturn, 1) := dk_172 (dk_at dksX2_hammer_0 13 rfl rfl)
theorem dX2_hammer_14 : decode cX2_hammer 14 = .ok (.aload_n 0, 1) := dk_42 (dk_at dksX2_hammer_0 14 rfl rfl)
theorem dX2_hammer_15 : decode cX2_hammer 15 = .ok (.iload_n 1, 1) := dk_27 (dk_at dksX2_hammer_0 15 rfl rfl)
theorem dX2_hammer_16 : decode cX2_hammer 16 = .ok (.invokevirtual 57, 3) := dk_182 0 57 (dk_at dksX2_hammer_0 16 rfl rfl)
theorem dX2_hammer_19 : decode cX2_hammer 19 = .ok (.ifCond .ne 6, 3) := dk_154 0 6 (dk_at dksX2_hammer_0 19 rfl rfl)
theorem dX2_hammer_22 : decode cX2_hammer 22 = .ok (.bipush (-4), 2) := dk_16 252 (dk_at dksX2_hammer_0 22 rfl rfl)
theorem dX2_hammer_24 : decode cX2_hammer 24 = .ok (.ireturn, 1) := dk_172 (dk_at dksX2_hammer_1 0 rfl rfl)
theorem dX2_hammer_25 : decode cX2_hammer 25 = .ok (.aload_n 0, 1) := dk_42 (dk_at dksX2_hammer_1 1 rfl rfl)
theorem dX2_hammer_26 : decode cX2_hammer 26 = .ok (.iload_n 1, 1) := dk_27 (dk_at dksX2_hammer_1 2 rfl rfl)
theorem dX2_hammer_27 : decode cX2_hammer 27 = .ok (.iconst 5, 1) := dk_8 (dk_at dksX2_hammer_1 3 rfl rfl)
theorem dX2_hammer_28 : decode cX2_hammer 28 = .ok (.invokevirtual 77, 3) := dk_182 0 77 (dk_at dksX2_hammer_1 4 rfl rfl)
theorem dX2_hammer_31 : decode cX2_hammer 31 = .ok (.fstore_n 2, 1) := dk_69 (dk_at dksX2_hammer_1 7 rfl rfl)
theorem dX2_hammer_32 : decode cX2_hammer 32 = .ok (.aload_n 0, 1) := dk_42 (dk_at dksX2_hammer_1 8 rfl rfl)
theorem dX2_hammer_33 : decode cX2_hammer 33 = .ok (.iload_n 1, 1) := dk_27 (dk_at dksX2_hammer_1 9 rfl rfl)
theorem dX2_hammer_34 : decode cX2_hammer 34 = .ok (.fload_n 2, 1) := dk_36 (dk_at dksX2_hammer_1 10 rfl rfl)
theorem dX2_hammer_35 : decode cX2_hammer 35 = .ok (.ldc 124, 2) := dk_18 124 (dk_at dksX2_hammer_1 11 rfl rfl)
theorem dX2_hammer_37 : decode cX2_hammer 37 = .ok (.fload_n 2, 1) := dk_36 (dk_at dksX2_hammer_1 13 rfl rfl)
theorem dX2_hammer_38 : decode cX2_hammer 38 = .ok (.fsub, 1) := dk_102 (dk_at dksX2_hammer_1 14 rfl rfl)
theorem dX2_hammer_39 : decode cX2_hammer 39 = .ok (.ldc 155, 2) := dk_18 155 (dk_at dksX2_hammer_1 15 rfl rfl)
theorem dX2_hammer_41 : decode cX2_hammer 41 = .ok (.fmul, 1) := dk_106 (dk_at dksX2_hammer_1 17 rfl rfl)
theorem dX2_hammer_42 : decode cX2_hammer 42 = .ok (.fadd, 1) := dk_98 (dk_at dksX2_hammer_1 18 rfl rfl)
theorem dX2_hammer_43 : decode cX2_hammer 43 = .ok (.invokevirtual 156, 3) := dk_182 0 156 (dk_at dksX2_hammer_1 19 rfl rfl)
theorem dX2_hammer_46 : decode cX2_hammer 46 = .ok (.aload_n 0, 1) := dk_42 (dk_at dksX2_hammer_1 22 rfl rfl)
theorem dX2_hammer_47 : decode cX2_hammer 47 = .ok (.aload_n 0, 1) := dk_42 (dk_at dksX2_hammer_1 23 rfl rfl)
theorem dX2_hammer_48 : decode cX2_hammer 48 = .ok (.iload_n 1, 1) := dk_27 (dk_at dksX2_hammer_2 0 rfl rfl)
theorem dX2_hammer_49 : decode cX2_hammer 49 = .ok (.invokevirtual 160, 3) := dk_182 0 160 (dk_at dksX2_hammer_2 1 rfl rfl)
theorem dX2_hammer_52 : decode cX2_hammer 52 = .ok (.invokevirtual 110, 3) := dk_182 0 110 (dk_at dksX2_hammer_2 4 rfl rfl)
theorem dX2_hammer_55 : decode cX2_hammer 55 = .ok (.ireturn, 1) := dk_172 (dk_at dksX2_hammer_2 7 rfl rfl)
abbrev cX2_realOf : ByteArray := prog_9_method_6_code
def yX2_realOf : MethodName := ⟨RX2, "realOf", "(II)F"⟩
def dkwX2_realOf_0 : List UInt8 := [42, 27, 28, 182, 0, 49, 184, 0, 43, 174]
abbrev dktX2_realOf_0 : List UInt8 := dkwX2_realOf_0 ++ []
theorem dksX2_realOf_0 : cX2_realOf.data.toList.drop 0 = dktX2_realOf_0 := by decide +kernel
theorem dX2_realOf_0 : decode cX2_realOf 0 = .ok (.aload_n 0, 1) := dk_42 (dk_at dksX2_realOf_0 0 rfl rfl)
theorem dX2_realOf_1 : decode cX2_realOf 1 = .ok (.iload_n 1, 1) := dk_27 (dk_at dksX2_realOf_0 1 rfl rfl)
theorem dX2_realOf_2 : decode cX2_realOf 2 = .ok (.iload_n 2, 1) := dk_28 (dk_at dksX2_realOf_0 2 rfl rfl)
theorem dX2_realOf_3 : decode cX2_realOf 3 = .ok (.invokevirtual 49, 3) := dk_182 0 49 (dk_at dksX2_realOf_0 3 rfl rfl)
theorem dX2_realOf_6 : decode cX2_realOf 6 = .ok (.invokestatic 43, 3) := dk_184 0 43 (dk_at dksX2_realOf_0 6 rfl rfl)
theorem dX2_realOf_9 : decode cX2_realOf 9 = .ok (.freturn, 1) := dk_174 (dk_at dksX2_realOf_0 9 rfl rfl)
abbrev cX2_beStrong : ByteArray := prog_9_method_38_code
def yX2_beStrong : MethodName := ⟨RX2, "beStrong", "(IF)V"⟩
def dkwX2_beStrong_0 : List UInt8 := [42, 180, 0, 7, 16, 12, 16, 7, 27, 104, 96, 8, 96, 36, 184, 0, 138, 79, 177]
abbrev dktX2_beStrong_0 : List UInt8 := dkwX2_beStrong_0 ++ []
theorem dksX2_beStrong_0 : cX2_beStrong.data.toList.drop 0 = dktX2_beStrong_0 := by decide +kernel
theorem dX2_beStrong_0 : decode cX2_beStrong 0 = .ok (.aload_n 0, 1) := dk_42 (dk_at dksX2_beStrong_0 0 rfl rfl)
theorem dX2_beStrong_1 : decode cX2_beStrong 1 = .ok (.getfield 7, 3) := dk_180 0 7 (dk_at dksX2_beStrong_0 1 rfl rfl)
theorem dX2_beStrong_4 : decode cX2_beStrong 4 = .ok (.bipush 12, 2) := dk_16 12 (dk_at dksX2_beStrong_0 4 rfl rfl)
theorem dX2_beStrong_6 : decode cX2_beStrong 6 = .ok (.bipush 7, 2) := dk_16 7 (dk_at dksX2_beStrong_0 6 rfl rfl)
theorem dX2_beStrong_8 : decode cX2_beStrong 8 = .ok (.iload_n 1, 1) := dk_27 (dk_at dksX2_beStrong_0 8 rfl rfl)
theorem dX2_beStrong_9 : decode cX2_beStrong 9 = .ok (.imul, 1) := dk_104 (dk_at dksX2_beStrong_0 9 rfl rfl)
theorem dX2_beStrong_10 : decode cX2_beStrong 10 = .ok (.iadd, 1) := dk_96 (dk_at dksX2_beStrong_0 10 rfl rfl)
theorem dX2_beStrong_11 : decode cX2_beStrong 11 = .ok (.iconst 5, 1) := dk_8 (dk_at dksX2_beStrong_0 11 rfl rfl)
theorem dX2_beStrong_12 : decode cX2_beStrong 12 = .ok (.iadd, 1) := dk_96 (dk_at dksX2_beStrong_0 12 rfl rfl)
theorem dX2_beStrong_13 : decode cX2_beStrong 13 = .ok (.fload_n 2, 1) := dk_36 (dk_at dksX2_beStrong_0 13 rfl rfl)
theorem dX2_beStrong_14 : decode cX2_beStrong 14 = .ok (.invokestatic 138, 3) := dk_184 0 138 (dk_at dksX2_beStrong_0 14 rfl rfl)
theorem dX2_beStrong_17 : decode cX2_beStrong 17 = .ok (.iastore, 1) := dk_79 (dk_at dksX2_beStrong_0 17 rfl rfl)
theorem dX2_beStrong_18 : decode cX2_beStrong 18 = .ok (.return_, 1) := dk_177 (dk_at dksX2_beStrong_0 18 rfl rfl)
abbrev cX2_hundredths : ByteArray := prog_9_method_37_code
def yX2_hundredths : MethodName := ⟨RX2, "hundredths", "(I)I"⟩
def dkwX2_hundredths_0 : List UInt8 := [42, 27, 8, 182, 0, 77, 18, 116, 106, 139, 172]
abbrev dktX2_hundredths_0 : List UInt8 := dkwX2_hundredths_0 ++ []
theorem dksX2_hundredths_0 : cX2_hundredths.data.toList.drop 0 = dktX2_hundredths_0 := by decide +kernel
theorem dX2_hundredths_0 : decode cX2_hundredths 0 = .ok (.aload_n 0, 1) := dk_42 (dk_at dksX2_hundredths_0 0 rfl rfl)
theorem dX2_hundredths_1 : decode cX2_hundredths 1 = .ok (.iload_n 1, 1) := dk_27 (dk_at dksX2_hundredths_0 1 rfl rfl)
theorem dX2_hundredths_2 : decode cX2_hundredths 2 = .ok (.iconst 5, 1) := dk_8 (dk_at dksX2_hundredths_0 2 rfl rfl)
theorem dX2_hundredths_3 : decode cX2_hundredths 3 = .ok (.invokevirtual 77, 3) := dk_182 0 77 (dk_at dksX2_hundredths_0 3 rfl rfl)
theorem dX2_hundredths_6 : decode cX2_hundredths 6 = .ok (.ldc 116, 2) := dk_18 116 (dk_at dksX2_hundredths_0 6 rfl rfl)
theorem dX2_hundredths_8 : decode cX2_hundredths 8 = .ok (.fmul, 1) := dk_106 (dk_at dksX2_hundredths_0 8 rfl rfl)
theorem dX2_hundredths_9 : decode cX2_hundredths 9 = .ok (.f2i, 1) := dk_139 (dk_at dksX2_hundredths_0 9 rfl rfl)
theorem dX2_hundredths_10 : decode cX2_hundredths 10 = .ok (.ireturn, 1) := dk_172 (dk_at dksX2_hundredths_0 10 rfl rfl)
abbrev cX2_storm : ByteArray := prog_9_method_41_code
def yX2_storm : MethodName := ⟨RX2, "storm", "(I)I"⟩
def dkwX2_storm_1 : List UInt8 := [167, 0, 5, 16, 254, 172]
abbrev dktX2_storm_1 : List UInt8 := dkwX2_storm_1 ++ []
def dkwX2_storm_0 : List UInt8 := [42, 182, 0, 107, 27, 184, 0, 131, 153, 0, 18, 42, 42, 27, 184, 0, 43, 182, 0, 163, 182, 0, 110]
abbrev dktX2_storm_0 : List UInt8 := dkwX2_storm_0 ++ dktX2_storm_1
theorem dksX2_storm_0 : cX2_storm.data.toList.drop 0 = dktX2_storm_0 := by decide +kernel
theorem dksX2_storm_1 : cX2_storm.data.toList.drop 23 = dktX2_storm_1 := dk_seg dksX2_storm_0 23 rfl rfl
theorem dX2_storm_0 : decode cX2_storm 0 = .ok (.aload_n 0, 1) := dk_42 (dk_at dksX2_storm_0 0 rfl rfl)
theorem dX2_storm_1 : decode cX2_storm 1 = .ok (.invokevirtual 107, 3) := dk_182 0 107 (dk_at dksX2_storm_0 1 rfl rfl)
theorem dX2_storm_4 : decode cX2_storm 4 = .ok (.iload_n 1, 1) := dk_27 (dk_at dksX2_storm_0 4 rfl rfl)
theorem dX2_storm_5 : decode cX2_storm 5 = .ok (.invokestatic 131, 3) := dk_184 0 131 (dk_at dksX2_storm_0 5 rfl rfl)
theorem dX2_storm_8 : decode cX2_storm 8 = .ok (.ifCond .eq 18, 3) := dk_153 0 18 (dk_at dksX2_storm_0 8 rfl rfl)
theorem dX2_storm_11 : decode cX2_storm 11 = .ok (.aload_n 0, 1) := dk_42 (dk_at dksX2_storm_0 11 rfl rfl)
theorem dX2_storm_12 : decode cX2_storm 12 = .ok (.aload_n 0, 1) := dk_42 (dk_at dksX2_storm_0 12 rfl rfl)
theorem dX2_storm_13 : decode cX2_storm 13 = .ok (.iload_n 1, 1) := dk_27 (dk_at dksX2_storm_0 13 rfl rfl)
theorem dX2_storm_14 : decode cX2_storm 14 = .ok (.invokestatic 43, 3) := dk_184 0 43 (dk_at dksX2_storm_0 14 rfl rfl)
theorem dX2_storm_17 : decode cX2_storm 17 = .ok (.invokevirtual 163, 3) := dk_182 0 163 (dk_at dksX2_storm_0 17 rfl rfl)
theorem dX2_storm_20 : decode cX2_storm 20 = .ok (.invokevirtual 110, 3) := dk_182 0 110 (dk_at dksX2_storm_0 20 rfl rfl)
theorem dX2_storm_23 : decode cX2_storm 23 = .ok (.goto 5, 3) := dk_167 0 5 (dk_at dksX2_storm_1 0 rfl rfl)
theorem dX2_storm_26 : decode cX2_storm 26 = .ok (.bipush (-2), 2) := dk_16 254 (dk_at dksX2_storm_1 3 rfl rfl)
theorem dX2_storm_28 : decode cX2_storm 28 = .ok (.ireturn, 1) := dk_172 (dk_at dksX2_storm_1 5 rfl rfl)
abbrev cX2_storms : ByteArray := prog_9_method_40_code
def yX2_storms : MethodName := ⟨RX2, "storms", "(F)I"⟩
def dkwX2_storms_5 : List UInt8 := [92, 46, 28, 96, 79, 42, 180, 0, 7, 7, 92, 46, 4, 96, 79, 28, 172]
abbrev dktX2_storms_5 : List UInt8 := dkwX2_storms_5 ++ []
def dkwX2_storms_4 : List UInt8 := [16, 7, 29, 104, 96, 16, 6, 96, 3, 79, 132, 2, 1, 132, 3, 1, 167, 255, 205, 42, 180, 0, 7, 5]
abbrev dktX2_storms_4 : List UInt8 := dkwX2_storms_4 ++ dktX2_storms_5
def dkwX2_storms_3 : List UInt8 := [182, 0, 57, 153, 0, 33, 42, 29, 8, 182, 0, 77, 11, 149, 157, 0, 22, 42, 180, 0, 7, 16, 12]
abbrev dktX2_storms_3 : List UInt8 := dkwX2_storms_3 ++ dktX2_storms_4
def dkwX2_storms_2 : List UInt8 := [132, 2, 1, 167, 255, 207, 3, 61, 3, 62, 29, 42, 180, 0, 7, 4, 46, 162, 0, 47, 42, 29]
abbrev dktX2_storms_2 : List UInt8 := dkwX2_storms_2 ++ dktX2_storms_3
def dkwX2_storms_1 : List UInt8 := [182, 0, 49, 28, 182, 0, 152, 134, 70, 42, 28, 42, 28, 8, 182, 0, 77, 35, 37, 110, 102, 182, 0, 156]
abbrev dktX2_storms_1 : List UInt8 := dkwX2_storms_1 ++ dktX2_storms_2
def dkwX2_storms_0 : List UInt8 := [3, 61, 28, 42, 180, 0, 7, 4, 46, 162, 0, 45, 42, 28, 182, 0, 57, 153, 0, 31, 42, 42, 28, 4]
abbrev dktX2_storms_0 : List UInt8 := dkwX2_storms_0 ++ dktX2_storms_1
theorem dksX2_storms_0 : cX2_storms.data.toList.drop 0 = dktX2_storms_0 := by decide +kernel
theorem dksX2_storms_1 : cX2_storms.data.toList.drop 24 = dktX2_storms_1 := dk_seg dksX2_storms_0 24 rfl rfl
theorem dksX2_storms_2 : cX2_storms.data.toList.drop 48 = dktX2_storms_2 := dk_seg dksX2_storms_1 24 rfl rfl
theorem dksX2_storms_3 : cX2_storms.data.toList.drop 70 = dktX2_storms_3 := dk_seg dksX2_storms_2 22 rfl rfl
theorem dksX2_storms_4 : cX2_storms.data.toList.drop 93 = dktX2_storms_4 := dk_seg dksX2_storms_3 23 rfl rfl
theorem dksX2_storms_5 : cX2_storms.data.toList.drop 117 = dktX2_storms_5 := dk_seg dksX2_storms_4 24 rfl rfl
theorem dX2_storms_0 : decode cX2_storms 0 = .ok (.iconst 0, 1) := dk_3 (dk_at dksX2_storms_0 0 rfl rfl)
theorem dX2_storms_1 : decode cX2_storms 1 = .ok (.istore_n 2, 1) := dk_61 (dk_at dksX2_storms_0 1 rfl rfl)
theorem dX2_storms_2 : decode cX2_storms 2 = .ok (.iload_n 2, 1) := dk_28 (dk_at dksX2_storms_0 2 rfl rfl)
theorem dX2_storms_3 : decode cX2_storms 3 = .ok (.aload_n 0, 1) := dk_42 (dk_at dksX2_storms_0 3 rfl rfl)
theorem dX2_storms_4 : decode cX2_storms 4 = .ok (.getfield 7, 3) := dk_180 0 7 (dk_at dksX2_storms_0 4 rfl rfl)
theorem dX2_storms_7 : decode cX2_storms 7 = .ok (.iconst 1, 1) := dk_4 (dk_at dksX2_storms_0 7 rfl rfl)
theorem dX2_storms_8 : decode cX2_storms 8 = .ok (.iaload, 1) := dk_46 (dk_at dksX2_storms_0 8 rfl rfl)
theorem dX2_storms_9 : decode cX2_storms 9 = .ok (.if_icmp .ge 45, 3) := dk_162 0 45 (dk_at dksX2_storms_0 9 rfl rfl)
theorem dX2_storms_12 : decode cX2_storms 12 = .ok (.aload_n 0, 1) := dk_42 (dk_at dksX2_storms_0 12 rfl rfl)
theorem dX2_storms_13 : decode cX2_storms 13 = .ok (.iload_n 2, 1) := dk_28 (dk_at dksX2_storms_0 13 rfl rfl)
theorem dX2_storms_14 : decode cX2_storms 14 = .ok (.invokevirtual 57, 3) := dk_182 0 57 (dk_at dksX2_storms_0 14 rfl rfl)
theorem dX2_storms_17 : decode cX2_storms 17 = .ok (.ifCond .eq 31, 3) := dk_153 0 31 (dk_at dksX2_storms_0 17 rfl rfl)
theorem dX2_storms_20 : decode cX2_storms 20 = .ok (.aload_n 0, 1) := dk_42 (dk_at dksX2_storms_0 20 rfl rfl)
theorem dX2_storms_21 : decode cX2_storms 21 = .ok (.aload_n 0, 1) := dk_42 (dk_at dksX2_storms_0 21 rfl rfl)
theorem dX2_storms_22 : decode cX2_storms 22 = .ok (.iload_n 2, 1) := dk_28 (dk_at dksX2_storms_0 22 rfl rfl)
theorem dX2_storms_23 : decode cX2_storms 23 = .ok (.iconst 1, 1) := dk_4 (dk_at dksX2_storms_0 23 rfl rfl)
theorem dX2_storms_24 : decode cX2_storms 24 = .ok (.invokevirtual 49, 3) := dk_182 0 49 (dk_at dksX2_storms_1 0 rfl rfl)
theorem dX2_storms_27 : decode cX2_storms 27 = .ok (.iload_n 2, 1) := dk_28 (dk_at dksX2_storms_1 3 rfl rfl)
theorem dX2_storms_28 : decode cX2_storms 28 = .ok (.invokevirtual 152, 3) := dk_182 0 152 (dk_at dksX2_storms_1 4 rfl rfl)
theorem dX2_storms_31 : decode cX2_storms 31 = .ok (.i2f, 1) := dk_134 (dk_at dksX2_storms_1 7 rfl rfl)
theorem dX2_storms_32 : decode cX2_storms 32 = .ok (.fstore_n 3, 1) := dk_70 (dk_at dksX2_storms_1 8 rfl rfl)
theorem dX2_storms_33 : decode cX2_storms 33 = .ok (.aload_n 0, 1) := dk_42 (dk_at dksX2_storms_1 9 rfl rfl)
theorem dX2_storms_34 : decode cX2_storms 34 = .ok (.iload_n 2, 1) := dk_28 (dk_at dksX2_storms_1 10 rfl rfl)
theorem dX2_storms_35 : decode cX2_storms 35 = .ok (.aload_n 0, 1) := dk_42 (dk_at dksX2_storms_1 11 rfl rfl)
theorem dX2_storms_36 : decode cX2_storms 36 = .ok (.iload_n 2, 1) := dk_28 (dk_at dksX2_storms_1 12 rfl rfl)
theorem dX2_storms_37 : decode cX2_storms 37 = .ok (.iconst 5, 1) := dk_8 (dk_at dksX2_storms_1 13 rfl rfl)
theorem dX2_storms_38 : decode cX2_storms 38 = .ok (.invokevirtual 77, 3) := dk_182 0 77 (dk_at dksX2_storms_1 14 rfl rfl)
theorem dX2_storms_41 : decode cX2_storms 41 = .ok (.fload_n 1, 1) := dk_35 (dk_at dksX2_storms_1 17 rfl rfl)
theorem dX2_storms_42 : decode cX2_storms 42 = .ok (.fload_n 3, 1) := dk_37 (dk_at dksX2_storms_1 18 rfl rfl)
theorem dX2_storms_43 : decode cX2_storms 43 = .ok (.fdiv, 1) := dk_110 (dk_at dksX2_storms_1 19 rfl rfl)
theorem dX2_storms_44 : decode cX2_storms 44 = .ok (.fsub, 1) := dk_102 (dk_at dksX2_storms_1 20 rfl rfl)
theorem dX2_storms_45 : decode cX2_storms 45 = .ok (.invokevirtual 156, 3) := dk_182 0 156 (dk_at dksX2_storms_1 21 rfl rfl)
theorem dX2_storms_48 : decode cX2_storms 48 = .ok (.iinc 2 1, 3) := dk_132 2 1 (dk_at dksX2_storms_2 0 rfl rfl)
theorem dX2_storms_51 : decode cX2_storms 51 = .ok (.goto (-49), 3) := dk_167 255 207 (dk_at dksX2_storms_2 3 rfl rfl)
theorem dX2_storms_54 : decode cX2_storms 54 = .ok (.iconst 0, 1) := dk_3 (dk_at dksX2_storms_2 6 rfl rfl)
theorem dX2_storms_55 : decode cX2_storms 55 = .ok (.istore_n 2, 1) := dk_61 (dk_at dksX2_storms_2 7 rfl rfl)
theorem dX2_storms_56 : decode cX2_storms 56 = .ok (.iconst 0, 1) := dk_3 (dk_at dksX2_storms_2 8 rfl rfl)
theorem dX2_storms_57 : decode cX2_storms 57 = .ok (.istore_n 3, 1) := dk_62 (dk_at dksX2_storms_2 9 rfl rfl)
theorem dX2_storms_58 : decode cX2_storms 58 = .ok (.iload_n 3, 1) := dk_29 (dk_at dksX2_storms_2 10 rfl rfl)
theorem dX2_storms_59 : decode cX2_storms 59 = .ok (.aload_n 0, 1) := dk_42 (dk_at dksX2_storms_2 11 rfl rfl)
theorem dX2_storms_60 : decode cX2_storms 60 = .ok (.getfield 7, 3) := dk_180 0 7 (dk_at dksX2_storms_2 12 rfl rfl)
theorem dX2_storms_63 : decode cX2_storms 63 = .ok (.iconst 1, 1) := dk_4 (dk_at dksX2_storms_2 15 rfl rfl)
theorem dX2_storms_64 : decode cX2_storms 64 = .ok (.iaload, 1) := dk_46 (dk_at dksX2_storms_2 16 rfl rfl)
theorem dX2_storms_65 : decode cX2_storms 65 = .ok (.if_icmp .ge 47, 3) := dk_162 0 47 (dk_at dksX2_storms_2 17 rfl rfl)
theorem dX2_storms_68 : decode cX2_storms 68 = .ok (.aload_n 0, 1) := dk_42 (dk_at dksX2_storms_2 20 rfl rfl)
theorem dX2_storms_69 : decode cX2_storms 69 = .ok (.iload_n 3, 1) := dk_29 (dk_at dksX2_storms_2 21 rfl rfl)
theorem dX2_storms_70 : decode cX2_storms 70 = .ok (.invokevirtual 57, 3) := dk_182 0 57 (dk_at dksX2_storms_3 0 rfl rfl)
theorem dX2_storms_73 : decode cX2_storms 73 = .ok (.ifCond .eq 33, 3) := dk_153 0 33 (dk_at dksX2_storms_3 3 rfl rfl)
theorem dX2_storms_76 : decode cX2_storms 76 = .ok (.aload_n 0, 1) := dk_42 (dk_at dksX2_storms_3 6 rfl rfl)
theorem dX2_storms_77 : decode cX2_storms 77 = .ok (.iload_n 3, 1) := dk_29 (dk_at dksX2_storms_3 7 rfl rfl)
theorem dX2_storms_78 : decode cX2_storms 78 = .ok (.iconst 5, 1) := dk_8 (dk_at dksX2_storms_3 8 rfl rfl)
theorem dX2_storms_79 : decode cX2_storms 79 = .ok (.invokevirtual 77, 3) := dk_182 0 77 (dk_at dksX2_storms_3 9 rfl rfl)
theorem dX2_storms_82 : decode cX2_storms 82 = .ok (.fconst 0, 1) := dk_11 (dk_at dksX2_storms_3 12 rfl rfl)
theorem dX2_storms_83 : decode cX2_storms 83 = .ok (.fcmp .l, 1) := dk_149 (dk_at dksX2_storms_3 13 rfl rfl)
theorem dX2_storms_84 : decode cX2_storms 84 = .ok (.ifCond .gt 22, 3) := dk_157 0 22 (dk_at dksX2_storms_3 14 rfl rfl)
theorem dX2_storms_87 : decode cX2_storms 87 = .ok (.aload_n 0, 1) := dk_42 (dk_at dksX2_storms_3 17 rfl rfl)
theorem dX2_storms_88 : decode cX2_storms 88 = .ok (.getfield 7, 3) := dk_180 0 7 (dk_at dksX2_storms_3 18 rfl rfl)
theorem dX2_storms_91 : decode cX2_storms 91 = .ok (.bipush 12, 2) := dk_16 12 (dk_at dksX2_storms_3 21 rfl rfl)
theorem dX2_storms_93 : decode cX2_storms 93 = .ok (.bipush 7, 2) := dk_16 7 (dk_at dksX2_storms_4 0 rfl rfl)
theorem dX2_storms_95 : decode cX2_storms 95 = .ok (.iload_n 3, 1) := dk_29 (dk_at dksX2_storms_4 2 rfl rfl)
theorem dX2_storms_96 : decode cX2_storms 96 = .ok (.imul, 1) := dk_104 (dk_at dksX2_storms_4 3 rfl rfl)
theorem dX2_storms_97 : decode cX2_storms 97 = .ok (.iadd, 1) := dk_96 (dk_at dksX2_storms_4 4 rfl rfl)
theorem dX2_storms_98 : decode cX2_storms 98 = .ok (.bipush 6, 2) := dk_16 6 (dk_at dksX2_storms_4 5 rfl rfl)
theorem dX2_storms_100 : decode cX2_storms 100 = .ok (.iadd, 1) := dk_96 (dk_at dksX2_storms_4 7 rfl rfl)
theorem dX2_storms_101 : decode cX2_storms 101 = .ok (.iconst 0, 1) := dk_3 (dk_at dksX2_storms_4 8 rfl rfl)
theorem dX2_storms_102 : decode cX2_storms 102 = .ok (.iastore, 1) := dk_79 (dk_at dksX2_storms_4 9 rfl rfl)
theorem dX2_storms_103 : decode cX2_storms 103 = .ok (.iinc 2 1, 3) := dk_132 2 1 (dk_at dksX2_storms_4 10 rfl rfl)
theorem dX2_storms_106 : decode cX2_storms 106 = .ok (.iinc 3 1, 3) := dk_132 3 1 (dk_at dksX2_storms_4 13 rfl rfl)
theorem dX2_storms_109 : decode cX2_storms 109 = .ok (.goto (-51), 3) := dk_167 255 205 (dk_at dksX2_storms_4 16 rfl rfl)
theorem dX2_storms_112 : decode cX2_storms 112 = .ok (.aload_n 0, 1) := dk_42 (dk_at dksX2_storms_4 19 rfl rfl)
theorem dX2_storms_113 : decode cX2_storms 113 = .ok (.getfield 7, 3) := dk_180 0 7 (dk_at dksX2_storms_4 20 rfl rfl)
theorem dX2_storms_116 : decode cX2_storms 116 = .ok (.iconst 2, 1) := dk_5 (dk_at dksX2_storms_4 23 rfl rfl)
theorem dX2_storms_117 : decode cX2_storms 117 = .ok (.dup2, 1) := dk_92 (dk_at dksX2_storms_5 0 rfl rfl)
theorem dX2_storms_118 : decode cX2_storms 118 = .ok (.iaload, 1) := dk_46 (dk_at dksX2_storms_5 1 rfl rfl)
theorem dX2_storms_119 : decode cX2_storms 119 = .ok (.iload_n 2, 1) := dk_28 (dk_at dksX2_storms_5 2 rfl rfl)
theorem dX2_storms_120 : decode cX2_storms 120 = .ok (.iadd, 1) := dk_96 (dk_at dksX2_storms_5 3 rfl rfl)
theorem dX2_storms_121 : decode cX2_storms 121 = .ok (.iastore, 1) := dk_79 (dk_at dksX2_storms_5 4 rfl rfl)
theorem dX2_storms_122 : decode cX2_storms 122 = .ok (.aload_n 0, 1) := dk_42 (dk_at dksX2_storms_5 5 rfl rfl)
theorem dX2_storms_123 : decode cX2_storms 123 = .ok (.getfield 7, 3) := dk_180 0 7 (dk_at dksX2_storms_5 6 rfl rfl)
theorem dX2_storms_126 : decode cX2_storms 126 = .ok (.iconst 4, 1) := dk_7 (dk_at dksX2_storms_5 9 rfl rfl)
theorem dX2_storms_127 : decode cX2_storms 127 = .ok (.dup2, 1) := dk_92 (dk_at dksX2_storms_5 10 rfl rfl)
theorem dX2_storms_128 : decode cX2_storms 128 = .ok (.iaload, 1) := dk_46 (dk_at dksX2_storms_5 11 rfl rfl)
theorem dX2_storms_129 : decode cX2_storms 129 = .ok (.iconst 1, 1) := dk_4 (dk_at dksX2_storms_5 12 rfl rfl)
theorem dX2_storms_130 : decode cX2_storms 130 = .ok (.iadd, 1) := dk_96 (dk_at dksX2_storms_5 13 rfl rfl)
theorem dX2_storms_131 : decode cX2_storms 131 = .ok (.iastore, 1) := dk_79 (dk_at dksX2_storms_5 14 rfl rfl)
theorem dX2_storms_132 : decode cX2_storms 132 = .ok (.iload_n 2, 1) := dk_28 (dk_at dksX2_storms_5 15 rfl rfl)
theorem dX2_storms_133 : decode cX2_storms 133 = .ok (.ireturn, 1) := dk_172 (dk_at dksX2_storms_5 16 rfl rfl)
abbrev cX2_type : ByteArray := prog_9_method_42_code
def yX2_type : MethodName := ⟨RX2, "type", "(C)I"⟩
def dkwX2_type_1 : List UInt8 := [180, 0, 166, 27, 79, 42, 89, 180, 0, 166, 4, 96, 181, 0, 166, 42, 180, 0, 166, 172]
abbrev dktX2_type_1 : List UInt8 := dkwX2_type_1 ++ []
def dkwX2_type_0 : List UInt8 := [42, 3, 181, 0, 39, 42, 180, 0, 166, 16, 60, 160, 0, 6, 16, 253, 172, 42, 180, 0, 22, 42]
abbrev dktX2_type_0 : List UInt8 := dkwX2_type_0 ++ dktX2_type_1
theorem dksX2_type_0 : cX2_type.data.toList.drop 0 = dktX2_type_0 := by decide +kernel
theorem dksX2_type_1 : cX2_type.data.toList.drop 22 = dktX2_type_1 := dk_seg dksX2_type_0 22 rfl rfl
theorem dX2_type_0 : decode cX2_type 0 = .ok (.aload_n 0, 1) := dk_42 (dk_at dksX2_type_0 0 rfl rfl)
theorem dX2_type_1 : decode cX2_type 1 = .ok (.iconst 0, 1) := dk_3 (dk_at dksX2_type_0 1 rfl rfl)
theorem dX2_type_2 : decode cX2_type 2 = .ok (.putfield 39, 3) := dk_181 0 39 (dk_at dksX2_type_0 2 rfl rfl)
theorem dX2_type_5 : decode cX2_type 5 = .ok (.aload_n 0, 1) := dk_42 (dk_at dksX2_type_0 5 rfl rfl)
theorem dX2_type_6 : decode cX2_type 6 = .ok (.getfield 166, 3) := dk_180 0 166 (dk_at dksX2_type_0 6 rfl rfl)
theorem dX2_type_9 : decode cX2_type 9 = .ok (.bipush 60, 2) := dk_16 60 (dk_at dksX2_type_0 9 rfl rfl)
theorem dX2_type_11 : decode cX2_type 11 = .ok (.if_icmp .ne 6, 3) := dk_160 0 6 (dk_at dksX2_type_0 11 rfl rfl)
theorem dX2_type_14 : decode cX2_type 14 = .ok (.bipush (-3), 2) := dk_16 253 (dk_at dksX2_type_0 14 rfl rfl)
theorem dX2_type_16 : decode cX2_type 16 = .ok (.ireturn, 1) := dk_172 (dk_at dksX2_type_0 16 rfl rfl)
theorem dX2_type_17 : decode cX2_type 17 = .ok (.aload_n 0, 1) := dk_42 (dk_at dksX2_type_0 17 rfl rfl)
theorem dX2_type_18 : decode cX2_type 18 = .ok (.getfield 22, 3) := dk_180 0 22 (dk_at dksX2_type_0 18 rfl rfl)
theorem dX2_type_21 : decode cX2_type 21 = .ok (.aload_n 0, 1) := dk_42 (dk_at dksX2_type_0 21 rfl rfl)
theorem dX2_type_22 : decode cX2_type 22 = .ok (.getfield 166, 3) := dk_180 0 166 (dk_at dksX2_type_1 0 rfl rfl)
theorem dX2_type_25 : decode cX2_type 25 = .ok (.iload_n 1, 1) := dk_27 (dk_at dksX2_type_1 3 rfl rfl)
theorem dX2_type_26 : decode cX2_type 26 = .ok (.iastore, 1) := dk_79 (dk_at dksX2_type_1 4 rfl rfl)
theorem dX2_type_27 : decode cX2_type 27 = .ok (.aload_n 0, 1) := dk_42 (dk_at dksX2_type_1 5 rfl rfl)
theorem dX2_type_28 : decode cX2_type 28 = .ok (.dup, 1) := dk_89 (dk_at dksX2_type_1 6 rfl rfl)
theorem dX2_type_29 : decode cX2_type 29 = .ok (.getfield 166, 3) := dk_180 0 166 (dk_at dksX2_type_1 7 rfl rfl)
theorem dX2_type_32 : decode cX2_type 32 = .ok (.iconst 1, 1) := dk_4 (dk_at dksX2_type_1 10 rfl rfl)
theorem dX2_type_33 : decode cX2_type 33 = .ok (.iadd, 1) := dk_96 (dk_at dksX2_type_1 11 rfl rfl)
theorem dX2_type_34 : decode cX2_type 34 = .ok (.putfield 166, 3) := dk_181 0 166 (dk_at dksX2_type_1 12 rfl rfl)
theorem dX2_type_37 : decode cX2_type 37 = .ok (.aload_n 0, 1) := dk_42 (dk_at dksX2_type_1 15 rfl rfl)
theorem dX2_type_38 : decode cX2_type 38 = .ok (.getfield 166, 3) := dk_180 0 166 (dk_at dksX2_type_1 16 rfl rfl)
theorem dX2_type_41 : decode cX2_type 41 = .ok (.ireturn, 1) := dk_172 (dk_at dksX2_type_1 19 rfl rfl)
abbrev cX2_clearText : ByteArray := prog_9_method_43_code
def yX2_clearText : MethodName := ⟨RX2, "clearText", "()I"⟩
def dkwX2_clearText_0 : List UInt8 := [42, 3, 181, 0, 39, 42, 180, 0, 166, 60, 42, 3, 181, 0, 166, 27, 172]
abbrev dktX2_clearText_0 : List UInt8 := dkwX2_clearText_0 ++ []
theorem dksX2_clearText_0 : cX2_clearText.data.toList.drop 0 = dktX2_clearText_0 := by decide +kernel
theorem dX2_clearText_0 : decode cX2_clearText 0 = .ok (.aload_n 0, 1) := dk_42 (dk_at dksX2_clearText_0 0 rfl rfl)
theorem dX2_clearText_1 : decode cX2_clearText 1 = .ok (.iconst 0, 1) := dk_3 (dk_at dksX2_clearText_0 1 rfl rfl)
theorem dX2_clearText_2 : decode cX2_clearText 2 = .ok (.putfield 39, 3) := dk_181 0 39 (dk_at dksX2_clearText_0 2 rfl rfl)
theorem dX2_clearText_5 : decode cX2_clearText 5 = .ok (.aload_n 0, 1) := dk_42 (dk_at dksX2_clearText_0 5 rfl rfl)
theorem dX2_clearText_6 : decode cX2_clearText 6 = .ok (.getfield 166, 3) := dk_180 0 166 (dk_at dksX2_clearText_0 6 rfl rfl)
theorem dX2_clearText_9 : decode cX2_clearText 9 = .ok (.istore_n 1, 1) := dk_60 (dk_at dksX2_clearText_0 9 rfl rfl)
theorem dX2_clearText_10 : decode cX2_clearText 10 = .ok (.aload_n 0, 1) := dk_42 (dk_at dksX2_clearText_0 10 rfl rfl)
theorem dX2_clearText_11 : decode cX2_clearText 11 = .ok (.iconst 0, 1) := dk_3 (dk_at dksX2_clearText_0 11 rfl rfl)
theorem dX2_clearText_12 : decode cX2_clearText 12 = .ok (.putfield 166, 3) := dk_181 0 166 (dk_at dksX2_clearText_0 12 rfl rfl)
theorem dX2_clearText_15 : decode cX2_clearText 15 = .ok (.iload_n 1, 1) := dk_27 (dk_at dksX2_clearText_0 15 rfl rfl)
theorem dX2_clearText_16 : decode cX2_clearText 16 = .ok (.ireturn, 1) := dk_172 (dk_at dksX2_clearText_0 16 rfl rfl)
abbrev cX2_readOrders : ByteArray := prog_9_method_51_code
def yX2_readOrders : MethodName := ⟨RX2, "readOrders", "(II)I"⟩
def dkwX2_readOrders_9 : List UInt8 := [167, 255, 179, 42, 29, 182, 0, 110, 172]
abbrev dktX2_readOrders_9 : List UInt8 := dkwX2_readOrders_9 ++ []
def dkwX2_readOrders_8 : List UInt8 := [184, 0, 195, 28, 182, 0, 145, 54, 6, 21, 6, 156, 0, 10, 42, 182, 0, 198, 21, 6, 172, 132, 5, 1]
abbrev dktX2_readOrders_8 : List UInt8 := dkwX2_readOrders_8 ++ dktX2_readOrders_9
def dkwX2_readOrders_7 : List UInt8 := [180, 0, 28, 7, 21, 5, 104, 5, 96, 46, 184, 0, 195, 42, 180, 0, 28, 7, 21, 5, 104, 6, 96, 46]
abbrev dktX2_readOrders_7 : List UInt8 := dkwX2_readOrders_7 ++ dktX2_readOrders_8
def dkwX2_readOrders_6 : List UInt8 := [42, 27, 42, 180, 0, 28, 7, 21, 5, 104, 46, 42, 180, 0, 28, 7, 21, 5, 104, 4, 96, 46, 42]
abbrev dktX2_readOrders_6 : List UInt8 := dkwX2_readOrders_6 ++ dktX2_readOrders_7
def dkwX2_readOrders_5 : List UInt8 := [42, 180, 0, 172, 153, 0, 11, 16, 156, 42, 180, 0, 169, 100, 172, 3, 54, 5, 21, 5, 29, 162, 0, 77]
abbrev dktX2_readOrders_5 : List UInt8 := dkwX2_readOrders_5 ++ dktX2_readOrders_6
def dkwX2_readOrders_4 : List UInt8 := [167, 0, 4, 3, 182, 0, 178, 42, 180, 0, 172, 154, 0, 7, 4, 167, 0, 4, 3, 54, 4, 167, 255, 181]
abbrev dktX2_readOrders_4 : List UInt8 := dkwX2_readOrders_4 ++ dktX2_readOrders_5
def dkwX2_readOrders_3 : List UInt8 := [4, 167, 0, 4, 3, 54, 4, 21, 4, 153, 255, 216, 42, 42, 182, 0, 175, 16, 59, 160, 0, 7, 4]
abbrev dktX2_readOrders_3 : List UInt8 := dkwX2_readOrders_3 ++ dktX2_readOrders_4
def dkwX2_readOrders_2 : List UInt8 := [182, 0, 191, 132, 3, 1, 42, 180, 0, 172, 154, 0, 18, 42, 180, 0, 169, 42, 180, 0, 166, 162, 0, 7]
abbrev dktX2_readOrders_2 : List UInt8 := dkwX2_readOrders_2 ++ dktX2_readOrders_3
def dkwX2_readOrders_1 : List UInt8 := [42, 3, 181, 0, 169, 42, 3, 181, 0, 172, 3, 62, 4, 54, 4, 21, 4, 153, 0, 76, 42, 29]
abbrev dktX2_readOrders_1 : List UInt8 := dkwX2_readOrders_1 ++ dktX2_readOrders_2
def dkwX2_readOrders_0 : List UInt8 := [42, 182, 0, 107, 42, 27, 182, 0, 113, 154, 0, 5, 2, 172, 28, 184, 0, 131, 154, 0, 6, 16, 254, 172]
abbrev dktX2_readOrders_0 : List UInt8 := dkwX2_readOrders_0 ++ dktX2_readOrders_1
theorem dksX2_readOrders_0 : cX2_readOrders.data.toList.drop 0 = dktX2_readOrders_0 := by decide +kernel
theorem dksX2_readOrders_1 : cX2_readOrders.data.toList.drop 24 = dktX2_readOrders_1 := dk_seg dksX2_readOrders_0 24 rfl rfl
theorem dksX2_readOrders_2 : cX2_readOrders.data.toList.drop 46 = dktX2_readOrders_2 := dk_seg dksX2_readOrders_1 22 rfl rfl
theorem dksX2_readOrders_3 : cX2_readOrders.data.toList.drop 70 = dktX2_readOrders_3 := dk_seg dksX2_readOrders_2 24 rfl rfl
theorem dksX2_readOrders_4 : cX2_readOrders.data.toList.drop 93 = dktX2_readOrders_4 := dk_seg dksX2_readOrders_3 23 rfl rfl
theorem dksX2_readOrders_5 : cX2_readOrders.data.toList.drop 117 = dktX2_readOrders_5 := dk_seg dksX2_readOrders_4 24 rfl rfl
theorem dksX2_readOrders_6 : cX2_readOrders.data.toList.drop 141 = dktX2_readOrders_6 := dk_seg dksX2_readOrders_5 24 rfl rfl
theorem dksX2_readOrders_7 : cX2_readOrders.data.toList.drop 164 = dktX2_readOrders_7 := dk_seg dksX2_readOrders_6 23 rfl rfl
theorem dksX2_readOrders_8 : cX2_readOrders.data.toList.drop 188 = dktX2_readOrders_8 := dk_seg dksX2_readOrders_7 24 rfl rfl
theorem dksX2_readOrders_9 : cX2_readOrders.data.toList.drop 212 = dktX2_readOrders_9 := dk_seg dksX2_readOrders_8 24 rfl rfl
theorem dX2_readOrders_0 : decode cX2_readOrders 0 = .ok (.aload_n 0, 1) := dk_42 (dk_at dksX2_readOrders_0 0 rfl rfl)
theorem dX2_readOrders_1 : decode cX2_readOrders 1 = .ok (.invokevirtual 107, 3) := dk_182 0 107 (dk_at dksX2_readOrders_0 1 rfl rfl)
theorem dX2_readOrders_4 : decode cX2_readOrders 4 = .ok (.aload_n 0, 1) := dk_42 (dk_at dksX2_readOrders_0 4 rfl rfl)
theorem dX2_readOrders_5 : decode cX2_readOrders 5 = .ok (.iload_n 1, 1) := dk_27 (dk_at dksX2_readOrders_0 5 rfl rfl)
theorem dX2_readOrders_6 : decode cX2_readOrders 6 = .ok (.invokevirtual 113, 3) := dk_182 0 113 (dk_at dksX2_readOrders_0 6 rfl rfl)
theorem dX2_readOrders_9 : decode cX2_readOrders 9 = .ok (.ifCond .ne 5, 3) := dk_154 0 5 (dk_at dksX2_readOrders_0 9 rfl rfl)
theorem dX2_readOrders_12 : decode cX2_readOrders 12 = .ok (.iconst (-1), 1) := dk_2 (dk_at dksX2_readOrders_0 12 rfl rfl)
theorem dX2_readOrders_13 : decode cX2_readOrders 13 = .ok (.ireturn, 1) := dk_172 (dk_at dksX2_readOrders_0 13 rfl rfl)
theorem dX2_readOrders_14 : decode cX2_readOrders 14 = .ok (.iload_n 2, 1) := dk_28 (dk_at dksX2_readOrders_0 14 rfl rfl)
theorem dX2_readOrders_15 : decode cX2_readOrders 15 = .ok (.invokestatic 131, 3) := dk_184 0 131 (dk_at dksX2_readOrders_0 15 rfl rfl)
theorem dX2_readOrders_18 : decode cX2_readOrders 18 = .ok (.ifCond .ne 6, 3) := dk_154 0 6 (dk_at dksX2_readOrders_0 18 rfl rfl)
theorem dX2_readOrders_21 : decode cX2_readOrders 21 = .ok (.bipush (-2), 2) := dk_16 254 (dk_at dksX2_readOrders_0 21 rfl rfl)
theorem dX2_readOrders_23 : decode cX2_readOrders 23 = .ok (.ireturn, 1) := dk_172 (dk_at dksX2_readOrders_0 23 rfl rfl)
theorem dX2_readOrders_24 : decode cX2_readOrders 24 = .ok (.aload_n 0, 1) := dk_42 (dk_at dksX2_readOrders_1 0 rfl rfl)
theorem dX2_readOrders_25 : decode cX2_readOrders 25 = .ok (.iconst 0, 1) := dk_3 (dk_at dksX2_readOrders_1 1 rfl rfl)
theorem dX2_readOrders_26 : decode cX2_readOrders 26 = .ok (.putfield 169, 3) := dk_181 0 169 (dk_at dksX2_readOrders_1 2 rfl rfl)
theorem dX2_readOrders_29 : decode cX2_readOrders 29 = .ok (.aload_n 0, 1) := dk_42 (dk_at dksX2_readOrders_1 5 rfl rfl)
theorem dX2_readOrders_30 : decode cX2_readOrders 30 = .ok (.iconst 0, 1) := dk_3 (dk_at dksX2_readOrders_1 6 rfl rfl)
theorem dX2_readOrders_31 : decode cX2_readOrders 31 = .ok (.putfield 172, 3) := dk_181 0 172 (dk_at dksX2_readOrders_1 7 rfl rfl)
theorem dX2_readOrders_34 : decode cX2_readOrders 34 = .ok (.iconst 0, 1) := dk_3 (dk_at dksX2_readOrders_1 10 rfl rfl)
theorem dX2_readOrders_35 : decode cX2_readOrders 35 = .ok (.istore_n 3, 1) := dk_62 (dk_at dksX2_readOrders_1 11 rfl rfl)
theorem dX2_readOrders_36 : decode cX2_readOrders 36 = .ok (.iconst 1, 1) := dk_4 (dk_at dksX2_readOrders_1 12 rfl rfl)
theorem dX2_readOrders_37 : decode cX2_readOrders 37 = .ok (.istore 4, 2) := dk_54 4 (dk_at dksX2_readOrders_1 13 rfl rfl)
theorem dX2_readOrders_39 : decode cX2_readOrders 39 = .ok (.iload 4, 2) := dk_21 4 (dk_at dksX2_readOrders_1 15 rfl rfl)
theorem dX2_readOrders_41 : decode cX2_readOrders 41 = .ok (.ifCond .eq 76, 3) := dk_153 0 76 (dk_at dksX2_readOrders_1 17 rfl rfl)
theorem dX2_readOrders_44 : decode cX2_readOrders 44 = .ok (.aload_n 0, 1) := dk_42 (dk_at dksX2_readOrders_1 20 rfl rfl)
theorem dX2_readOrders_45 : decode cX2_readOrders 45 = .ok (.iload_n 3, 1) := dk_29 (dk_at dksX2_readOrders_1 21 rfl rfl)
theorem dX2_readOrders_46 : decode cX2_readOrders 46 = .ok (.invokevirtual 191, 3) := dk_182 0 191 (dk_at dksX2_readOrders_2 0 rfl rfl)
theorem dX2_readOrders_49 : decode cX2_readOrders 49 = .ok (.iinc 3 1, 3) := dk_132 3 1 (dk_at dksX2_readOrders_2 3 rfl rfl)
theorem dX2_readOrders_52 : decode cX2_readOrders 52 = .ok (.aload_n 0, 1) := dk_42 (dk_at dksX2_readOrders_2 6 rfl rfl)
theorem dX2_readOrders_53 : decode cX2_readOrders 53 = .ok (.getfield 172, 3) := dk_180 0 172 (dk_at dksX2_readOrders_2 7 rfl rfl)
theorem dX2_readOrders_56 : decode cX2_readOrders 56 = .ok (.ifCond .ne 18, 3) := dk_154 0 18 (dk_at dksX2_readOrders_2 10 rfl rfl)
theorem dX2_readOrders_59 : decode cX2_readOrders 59 = .ok (.aload_n 0, 1) := dk_42 (dk_at dksX2_readOrders_2 13 rfl rfl)
theorem dX2_readOrders_60 : decode cX2_readOrders 60 = .ok (.getfield 169, 3) := dk_180 0 169 (dk_at dksX2_readOrders_2 14 rfl rfl)
theorem dX2_readOrders_63 : decode cX2_readOrders 63 = .ok (.aload_n 0, 1) := dk_42 (dk_at dksX2_readOrders_2 17 rfl rfl)
theorem dX2_readOrders_64 : decode cX2_readOrders 64 = .ok (.getfield 166, 3) := dk_180 0 166 (dk_at dksX2_readOrders_2 18 rfl rfl)
theorem dX2_readOrders_67 : decode cX2_readOrders 67 = .ok (.if_icmp .ge 7, 3) := dk_162 0 7 (dk_at dksX2_readOrders_2 21 rfl rfl)
theorem dX2_readOrders_70 : decode cX2_readOrders 70 = .ok (.iconst 1, 1) := dk_4 (dk_at dksX2_readOrders_3 0 rfl rfl)
theorem dX2_readOrders_71 : decode cX2_readOrders 71 = .ok (.goto 4, 3) := dk_167 0 4 (dk_at dksX2_readOrders_3 1 rfl rfl)
theorem dX2_readOrders_74 : decode cX2_readOrders 74 = .ok (.iconst 0, 1) := dk_3 (dk_at dksX2_readOrders_3 4 rfl rfl)
theorem dX2_readOrders_75 : decode cX2_readOrders 75 = .ok (.istore 4, 2) := dk_54 4 (dk_at dksX2_readOrders_3 5 rfl rfl)
theorem dX2_readOrders_77 : decode cX2_readOrders 77 = .ok (.iload 4, 2) := dk_21 4 (dk_at dksX2_readOrders_3 7 rfl rfl)
theorem dX2_readOrders_79 : decode cX2_readOrders 79 = .ok (.ifCond .eq (-40), 3) := dk_153 255 216 (dk_at dksX2_readOrders_3 9 rfl rfl)
theorem dX2_readOrders_82 : decode cX2_readOrders 82 = .ok (.aload_n 0, 1) := dk_42 (dk_at dksX2_readOrders_3 12 rfl rfl)
theorem dX2_readOrders_83 : decode cX2_readOrders 83 = .ok (.aload_n 0, 1) := dk_42 (dk_at dksX2_readOrders_3 13 rfl rfl)
theorem dX2_readOrders_84 : decode cX2_readOrders 84 = .ok (.invokevirtual 175, 3) := dk_182 0 175 (dk_at dksX2_readOrders_3 14 rfl rfl)
theorem dX2_readOrders_87 : decode cX2_readOrders 87 = .ok (.bipush 59, 2) := dk_16 59 (dk_at dksX2_readOrders_3 17 rfl rfl)
theorem dX2_readOrders_89 : decode cX2_readOrders 89 = .ok (.if_icmp .ne 7, 3) := dk_160 0 7 (dk_at dksX2_readOrders_3 19 rfl rfl)
theorem dX2_readOrders_92 : decode cX2_readOrders 92 = .ok (.iconst 1, 1) := dk_4 (dk_at dksX2_readOrders_3 22 rfl rfl)
theorem dX2_readOrders_93 : decode cX2_readOrders 93 = .ok (.goto 4, 3) := dk_167 0 4 (dk_at dksX2_readOrders_4 0 rfl rfl)
theorem dX2_readOrders_96 : decode cX2_readOrders 96 = .ok (.iconst 0, 1) := dk_3 (dk_at dksX2_readOrders_4 3 rfl rfl)
theorem dX2_readOrders_97 : decode cX2_readOrders 97 = .ok (.invokevirtual 178, 3) := dk_182 0 178 (dk_at dksX2_readOrders_4 4 rfl rfl)
theorem dX2_readOrders_100 : decode cX2_readOrders 100 = .ok (.aload_n 0, 1) := dk_42 (dk_at dksX2_readOrders_4 7 rfl rfl)
theorem dX2_readOrders_101 : decode cX2_readOrders 101 = .ok (.getfield 172, 3) := dk_180 0 172 (dk_at dksX2_readOrders_4 8 rfl rfl)
theorem dX2_readOrders_104 : decode cX2_readOrders 104 = .ok (.ifCond .ne 7, 3) := dk_154 0 7 (dk_at dksX2_readOrders_4 11 rfl rfl)
theorem dX2_readOrders_107 : decode cX2_readOrders 107 = .ok (.iconst 1, 1) := dk_4 (dk_at dksX2_readOrders_4 14 rfl rfl)
theorem dX2_readOrders_108 : decode cX2_readOrders 108 = .ok (.goto 4, 3) := dk_167 0 4 (dk_at dksX2_readOrders_4 15 rfl rfl)
theorem dX2_readOrders_111 : decode cX2_readOrders 111 = .ok (.iconst 0, 1) := dk_3 (dk_at dksX2_readOrders_4 18 rfl rfl)
theorem dX2_readOrders_112 : decode cX2_readOrders 112 = .ok (.istore 4, 2) := dk_54 4 (dk_at dksX2_readOrders_4 19 rfl rfl)
theorem dX2_readOrders_114 : decode cX2_readOrders 114 = .ok (.goto (-75), 3) := dk_167 255 181 (dk_at dksX2_readOrders_4 21 rfl rfl)
theorem dX2_readOrders_117 : decode cX2_readOrders 117 = .ok (.aload_n 0, 1) := dk_42 (dk_at dksX2_readOrders_5 0 rfl rfl)
theorem dX2_readOrders_118 : decode cX2_readOrders 118 = .ok (.getfield 172, 3) := dk_180 0 172 (dk_at dksX2_readOrders_5 1 rfl rfl)
theorem dX2_readOrders_121 : decode cX2_readOrders 121 = .ok (.ifCond .eq 11, 3) := dk_153 0 11 (dk_at dksX2_readOrders_5 4 rfl rfl)
theorem dX2_readOrders_124 : decode cX2_readOrders 124 = .ok (.bipush (-100), 2) := dk_16 156 (dk_at dksX2_readOrders_5 7 rfl rfl)
theorem dX2_readOrders_126 : decode cX2_readOrders 126 = .ok (.aload_n 0, 1) := dk_42 (dk_at dksX2_readOrders_5 9 rfl rfl)
theorem dX2_readOrders_127 : decode cX2_readOrders 127 = .ok (.getfield 169, 3) := dk_180 0 169 (dk_at dksX2_readOrders_5 10 rfl rfl)
theorem dX2_readOrders_130 : decode cX2_readOrders 130 = .ok (.isub, 1) := dk_100 (dk_at dksX2_readOrders_5 13 rfl rfl)
theorem dX2_readOrders_131 : decode cX2_readOrders 131 = .ok (.ireturn, 1) := dk_172 (dk_at dksX2_readOrders_5 14 rfl rfl)
theorem dX2_readOrders_132 : decode cX2_readOrders 132 = .ok (.iconst 0, 1) := dk_3 (dk_at dksX2_readOrders_5 15 rfl rfl)
theorem dX2_readOrders_133 : decode cX2_readOrders 133 = .ok (.istore 5, 2) := dk_54 5 (dk_at dksX2_readOrders_5 16 rfl rfl)
theorem dX2_readOrders_135 : decode cX2_readOrders 135 = .ok (.iload 5, 2) := dk_21 5 (dk_at dksX2_readOrders_5 18 rfl rfl)
theorem dX2_readOrders_137 : decode cX2_readOrders 137 = .ok (.iload_n 3, 1) := dk_29 (dk_at dksX2_readOrders_5 20 rfl rfl)
theorem dX2_readOrders_138 : decode cX2_readOrders 138 = .ok (.if_icmp .ge 77, 3) := dk_162 0 77 (dk_at dksX2_readOrders_5 21 rfl rfl)
theorem dX2_readOrders_141 : decode cX2_readOrders 141 = .ok (.aload_n 0, 1) := dk_42 (dk_at dksX2_readOrders_6 0 rfl rfl)
theorem dX2_readOrders_142 : decode cX2_readOrders 142 = .ok (.iload_n 1, 1) := dk_27 (dk_at dksX2_readOrders_6 1 rfl rfl)
theorem dX2_readOrders_143 : decode cX2_readOrders 143 = .ok (.aload_n 0, 1) := dk_42 (dk_at dksX2_readOrders_6 2 rfl rfl)
theorem dX2_readOrders_144 : decode cX2_readOrders 144 = .ok (.getfield 28, 3) := dk_180 0 28 (dk_at dksX2_readOrders_6 3 rfl rfl)
theorem dX2_readOrders_147 : decode cX2_readOrders 147 = .ok (.iconst 4, 1) := dk_7 (dk_at dksX2_readOrders_6 6 rfl rfl)
theorem dX2_readOrders_148 : decode cX2_readOrders 148 = .ok (.iload 5, 2) := dk_21 5 (dk_at dksX2_readOrders_6 7 rfl rfl)
theorem dX2_readOrders_150 : decode cX2_readOrders 150 = .ok (.imul, 1) := dk_104 (dk_at dksX2_readOrders_6 9 rfl rfl)
theorem dX2_readOrders_151 : decode cX2_readOrders 151 = .ok (.iaload, 1) := dk_46 (dk_at dksX2_readOrders_6 10 rfl rfl)
theorem dX2_readOrders_152 : decode cX2_readOrders 152 = .ok (.aload_n 0, 1) := dk_42 (dk_at dksX2_readOrders_6 11 rfl rfl)
theorem dX2_readOrders_153 : decode cX2_readOrders 153 = .ok (.getfield 28, 3) := dk_180 0 28 (dk_at dksX2_readOrders_6 12 rfl rfl)
theorem dX2_readOrders_156 : decode cX2_readOrders 156 = .ok (.iconst 4, 1) := dk_7 (dk_at dksX2_readOrders_6 15 rfl rfl)
theorem dX2_readOrders_157 : decode cX2_readOrders 157 = .ok (.iload 5, 2) := dk_21 5 (dk_at dksX2_readOrders_6 16 rfl rfl)
theorem dX2_readOrders_159 : decode cX2_readOrders 159 = .ok (.imul, 1) := dk_104 (dk_at dksX2_readOrders_6 18 rfl rfl)
theorem dX2_readOrders_160 : decode cX2_readOrders 160 = .ok (.iconst 1, 1) := dk_4 (dk_at dksX2_readOrders_6 19 rfl rfl)
theorem dX2_readOrders_161 : decode cX2_readOrders 161 = .ok (.iadd, 1) := dk_96 (dk_at dksX2_readOrders_6 20 rfl rfl)
theorem dX2_readOrders_162 : decode cX2_readOrders 162 = .ok (.iaload, 1) := dk_46 (dk_at dksX2_readOrders_6 21 rfl rfl)
theorem dX2_readOrders_163 : decode cX2_readOrders 163 = .ok (.aload_n 0, 1) := dk_42 (dk_at dksX2_readOrders_6 22 rfl rfl)
theorem dX2_readOrders_164 : decode cX2_readOrders 164 = .ok (.getfield 28, 3) := dk_180 0 28 (dk_at dksX2_readOrders_7 0 rfl rfl)
theorem dX2_readOrders_167 : decode cX2_readOrders 167 = .ok (.iconst 4, 1) := dk_7 (dk_at dksX2_readOrders_7 3 rfl rfl)
theorem dX2_readOrders_168 : decode cX2_readOrders 168 = .ok (.iload 5, 2) := dk_21 5 (dk_at dksX2_readOrders_7 4 rfl rfl)
theorem dX2_readOrders_170 : decode cX2_readOrders 170 = .ok (.imul, 1) := dk_104 (dk_at dksX2_readOrders_7 6 rfl rfl)
theorem dX2_readOrders_171 : decode cX2_readOrders 171 = .ok (.iconst 2, 1) := dk_5 (dk_at dksX2_readOrders_7 7 rfl rfl)
theorem dX2_readOrders_172 : decode cX2_readOrders 172 = .ok (.iadd, 1) := dk_96 (dk_at dksX2_readOrders_7 8 rfl rfl)
theorem dX2_readOrders_173 : decode cX2_readOrders 173 = .ok (.iaload, 1) := dk_46 (dk_at dksX2_readOrders_7 9 rfl rfl)
theorem dX2_readOrders_174 : decode cX2_readOrders 174 = .ok (.invokestatic 195, 3) := dk_184 0 195 (dk_at dksX2_readOrders_7 10 rfl rfl)
theorem dX2_readOrders_177 : decode cX2_readOrders 177 = .ok (.aload_n 0, 1) := dk_42 (dk_at dksX2_readOrders_7 13 rfl rfl)
theorem dX2_readOrders_178 : decode cX2_readOrders 178 = .ok (.getfield 28, 3) := dk_180 0 28 (dk_at dksX2_readOrders_7 14 rfl rfl)
theorem dX2_readOrders_181 : decode cX2_readOrders 181 = .ok (.iconst 4, 1) := dk_7 (dk_at dksX2_readOrders_7 17 rfl rfl)
theorem dX2_readOrders_182 : decode cX2_readOrders 182 = .ok (.iload 5, 2) := dk_21 5 (dk_at dksX2_readOrders_7 18 rfl rfl)
theorem dX2_readOrders_184 : decode cX2_readOrders 184 = .ok (.imul, 1) := dk_104 (dk_at dksX2_readOrders_7 20 rfl rfl)
theorem dX2_readOrders_185 : decode cX2_readOrders 185 = .ok (.iconst 3, 1) := dk_6 (dk_at dksX2_readOrders_7 21 rfl rfl)
theorem dX2_readOrders_186 : decode cX2_readOrders 186 = .ok (.iadd, 1) := dk_96 (dk_at dksX2_readOrders_7 22 rfl rfl)
theorem dX2_readOrders_187 : decode cX2_readOrders 187 = .ok (.iaload, 1) := dk_46 (dk_at dksX2_readOrders_7 23 rfl rfl)
theorem dX2_readOrders_188 : decode cX2_readOrders 188 = .ok (.invokestatic 195, 3) := dk_184 0 195 (dk_at dksX2_readOrders_8 0 rfl rfl)
theorem dX2_readOrders_191 : decode cX2_readOrders 191 = .ok (.iload_n 2, 1) := dk_28 (dk_at dksX2_readOrders_8 3 rfl rfl)
theorem dX2_readOrders_192 : decode cX2_readOrders 192 = .ok (.invokevirtual 145, 3) := dk_182 0 145 (dk_at dksX2_readOrders_8 4 rfl rfl)
theorem dX2_readOrders_195 : decode cX2_readOrders 195 = .ok (.istore 6, 2) := dk_54 6 (dk_at dksX2_readOrders_8 7 rfl rfl)
theorem dX2_readOrders_197 : decode cX2_readOrders 197 = .ok (.iload 6, 2) := dk_21 6 (dk_at dksX2_readOrders_8 9 rfl rfl)
theorem dX2_readOrders_199 : decode cX2_readOrders 199 = .ok (.ifCond .ge 10, 3) := dk_156 0 10 (dk_at dksX2_readOrders_8 11 rfl rfl)
theorem dX2_readOrders_202 : decode cX2_readOrders 202 = .ok (.aload_n 0, 1) := dk_42 (dk_at dksX2_readOrders_8 14 rfl rfl)
theorem dX2_readOrders_203 : decode cX2_readOrders 203 = .ok (.invokevirtual 198, 3) := dk_182 0 198 (dk_at dksX2_readOrders_8 15 rfl rfl)
theorem dX2_readOrders_206 : decode cX2_readOrders 206 = .ok (.iload 6, 2) := dk_21 6 (dk_at dksX2_readOrders_8 18 rfl rfl)
theorem dX2_readOrders_208 : decode cX2_readOrders 208 = .ok (.ireturn, 1) := dk_172 (dk_at dksX2_readOrders_8 20 rfl rfl)
theorem dX2_readOrders_209 : decode cX2_readOrders 209 = .ok (.iinc 5 1, 3) := dk_132 5 1 (dk_at dksX2_readOrders_8 21 rfl rfl)
theorem dX2_readOrders_212 : decode cX2_readOrders 212 = .ok (.goto (-77), 3) := dk_167 255 179 (dk_at dksX2_readOrders_9 0 rfl rfl)
theorem dX2_readOrders_215 : decode cX2_readOrders 215 = .ok (.aload_n 0, 1) := dk_42 (dk_at dksX2_readOrders_9 3 rfl rfl)
theorem dX2_readOrders_216 : decode cX2_readOrders 216 = .ok (.iload_n 3, 1) := dk_29 (dk_at dksX2_readOrders_9 4 rfl rfl)
theorem dX2_readOrders_217 : decode cX2_readOrders 217 = .ok (.invokevirtual 110, 3) := dk_182 0 110 (dk_at dksX2_readOrders_9 5 rfl rfl)
theorem dX2_readOrders_220 : decode cX2_readOrders 220 = .ok (.ireturn, 1) := dk_172 (dk_at dksX2_readOrders_9 8 rfl rfl)
abbrev cX2_tell : ByteArray := prog_9_method_49_code
def yX2_tell : MethodName := ⟨RX2, "tell", "(I)V"⟩
def dkwX2_tell_7 : List UInt8 := [167, 0, 17, 42, 180, 0, 28, 7, 27, 104, 6, 96, 42, 182, 0, 188, 79, 177]
abbrev dktX2_tell_7 : List UInt8 := dkwX2_tell_7 ++ []
def dkwX2_tell_6 : List UInt8 := [89, 180, 0, 169, 4, 96, 181, 0, 169, 42, 180, 0, 28, 7, 27, 104, 6, 96, 42, 182, 0, 188, 79]
abbrev dktX2_tell_6 : List UInt8 := dkwX2_tell_6 ++ dktX2_tell_7
def dkwX2_tell_5 : List UInt8 := [5, 96, 42, 182, 0, 188, 79, 42, 180, 0, 172, 154, 0, 53, 42, 182, 0, 175, 16, 43, 160, 0, 44, 42]
abbrev dktX2_tell_5 : List UInt8 := dkwX2_tell_5 ++ dktX2_tell_6
def dkwX2_tell_4 : List UInt8 := [42, 182, 0, 175, 16, 42, 160, 0, 7, 4, 167, 0, 4, 3, 182, 0, 178, 42, 180, 0, 28, 7, 27, 104]
abbrev dktX2_tell_4 : List UInt8 := dkwX2_tell_4 ++ dktX2_tell_5
def dkwX2_tell_3 : List UInt8 := [42, 182, 0, 175, 16, 119, 160, 0, 92, 42, 180, 0, 28, 7, 27, 104, 4, 96, 42, 182, 0, 185, 79, 42]
abbrev dktX2_tell_3 : List UInt8 := dkwX2_tell_3 ++ dktX2_tell_4
def dkwX2_tell_2 : List UInt8 := [42, 182, 0, 175, 16, 61, 160, 0, 7, 4, 167, 0, 4, 3, 182, 0, 178, 42, 180, 0, 172, 154, 0, 101]
abbrev dktX2_tell_2 : List UInt8 := dkwX2_tell_2 ++ dktX2_tell_3
def dkwX2_tell_1 : List UInt8 := [42, 180, 0, 28, 7, 27, 104, 5, 96, 16, 10, 79, 42, 180, 0, 28, 7, 27, 104, 6, 96, 3, 79, 42]
abbrev dktX2_tell_1 : List UInt8 := dkwX2_tell_1 ++ dktX2_tell_2
def dkwX2_tell_0 : List UInt8 := [42, 180, 0, 28, 7, 27, 104, 42, 182, 0, 185, 79, 42, 180, 0, 28, 7, 27, 104, 4, 96, 16, 251, 79]
abbrev dktX2_tell_0 : List UInt8 := dkwX2_tell_0 ++ dktX2_tell_1
theorem dksX2_tell_0 : cX2_tell.data.toList.drop 0 = dktX2_tell_0 := by decide +kernel
theorem dksX2_tell_1 : cX2_tell.data.toList.drop 24 = dktX2_tell_1 := dk_seg dksX2_tell_0 24 rfl rfl
theorem dksX2_tell_2 : cX2_tell.data.toList.drop 48 = dktX2_tell_2 := dk_seg dksX2_tell_1 24 rfl rfl
theorem dksX2_tell_3 : cX2_tell.data.toList.drop 72 = dktX2_tell_3 := dk_seg dksX2_tell_2 24 rfl rfl
theorem dksX2_tell_4 : cX2_tell.data.toList.drop 96 = dktX2_tell_4 := dk_seg dksX2_tell_3 24 rfl rfl
theorem dksX2_tell_5 : cX2_tell.data.toList.drop 120 = dktX2_tell_5 := dk_seg dksX2_tell_4 24 rfl rfl
theorem dksX2_tell_6 : cX2_tell.data.toList.drop 144 = dktX2_tell_6 := dk_seg dksX2_tell_5 24 rfl rfl
theorem dksX2_tell_7 : cX2_tell.data.toList.drop 167 = dktX2_tell_7 := dk_seg dksX2_tell_6 23 rfl rfl
theorem dX2_tell_0 : decode cX2_tell 0 = .ok (.aload_n 0, 1) := dk_42 (dk_at dksX2_tell_0 0 rfl rfl)
theorem dX2_tell_1 : decode cX2_tell 1 = .ok (.getfield 28, 3) := dk_180 0 28 (dk_at dksX2_tell_0 1 rfl rfl)
theorem dX2_tell_4 : decode cX2_tell 4 = .ok (.iconst 4, 1) := dk_7 (dk_at dksX2_tell_0 4 rfl rfl)
theorem dX2_tell_5 : decode cX2_tell 5 = .ok (.iload_n 1, 1) := dk_27 (dk_at dksX2_tell_0 5 rfl rfl)
theorem dX2_tell_6 : decode cX2_tell 6 = .ok (.imul, 1) := dk_104 (dk_at dksX2_tell_0 6 rfl rfl)
theorem dX2_tell_7 : decode cX2_tell 7 = .ok (.aload_n 0, 1) := dk_42 (dk_at dksX2_tell_0 7 rfl rfl)
theorem dX2_tell_8 : decode cX2_tell 8 = .ok (.invokevirtual 185, 3) := dk_182 0 185 (dk_at dksX2_tell_0 8 rfl rfl)
theorem dX2_tell_11 : decode cX2_tell 11 = .ok (.iastore, 1) := dk_79 (dk_at dksX2_tell_0 11 rfl rfl)
theorem dX2_tell_12 : decode cX2_tell 12 = .ok (.aload_n 0, 1) := dk_42 (dk_at dksX2_tell_0 12 rfl rfl)
theorem dX2_tell_13 : decode cX2_tell 13 = .ok (.getfield 28, 3) := dk_180 0 28 (dk_at dksX2_tell_0 13 rfl rfl)
theorem dX2_tell_16 : decode cX2_tell 16 = .ok (.iconst 4, 1) := dk_7 (dk_at dksX2_tell_0 16 rfl rfl)
theorem dX2_tell_17 : decode cX2_tell 17 = .ok (.iload_n 1, 1) := dk_27 (dk_at dksX2_tell_0 17 rfl rfl)
theorem dX2_tell_18 : decode cX2_tell 18 = .ok (.imul, 1) := dk_104 (dk_at dksX2_tell_0 18 rfl rfl)
theorem dX2_tell_19 : decode cX2_tell 19 = .ok (.iconst 1, 1) := dk_4 (dk_at dksX2_tell_0 19 rfl rfl)
theorem dX2_tell_20 : decode cX2_tell 20 = .ok (.iadd, 1) := dk_96 (dk_at dksX2_tell_0 20 rfl rfl)
theorem dX2_tell_21 : decode cX2_tell 21 = .ok (.bipush (-5), 2) := dk_16 251 (dk_at dksX2_tell_0 21 rfl rfl)
theorem dX2_tell_23 : decode cX2_tell 23 = .ok (.iastore, 1) := dk_79 (dk_at dksX2_tell_0 23 rfl rfl)
theorem dX2_tell_24 : decode cX2_tell 24 = .ok (.aload_n 0, 1) := dk_42 (dk_at dksX2_tell_1 0 rfl rfl)
theorem dX2_tell_25 : decode cX2_tell 25 = .ok (.getfield 28, 3) := dk_180 0 28 (dk_at dksX2_tell_1 1 rfl rfl)
theorem dX2_tell_28 : decode cX2_tell 28 = .ok (.iconst 4, 1) := dk_7 (dk_at dksX2_tell_1 4 rfl rfl)
theorem dX2_tell_29 : decode cX2_tell 29 = .ok (.iload_n 1, 1) := dk_27 (dk_at dksX2_tell_1 5 rfl rfl)
theorem dX2_tell_30 : decode cX2_tell 30 = .ok (.imul, 1) := dk_104 (dk_at dksX2_tell_1 6 rfl rfl)
theorem dX2_tell_31 : decode cX2_tell 31 = .ok (.iconst 2, 1) := dk_5 (dk_at dksX2_tell_1 7 rfl rfl)
theorem dX2_tell_32 : decode cX2_tell 32 = .ok (.iadd, 1) := dk_96 (dk_at dksX2_tell_1 8 rfl rfl)
theorem dX2_tell_33 : decode cX2_tell 33 = .ok (.bipush 10, 2) := dk_16 10 (dk_at dksX2_tell_1 9 rfl rfl)
theorem dX2_tell_35 : decode cX2_tell 35 = .ok (.iastore, 1) := dk_79 (dk_at dksX2_tell_1 11 rfl rfl)
theorem dX2_tell_36 : decode cX2_tell 36 = .ok (.aload_n 0, 1) := dk_42 (dk_at dksX2_tell_1 12 rfl rfl)
theorem dX2_tell_37 : decode cX2_tell 37 = .ok (.getfield 28, 3) := dk_180 0 28 (dk_at dksX2_tell_1 13 rfl rfl)
theorem dX2_tell_40 : decode cX2_tell 40 = .ok (.iconst 4, 1) := dk_7 (dk_at dksX2_tell_1 16 rfl rfl)
theorem dX2_tell_41 : decode cX2_tell 41 = .ok (.iload_n 1, 1) := dk_27 (dk_at dksX2_tell_1 17 rfl rfl)
theorem dX2_tell_42 : decode cX2_tell 42 = .ok (.imul, 1) := dk_104 (dk_at dksX2_tell_1 18 rfl rfl)
theorem dX2_tell_43 : decode cX2_tell 43 = .ok (.iconst 3, 1) := dk_6 (dk_at dksX2_tell_1 19 rfl rfl)
theorem dX2_tell_44 : decode cX2_tell 44 = .ok (.iadd, 1) := dk_96 (dk_at dksX2_tell_1 20 rfl rfl)
theorem dX2_tell_45 : decode cX2_tell 45 = .ok (.iconst 0, 1) := dk_3 (dk_at dksX2_tell_1 21 rfl rfl)
theorem dX2_tell_46 : decode cX2_tell 46 = .ok (.iastore, 1) := dk_79 (dk_at dksX2_tell_1 22 rfl rfl)
theorem dX2_tell_47 : decode cX2_tell 47 = .ok (.aload_n 0, 1) := dk_42 (dk_at dksX2_tell_1 23 rfl rfl)
theorem dX2_tell_48 : decode cX2_tell 48 = .ok (.aload_n 0, 1) := dk_42 (dk_at dksX2_tell_2 0 rfl rfl)
theorem dX2_tell_49 : decode cX2_tell 49 = .ok (.invokevirtual 175, 3) := dk_182 0 175 (dk_at dksX2_tell_2 1 rfl rfl)
theorem dX2_tell_52 : decode cX2_tell 52 = .ok (.bipush 61, 2) := dk_16 61 (dk_at dksX2_tell_2 4 rfl rfl)
theorem dX2_tell_54 : decode cX2_tell 54 = .ok (.if_icmp .ne 7, 3) := dk_160 0 7 (dk_at dksX2_tell_2 6 rfl rfl)
theorem dX2_tell_57 : decode cX2_tell 57 = .ok (.iconst 1, 1) := dk_4 (dk_at dksX2_tell_2 9 rfl rfl)
theorem dX2_tell_58 : decode cX2_tell 58 = .ok (.goto 4, 3) := dk_167 0 4 (dk_at dksX2_tell_2 10 rfl rfl)
theorem dX2_tell_61 : decode cX2_tell 61 = .ok (.iconst 0, 1) := dk_3 (dk_at dksX2_tell_2 13 rfl rfl)
theorem dX2_tell_62 : decode cX2_tell 62 = .ok (.invokevirtual 178, 3) := dk_182 0 178 (dk_at dksX2_tell_2 14 rfl rfl)
theorem dX2_tell_65 : decode cX2_tell 65 = .ok (.aload_n 0, 1) := dk_42 (dk_at dksX2_tell_2 17 rfl rfl)
theorem dX2_tell_66 : decode cX2_tell 66 = .ok (.getfield 172, 3) := dk_180 0 172 (dk_at dksX2_tell_2 18 rfl rfl)
theorem dX2_tell_69 : decode cX2_tell 69 = .ok (.ifCond .ne 101, 3) := dk_154 0 101 (dk_at dksX2_tell_2 21 rfl rfl)
theorem dX2_tell_72 : decode cX2_tell 72 = .ok (.aload_n 0, 1) := dk_42 (dk_at dksX2_tell_3 0 rfl rfl)
theorem dX2_tell_73 : decode cX2_tell 73 = .ok (.invokevirtual 175, 3) := dk_182 0 175 (dk_at dksX2_tell_3 1 rfl rfl)
theorem dX2_tell_76 : decode cX2_tell 76 = .ok (.bipush 119, 2) := dk_16 119 (dk_at dksX2_tell_3 4 rfl rfl)
theorem dX2_tell_78 : decode cX2_tell 78 = .ok (.if_icmp .ne 92, 3) := dk_160 0 92 (dk_at dksX2_tell_3 6 rfl rfl)
theorem dX2_tell_81 : decode cX2_tell 81 = .ok (.aload_n 0, 1) := dk_42 (dk_at dksX2_tell_3 9 rfl rfl)
theorem dX2_tell_82 : decode cX2_tell 82 = .ok (.getfield 28, 3) := dk_180 0 28 (dk_at dksX2_tell_3 10 rfl rfl)
theorem dX2_tell_85 : decode cX2_tell 85 = .ok (.iconst 4, 1) := dk_7 (dk_at dksX2_tell_3 13 rfl rfl)
theorem dX2_tell_86 : decode cX2_tell 86 = .ok (.iload_n 1, 1) := dk_27 (dk_at dksX2_tell_3 14 rfl rfl)
theorem dX2_tell_87 : decode cX2_tell 87 = .ok (.imul, 1) := dk_104 (dk_at dksX2_tell_3 15 rfl rfl)
theorem dX2_tell_88 : decode cX2_tell 88 = .ok (.iconst 1, 1) := dk_4 (dk_at dksX2_tell_3 16 rfl rfl)
theorem dX2_tell_89 : decode cX2_tell 89 = .ok (.iadd, 1) := dk_96 (dk_at dksX2_tell_3 17 rfl rfl)
theorem dX2_tell_90 : decode cX2_tell 90 = .ok (.aload_n 0, 1) := dk_42 (dk_at dksX2_tell_3 18 rfl rfl)
theorem dX2_tell_91 : decode cX2_tell 91 = .ok (.invokevirtual 185, 3) := dk_182 0 185 (dk_at dksX2_tell_3 19 rfl rfl)
theorem dX2_tell_94 : decode cX2_tell 94 = .ok (.iastore, 1) := dk_79 (dk_at dksX2_tell_3 22 rfl rfl)
theorem dX2_tell_95 : decode cX2_tell 95 = .ok (.aload_n 0, 1) := dk_42 (dk_at dksX2_tell_3 23 rfl rfl)
theorem dX2_tell_96 : decode cX2_tell 96 = .ok (.aload_n 0, 1) := dk_42 (dk_at dksX2_tell_4 0 rfl rfl)
theorem dX2_tell_97 : decode cX2_tell 97 = .ok (.invokevirtual 175, 3) := dk_182 0 175 (dk_at dksX2_tell_4 1 rfl rfl)
theorem dX2_tell_100 : decode cX2_tell 100 = .ok (.bipush 42, 2) := dk_16 42 (dk_at dksX2_tell_4 4 rfl rfl)
theorem dX2_tell_102 : decode cX2_tell 102 = .ok (.if_icmp .ne 7, 3) := dk_160 0 7 (dk_at dksX2_tell_4 6 rfl rfl)
theorem dX2_tell_105 : decode cX2_tell 105 = .ok (.iconst 1, 1) := dk_4 (dk_at dksX2_tell_4 9 rfl rfl)
theorem dX2_tell_106 : decode cX2_tell 106 = .ok (.goto 4, 3) := dk_167 0 4 (dk_at dksX2_tell_4 10 rfl rfl)
theorem dX2_tell_109 : decode cX2_tell 109 = .ok (.iconst 0, 1) := dk_3 (dk_at dksX2_tell_4 13 rfl rfl)
theorem dX2_tell_110 : decode cX2_tell 110 = .ok (.invokevirtual 178, 3) := dk_182 0 178 (dk_at dksX2_tell_4 14 rfl rfl)
theorem dX2_tell_113 : decode cX2_tell 113 = .ok (.aload_n 0, 1) := dk_42 (dk_at dksX2_tell_4 17 rfl rfl)
theorem dX2_tell_114 : decode cX2_tell 114 = .ok (.getfield 28, 3) := dk_180 0 28 (dk_at dksX2_tell_4 18 rfl rfl)
theorem dX2_tell_117 : decode cX2_tell 117 = .ok (.iconst 4, 1) := dk_7 (dk_at dksX2_tell_4 21 rfl rfl)
theorem dX2_tell_118 : decode cX2_tell 118 = .ok (.iload_n 1, 1) := dk_27 (dk_at dksX2_tell_4 22 rfl rfl)
theorem dX2_tell_119 : decode cX2_tell 119 = .ok (.imul, 1) := dk_104 (dk_at dksX2_tell_4 23 rfl rfl)
theorem dX2_tell_120 : decode cX2_tell 120 = .ok (.iconst 2, 1) := dk_5 (dk_at dksX2_tell_5 0 rfl rfl)
theorem dX2_tell_121 : decode cX2_tell 121 = .ok (.iadd, 1) := dk_96 (dk_at dksX2_tell_5 1 rfl rfl)
theorem dX2_tell_122 : decode cX2_tell 122 = .ok (.aload_n 0, 1) := dk_42 (dk_at dksX2_tell_5 2 rfl rfl)
theorem dX2_tell_123 : decode cX2_tell 123 = .ok (.invokevirtual 188, 3) := dk_182 0 188 (dk_at dksX2_tell_5 3 rfl rfl)
theorem dX2_tell_126 : decode cX2_tell 126 = .ok (.iastore, 1) := dk_79 (dk_at dksX2_tell_5 6 rfl rfl)
theorem dX2_tell_127 : decode cX2_tell 127 = .ok (.aload_n 0, 1) := dk_42 (dk_at dksX2_tell_5 7 rfl rfl)
theorem dX2_tell_128 : decode cX2_tell 128 = .ok (.getfield 172, 3) := dk_180 0 172 (dk_at dksX2_tell_5 8 rfl rfl)
theorem dX2_tell_131 : decode cX2_tell 131 = .ok (.ifCond .ne 53, 3) := dk_154 0 53 (dk_at dksX2_tell_5 11 rfl rfl)
theorem dX2_tell_134 : decode cX2_tell 134 = .ok (.aload_n 0, 1) := dk_42 (dk_at dksX2_tell_5 14 rfl rfl)
theorem dX2_tell_135 : decode cX2_tell 135 = .ok (.invokevirtual 175, 3) := dk_182 0 175 (dk_at dksX2_tell_5 15 rfl rfl)
theorem dX2_tell_138 : decode cX2_tell 138 = .ok (.bipush 43, 2) := dk_16 43 (dk_at dksX2_tell_5 18 rfl rfl)
theorem dX2_tell_140 : decode cX2_tell 140 = .ok (.if_icmp .ne 44, 3) := dk_160 0 44 (dk_at dksX2_tell_5 20 rfl rfl)
theorem dX2_tell_143 : decode cX2_tell 143 = .ok (.aload_n 0, 1) := dk_42 (dk_at dksX2_tell_5 23 rfl rfl)
theorem dX2_tell_144 : decode cX2_tell 144 = .ok (.dup, 1) := dk_89 (dk_at dksX2_tell_6 0 rfl rfl)
theorem dX2_tell_145 : decode cX2_tell 145 = .ok (.getfield 169, 3) := dk_180 0 169 (dk_at dksX2_tell_6 1 rfl rfl)
theorem dX2_tell_148 : decode cX2_tell 148 = .ok (.iconst 1, 1) := dk_4 (dk_at dksX2_tell_6 4 rfl rfl)
theorem dX2_tell_149 : decode cX2_tell 149 = .ok (.iadd, 1) := dk_96 (dk_at dksX2_tell_6 5 rfl rfl)
theorem dX2_tell_150 : decode cX2_tell 150 = .ok (.putfield 169, 3) := dk_181 0 169 (dk_at dksX2_tell_6 6 rfl rfl)
theorem dX2_tell_153 : decode cX2_tell 153 = .ok (.aload_n 0, 1) := dk_42 (dk_at dksX2_tell_6 9 rfl rfl)
theorem dX2_tell_154 : decode cX2_tell 154 = .ok (.getfield 28, 3) := dk_180 0 28 (dk_at dksX2_tell_6 10 rfl rfl)
theorem dX2_tell_157 : decode cX2_tell 157 = .ok (.iconst 4, 1) := dk_7 (dk_at dksX2_tell_6 13 rfl rfl)
theorem dX2_tell_158 : decode cX2_tell 158 = .ok (.iload_n 1, 1) := dk_27 (dk_at dksX2_tell_6 14 rfl rfl)
theorem dX2_tell_159 : decode cX2_tell 159 = .ok (.imul, 1) := dk_104 (dk_at dksX2_tell_6 15 rfl rfl)
theorem dX2_tell_160 : decode cX2_tell 160 = .ok (.iconst 3, 1) := dk_6 (dk_at dksX2_tell_6 16 rfl rfl)
theorem dX2_tell_161 : decode cX2_tell 161 = .ok (.iadd, 1) := dk_96 (dk_at dksX2_tell_6 17 rfl rfl)
theorem dX2_tell_162 : decode cX2_tell 162 = .ok (.aload_n 0, 1) := dk_42 (dk_at dksX2_tell_6 18 rfl rfl)
theorem dX2_tell_163 : decode cX2_tell 163 = .ok (.invokevirtual 188, 3) := dk_182 0 188 (dk_at dksX2_tell_6 19 rfl rfl)
theorem dX2_tell_166 : decode cX2_tell 166 = .ok (.iastore, 1) := dk_79 (dk_at dksX2_tell_6 22 rfl rfl)
theorem dX2_tell_167 : decode cX2_tell 167 = .ok (.goto 17, 3) := dk_167 0 17 (dk_at dksX2_tell_7 0 rfl rfl)
theorem dX2_tell_170 : decode cX2_tell 170 = .ok (.aload_n 0, 1) := dk_42 (dk_at dksX2_tell_7 3 rfl rfl)
theorem dX2_tell_171 : decode cX2_tell 171 = .ok (.getfield 28, 3) := dk_180 0 28 (dk_at dksX2_tell_7 4 rfl rfl)
theorem dX2_tell_174 : decode cX2_tell 174 = .ok (.iconst 4, 1) := dk_7 (dk_at dksX2_tell_7 7 rfl rfl)
theorem dX2_tell_175 : decode cX2_tell 175 = .ok (.iload_n 1, 1) := dk_27 (dk_at dksX2_tell_7 8 rfl rfl)
theorem dX2_tell_176 : decode cX2_tell 176 = .ok (.imul, 1) := dk_104 (dk_at dksX2_tell_7 9 rfl rfl)
theorem dX2_tell_177 : decode cX2_tell 177 = .ok (.iconst 3, 1) := dk_6 (dk_at dksX2_tell_7 10 rfl rfl)
theorem dX2_tell_178 : decode cX2_tell 178 = .ok (.iadd, 1) := dk_96 (dk_at dksX2_tell_7 11 rfl rfl)
theorem dX2_tell_179 : decode cX2_tell 179 = .ok (.aload_n 0, 1) := dk_42 (dk_at dksX2_tell_7 12 rfl rfl)
theorem dX2_tell_180 : decode cX2_tell 180 = .ok (.invokevirtual 188, 3) := dk_182 0 188 (dk_at dksX2_tell_7 13 rfl rfl)
theorem dX2_tell_183 : decode cX2_tell 183 = .ok (.iastore, 1) := dk_79 (dk_at dksX2_tell_7 16 rfl rfl)
theorem dX2_tell_184 : decode cX2_tell 184 = .ok (.return_, 1) := dk_177 (dk_at dksX2_tell_7 17 rfl rfl)
abbrev cX2_wordHere : ByteArray := prog_9_method_48_code
def yX2_wordHere : MethodName := ⟨RX2, "wordHere", "()I"⟩
def dkwX2_wordHere_0 : List UInt8 := [42, 42, 182, 0, 175, 16, 119, 160, 0, 7, 4, 167, 0, 4, 3, 182, 0, 178, 42, 5, 182, 0, 182, 172]
abbrev dktX2_wordHere_0 : List UInt8 := dkwX2_wordHere_0 ++ []
theorem dksX2_wordHere_0 : cX2_wordHere.data.toList.drop 0 = dktX2_wordHere_0 := by decide +kernel
theorem dX2_wordHere_0 : decode cX2_wordHere 0 = .ok (.aload_n 0, 1) := dk_42 (dk_at dksX2_wordHere_0 0 rfl rfl)
theorem dX2_wordHere_1 : decode cX2_wordHere 1 = .ok (.aload_n 0, 1) := dk_42 (dk_at dksX2_wordHere_0 1 rfl rfl)
theorem dX2_wordHere_2 : decode cX2_wordHere 2 = .ok (.invokevirtual 175, 3) := dk_182 0 175 (dk_at dksX2_wordHere_0 2 rfl rfl)
theorem dX2_wordHere_5 : decode cX2_wordHere 5 = .ok (.bipush 119, 2) := dk_16 119 (dk_at dksX2_wordHere_0 5 rfl rfl)
theorem dX2_wordHere_7 : decode cX2_wordHere 7 = .ok (.if_icmp .ne 7, 3) := dk_160 0 7 (dk_at dksX2_wordHere_0 7 rfl rfl)
theorem dX2_wordHere_10 : decode cX2_wordHere 10 = .ok (.iconst 1, 1) := dk_4 (dk_at dksX2_wordHere_0 10 rfl rfl)
theorem dX2_wordHere_11 : decode cX2_wordHere 11 = .ok (.goto 4, 3) := dk_167 0 4 (dk_at dksX2_wordHere_0 11 rfl rfl)
theorem dX2_wordHere_14 : decode cX2_wordHere 14 = .ok (.iconst 0, 1) := dk_3 (dk_at dksX2_wordHere_0 14 rfl rfl)
theorem dX2_wordHere_15 : decode cX2_wordHere 15 = .ok (.invokevirtual 178, 3) := dk_182 0 178 (dk_at dksX2_wordHere_0 15 rfl rfl)
theorem dX2_wordHere_18 : decode cX2_wordHere 18 = .ok (.aload_n 0, 1) := dk_42 (dk_at dksX2_wordHere_0 18 rfl rfl)
theorem dX2_wordHere_19 : decode cX2_wordHere 19 = .ok (.iconst 2, 1) := dk_5 (dk_at dksX2_wordHere_0 19 rfl rfl)
theorem dX2_wordHere_20 : decode cX2_wordHere 20 = .ok (.invokevirtual 182, 3) := dk_182 0 182 (dk_at dksX2_wordHere_0 20 rfl rfl)
theorem dX2_wordHere_23 : decode cX2_wordHere 23 = .ok (.ireturn, 1) := dk_172 (dk_at dksX2_wordHere_0 23 rfl rfl)
abbrev cX2_look : ByteArray := prog_9_method_44_code
def yX2_look : MethodName := ⟨RX2, "look", "()I"⟩
def dkwX2_look_1 : List UInt8 := [172]
abbrev dktX2_look_1 : List UInt8 := dkwX2_look_1 ++ []
def dkwX2_look_0 : List UInt8 := [42, 180, 0, 169, 42, 180, 0, 166, 162, 0, 15, 42, 180, 0, 22, 42, 180, 0, 169, 46, 167, 0, 4, 2]
abbrev dktX2_look_0 : List UInt8 := dkwX2_look_0 ++ dktX2_look_1
theorem dksX2_look_0 : cX2_look.data.toList.drop 0 = dktX2_look_0 := by decide +kernel
theorem dksX2_look_1 : cX2_look.data.toList.drop 24 = dktX2_look_1 := dk_seg dksX2_look_0 24 rfl rfl
theorem dX2_look_0 : decode cX2_look 0 = .ok (.aload_n 0, 1) := dk_42 (dk_at dksX2_look_0 0 rfl rfl)
theorem dX2_look_1 : decode cX2_look 1 = .ok (.getfield 169, 3) := dk_180 0 169 (dk_at dksX2_look_0 1 rfl rfl)
theorem dX2_look_4 : decode cX2_look 4 = .ok (.aload_n 0, 1) := dk_42 (dk_at dksX2_look_0 4 rfl rfl)
theorem dX2_look_5 : decode cX2_look 5 = .ok (.getfield 166, 3) := dk_180 0 166 (dk_at dksX2_look_0 5 rfl rfl)
theorem dX2_look_8 : decode cX2_look 8 = .ok (.if_icmp .ge 15, 3) := dk_162 0 15 (dk_at dksX2_look_0 8 rfl rfl)
theorem dX2_look_11 : decode cX2_look 11 = .ok (.aload_n 0, 1) := dk_42 (dk_at dksX2_look_0 11 rfl rfl)
theorem dX2_look_12 : decode cX2_look 12 = .ok (.getfield 22, 3) := dk_180 0 22 (dk_at dksX2_look_0 12 rfl rfl)
theorem dX2_look_15 : decode cX2_look 15 = .ok (.aload_n 0, 1) := dk_42 (dk_at dksX2_look_0 15 rfl rfl)
theorem dX2_look_16 : decode cX2_look 16 = .ok (.getfield 169, 3) := dk_180 0 169 (dk_at dksX2_look_0 16 rfl rfl)
theorem dX2_look_19 : decode cX2_look 19 = .ok (.iaload, 1) := dk_46 (dk_at dksX2_look_0 19 rfl rfl)
theorem dX2_look_20 : decode cX2_look 20 = .ok (.goto 4, 3) := dk_167 0 4 (dk_at dksX2_look_0 20 rfl rfl)
theorem dX2_look_23 : decode cX2_look 23 = .ok (.iconst (-1), 1) := dk_2 (dk_at dksX2_look_0 23 rfl rfl)
theorem dX2_look_24 : decode cX2_look 24 = .ok (.ireturn, 1) := dk_172 (dk_at dksX2_look_1 0 rfl rfl)
abbrev cX2_must : ByteArray := prog_9_method_45_code
def yX2_must : MethodName := ⟨RX2, "must", "(Z)V"⟩
def dkwX2_must_1 : List UInt8 := [180, 0, 169, 42, 180, 0, 172, 153, 0, 7, 3, 167, 0, 4, 4, 96, 181, 0, 169, 177]
abbrev dktX2_must_1 : List UInt8 := dkwX2_must_1 ++ []
def dkwX2_must_0 : List UInt8 := [42, 42, 180, 0, 172, 154, 0, 7, 27, 154, 0, 7, 4, 167, 0, 4, 3, 181, 0, 172, 42, 89]
abbrev dktX2_must_0 : List UInt8 := dkwX2_must_0 ++ dktX2_must_1
theorem dksX2_must_0 : cX2_must.data.toList.drop 0 = dktX2_must_0 := by decide +kernel
theorem dksX2_must_1 : cX2_must.data.toList.drop 22 = dktX2_must_1 := dk_seg dksX2_must_0 22 rfl rfl
theorem dX2_must_0 : decode cX2_must 0 = .ok (.aload_n 0, 1) := dk_42 (dk_at dksX2_must_0 0 rfl rfl)
theorem dX2_must_1 : decode cX2_must 1 = .ok (.aload_n 0, 1) := dk_42 (dk_at dksX2_must_0 1 rfl rfl)
theorem dX2_must_2 : decode cX2_must 2 = .ok (.getfield 172, 3) := dk_180 0 172 (dk_at dksX2_must_0 2 rfl rfl)
theorem dX2_must_5 : decode cX2_must 5 = .ok (.ifCond .ne 7, 3) := dk_154 0 7 (dk_at dksX2_must_0 5 rfl rfl)
theorem dX2_must_8 : decode cX2_must 8 = .ok (.iload_n 1, 1) := dk_27 (dk_at dksX2_must_0 8 rfl rfl)
theorem dX2_must_9 : decode cX2_must 9 = .ok (.ifCond .ne 7, 3) := dk_154 0 7 (dk_at dksX2_must_0 9 rfl rfl)
theorem dX2_must_12 : decode cX2_must 12 = .ok (.iconst 1, 1) := dk_4 (dk_at dksX2_must_0 12 rfl rfl)
theorem dX2_must_13 : decode cX2_must 13 = .ok (.goto 4, 3) := dk_167 0 4 (dk_at dksX2_must_0 13 rfl rfl)
theorem dX2_must_16 : decode cX2_must 16 = .ok (.iconst 0, 1) := dk_3 (dk_at dksX2_must_0 16 rfl rfl)
theorem dX2_must_17 : decode cX2_must 17 = .ok (.putfield 172, 3) := dk_181 0 172 (dk_at dksX2_must_0 17 rfl rfl)
theorem dX2_must_20 : decode cX2_must 20 = .ok (.aload_n 0, 1) := dk_42 (dk_at dksX2_must_0 20 rfl rfl)
theorem dX2_must_21 : decode cX2_must 21 = .ok (.dup, 1) := dk_89 (dk_at dksX2_must_0 21 rfl rfl)
theorem dX2_must_22 : decode cX2_must 22 = .ok (.getfield 169, 3) := dk_180 0 169 (dk_at dksX2_must_1 0 rfl rfl)
theorem dX2_must_25 : decode cX2_must 25 = .ok (.aload_n 0, 1) := dk_42 (dk_at dksX2_must_1 3 rfl rfl)
theorem dX2_must_26 : decode cX2_must 26 = .ok (.getfield 172, 3) := dk_180 0 172 (dk_at dksX2_must_1 4 rfl rfl)
theorem dX2_must_29 : decode cX2_must 29 = .ok (.ifCond .eq 7, 3) := dk_153 0 7 (dk_at dksX2_must_1 7 rfl rfl)
theorem dX2_must_32 : decode cX2_must 32 = .ok (.iconst 0, 1) := dk_3 (dk_at dksX2_must_1 10 rfl rfl)
theorem dX2_must_33 : decode cX2_must 33 = .ok (.goto 4, 3) := dk_167 0 4 (dk_at dksX2_must_1 11 rfl rfl)
theorem dX2_must_36 : decode cX2_must 36 = .ok (.iconst 1, 1) := dk_4 (dk_at dksX2_must_1 14 rfl rfl)
theorem dX2_must_37 : decode cX2_must 37 = .ok (.iadd, 1) := dk_96 (dk_at dksX2_must_1 15 rfl rfl)
theorem dX2_must_38 : decode cX2_must 38 = .ok (.putfield 169, 3) := dk_181 0 169 (dk_at dksX2_must_1 16 rfl rfl)
theorem dX2_must_41 : decode cX2_must 41 = .ok (.return_, 1) := dk_177 (dk_at dksX2_must_1 19 rfl rfl)
abbrev cX2_digits : ByteArray := prog_9_method_46_code
def yX2_digits : MethodName := ⟨RX2, "digits", "(I)I"⟩
def dkwX2_digits_3 : List UInt8 := [180, 0, 169, 4, 96, 181, 0, 169, 132, 3, 1, 167, 255, 200, 28, 172]
abbrev dktX2_digits_3 : List UInt8 := dkwX2_digits_3 ++ []
def dkwX2_digits_2 : List UInt8 := [16, 57, 184, 0, 53, 153, 0, 32, 16, 10, 28, 104, 42, 182, 0, 175, 96, 16, 48, 100, 61, 42, 89]
abbrev dktX2_digits_2 : List UInt8 := dkwX2_digits_2 ++ dktX2_digits_3
def dkwX2_digits_1 : List UInt8 := [62, 29, 27, 162, 0, 57, 42, 180, 0, 172, 154, 0, 50, 28, 158, 0, 46, 42, 182, 0, 175, 16, 48]
abbrev dktX2_digits_1 : List UInt8 := dkwX2_digits_1 ++ dktX2_digits_2
def dkwX2_digits_0 : List UInt8 := [42, 182, 0, 175, 16, 48, 100, 61, 42, 42, 182, 0, 175, 16, 48, 16, 57, 184, 0, 53, 182, 0, 178, 4]
abbrev dktX2_digits_0 : List UInt8 := dkwX2_digits_0 ++ dktX2_digits_1
theorem dksX2_digits_0 : cX2_digits.data.toList.drop 0 = dktX2_digits_0 := by decide +kernel
theorem dksX2_digits_1 : cX2_digits.data.toList.drop 24 = dktX2_digits_1 := dk_seg dksX2_digits_0 24 rfl rfl
theorem dksX2_digits_2 : cX2_digits.data.toList.drop 47 = dktX2_digits_2 := dk_seg dksX2_digits_1 23 rfl rfl
theorem dksX2_digits_3 : cX2_digits.data.toList.drop 70 = dktX2_digits_3 := dk_seg dksX2_digits_2 23 rfl rfl
theorem dX2_digits_0 : decode cX2_digits 0 = .ok (.aload_n 0, 1) := dk_42 (dk_at dksX2_digits_0 0 rfl rfl)
theorem dX2_digits_1 : decode cX2_digits 1 = .ok (.invokevirtual 175, 3) := dk_182 0 175 (dk_at dksX2_digits_0 1 rfl rfl)
theorem dX2_digits_4 : decode cX2_digits 4 = .ok (.bipush 48, 2) := dk_16 48 (dk_at dksX2_digits_0 4 rfl rfl)
theorem dX2_digits_6 : decode cX2_digits 6 = .ok (.isub, 1) := dk_100 (dk_at dksX2_digits_0 6 rfl rfl)
theorem dX2_digits_7 : decode cX2_digits 7 = .ok (.istore_n 2, 1) := dk_61 (dk_at dksX2_digits_0 7 rfl rfl)
theorem dX2_digits_8 : decode cX2_digits 8 = .ok (.aload_n 0, 1) := dk_42 (dk_at dksX2_digits_0 8 rfl rfl)
theorem dX2_digits_9 : decode cX2_digits 9 = .ok (.aload_n 0, 1) := dk_42 (dk_at dksX2_digits_0 9 rfl rfl)
theorem dX2_digits_10 : decode cX2_digits 10 = .ok (.invokevirtual 175, 3) := dk_182 0 175 (dk_at dksX2_digits_0 10 rfl rfl)
theorem dX2_digits_13 : decode cX2_digits 13 = .ok (.bipush 48, 2) := dk_16 48 (dk_at dksX2_digits_0 13 rfl rfl)
theorem dX2_digits_15 : decode cX2_digits 15 = .ok (.bipush 57, 2) := dk_16 57 (dk_at dksX2_digits_0 15 rfl rfl)
theorem dX2_digits_17 : decode cX2_digits 17 = .ok (.invokestatic 53, 3) := dk_184 0 53 (dk_at dksX2_digits_0 17 rfl rfl)
theorem dX2_digits_20 : decode cX2_digits 20 = .ok (.invokevirtual 178, 3) := dk_182 0 178 (dk_at dksX2_digits_0 20 rfl rfl)
theorem dX2_digits_23 : decode cX2_digits 23 = .ok (.iconst 1, 1) := dk_4 (dk_at dksX2_digits_0 23 rfl rfl)
theorem dX2_digits_24 : decode cX2_digits 24 = .ok (.istore_n 3, 1) := dk_62 (dk_at dksX2_digits_1 0 rfl rfl)
theorem dX2_digits_25 : decode cX2_digits 25 = .ok (.iload_n 3, 1) := dk_29 (dk_at dksX2_digits_1 1 rfl rfl)
theorem dX2_digits_26 : decode cX2_digits 26 = .ok (.iload_n 1, 1) := dk_27 (dk_at dksX2_digits_1 2 rfl rfl)
theorem dX2_digits_27 : decode cX2_digits 27 = .ok (.if_icmp .ge 57, 3) := dk_162 0 57 (dk_at dksX2_digits_1 3 rfl rfl)
theorem dX2_digits_30 : decode cX2_digits 30 = .ok (.aload_n 0, 1) := dk_42 (dk_at dksX2_digits_1 6 rfl rfl)
theorem dX2_digits_31 : decode cX2_digits 31 = .ok (.getfield 172, 3) := dk_180 0 172 (dk_at dksX2_digits_1 7 rfl rfl)
theorem dX2_digits_34 : decode cX2_digits 34 = .ok (.ifCond .ne 50, 3) := dk_154 0 50 (dk_at dksX2_digits_1 10 rfl rfl)
theorem dX2_digits_37 : decode cX2_digits 37 = .ok (.iload_n 2, 1) := dk_28 (dk_at dksX2_digits_1 13 rfl rfl)
theorem dX2_digits_38 : decode cX2_digits 38 = .ok (.ifCond .le 46, 3) := dk_158 0 46 (dk_at dksX2_digits_1 14 rfl rfl)
theorem dX2_digits_41 : decode cX2_digits 41 = .ok (.aload_n 0, 1) := dk_42 (dk_at dksX2_digits_1 17 rfl rfl)
theorem dX2_digits_42 : decode cX2_digits 42 = .ok (.invokevirtual 175, 3) := dk_182 0 175 (dk_at dksX2_digits_1 18 rfl rfl)
theorem dX2_digits_45 : decode cX2_digits 45 = .ok (.bipush 48, 2) := dk_16 48 (dk_at dksX2_digits_1 21 rfl rfl)
theorem dX2_digits_47 : decode cX2_digits 47 = .ok (.bipush 57, 2) := dk_16 57 (dk_at dksX2_digits_2 0 rfl rfl)
theorem dX2_digits_49 : decode cX2_digits 49 = .ok (.invokestatic 53, 3) := dk_184 0 53 (dk_at dksX2_digits_2 2 rfl rfl)
theorem dX2_digits_52 : decode cX2_digits 52 = .ok (.ifCond .eq 32, 3) := dk_153 0 32 (dk_at dksX2_digits_2 5 rfl rfl)
theorem dX2_digits_55 : decode cX2_digits 55 = .ok (.bipush 10, 2) := dk_16 10 (dk_at dksX2_digits_2 8 rfl rfl)
theorem dX2_digits_57 : decode cX2_digits 57 = .ok (.iload_n 2, 1) := dk_28 (dk_at dksX2_digits_2 10 rfl rfl)
theorem dX2_digits_58 : decode cX2_digits 58 = .ok (.imul, 1) := dk_104 (dk_at dksX2_digits_2 11 rfl rfl)
theorem dX2_digits_59 : decode cX2_digits 59 = .ok (.aload_n 0, 1) := dk_42 (dk_at dksX2_digits_2 12 rfl rfl)
theorem dX2_digits_60 : decode cX2_digits 60 = .ok (.invokevirtual 175, 3) := dk_182 0 175 (dk_at dksX2_digits_2 13 rfl rfl)
theorem dX2_digits_63 : decode cX2_digits 63 = .ok (.iadd, 1) := dk_96 (dk_at dksX2_digits_2 16 rfl rfl)
theorem dX2_digits_64 : decode cX2_digits 64 = .ok (.bipush 48, 2) := dk_16 48 (dk_at dksX2_digits_2 17 rfl rfl)
theorem dX2_digits_66 : decode cX2_digits 66 = .ok (.isub, 1) := dk_100 (dk_at dksX2_digits_2 19 rfl rfl)
theorem dX2_digits_67 : decode cX2_digits 67 = .ok (.istore_n 2, 1) := dk_61 (dk_at dksX2_digits_2 20 rfl rfl)
theorem dX2_digits_68 : decode cX2_digits 68 = .ok (.aload_n 0, 1) := dk_42 (dk_at dksX2_digits_2 21 rfl rfl)
theorem dX2_digits_69 : decode cX2_digits 69 = .ok (.dup, 1) := dk_89 (dk_at dksX2_digits_2 22 rfl rfl)
theorem dX2_digits_70 : decode cX2_digits 70 = .ok (.getfield 169, 3) := dk_180 0 169 (dk_at dksX2_digits_3 0 rfl rfl)
theorem dX2_digits_73 : decode cX2_digits 73 = .ok (.iconst 1, 1) := dk_4 (dk_at dksX2_digits_3 3 rfl rfl)
theorem dX2_digits_74 : decode cX2_digits 74 = .ok (.iadd, 1) := dk_96 (dk_at dksX2_digits_3 4 rfl rfl)
theorem dX2_digits_75 : decode cX2_digits 75 = .ok (.putfield 169, 3) := dk_181 0 169 (dk_at dksX2_digits_3 5 rfl rfl)
theorem dX2_digits_78 : decode cX2_digits 78 = .ok (.iinc 3 1, 3) := dk_132 3 1 (dk_at dksX2_digits_3 8 rfl rfl)
theorem dX2_digits_81 : decode cX2_digits 81 = .ok (.goto (-56), 3) := dk_167 255 200 (dk_at dksX2_digits_3 11 rfl rfl)
theorem dX2_digits_84 : decode cX2_digits 84 = .ok (.iload_n 2, 1) := dk_28 (dk_at dksX2_digits_3 14 rfl rfl)
theorem dX2_digits_85 : decode cX2_digits 85 = .ok (.ireturn, 1) := dk_172 (dk_at dksX2_digits_3 15 rfl rfl)
abbrev cX2_tenths : ByteArray := prog_9_method_47_code
def yX2_tenths : MethodName := ⟨RX2, "tenths", "()I"⟩
def dkwX2_tenths_4 : List UInt8 := [96, 116, 167, 0, 9, 16, 10, 28, 104, 29, 96, 172]
abbrev dktX2_tenths_4 : List UInt8 := dkwX2_tenths_4 ++ []
def dkwX2_tenths_3 : List UInt8 := [42, 42, 182, 0, 175, 16, 48, 16, 57, 184, 0, 53, 182, 0, 178, 27, 153, 0, 13, 16, 10, 28, 104, 29]
abbrev dktX2_tenths_3 : List UInt8 := dkwX2_tenths_3 ++ dktX2_tenths_4
def dkwX2_tenths_2 : List UInt8 := [182, 0, 175, 16, 46, 160, 0, 7, 4, 167, 0, 4, 3, 182, 0, 178, 42, 182, 0, 175, 16, 48, 100, 62]
abbrev dktX2_tenths_2 : List UInt8 := dkwX2_tenths_2 ++ dktX2_tenths_3
def dkwX2_tenths_1 : List UInt8 := [42, 180, 0, 172, 154, 0, 7, 4, 167, 0, 4, 3, 96, 181, 0, 169, 42, 6, 182, 0, 182, 61, 42, 42]
abbrev dktX2_tenths_1 : List UInt8 := dkwX2_tenths_1 ++ dktX2_tenths_2
def dkwX2_tenths_0 : List UInt8 := [42, 182, 0, 175, 16, 45, 160, 0, 7, 4, 167, 0, 4, 3, 60, 42, 89, 180, 0, 169, 27, 153, 0, 14]
abbrev dktX2_tenths_0 : List UInt8 := dkwX2_tenths_0 ++ dktX2_tenths_1
theorem dksX2_tenths_0 : cX2_tenths.data.toList.drop 0 = dktX2_tenths_0 := by decide +kernel
theorem dksX2_tenths_1 : cX2_tenths.data.toList.drop 24 = dktX2_tenths_1 := dk_seg dksX2_tenths_0 24 rfl rfl
theorem dksX2_tenths_2 : cX2_tenths.data.toList.drop 48 = dktX2_tenths_2 := dk_seg dksX2_tenths_1 24 rfl rfl
theorem dksX2_tenths_3 : cX2_tenths.data.toList.drop 72 = dktX2_tenths_3 := dk_seg dksX2_tenths_2 24 rfl rfl
theorem dksX2_tenths_4 : cX2_tenths.data.toList.drop 96 = dktX2_tenths_4 := dk_seg dksX2_tenths_3 24 rfl rfl
theorem dX2_tenths_0 : decode cX2_tenths 0 = .ok (.aload_n 0, 1) := dk_42 (dk_at dksX2_tenths_0 0 rfl rfl)
theorem dX2_tenths_1 : decode cX2_tenths 1 = .ok (.invokevirtual 175, 3) := dk_182 0 175 (dk_at dksX2_tenths_0 1 rfl rfl)
theorem dX2_tenths_4 : decode cX2_tenths 4 = .ok (.bipush 45, 2) := dk_16 45 (dk_at dksX2_tenths_0 4 rfl rfl)
theorem dX2_tenths_6 : decode cX2_tenths 6 = .ok (.if_icmp .ne 7, 3) := dk_160 0 7 (dk_at dksX2_tenths_0 6 rfl rfl)
theorem dX2_tenths_9 : decode cX2_tenths 9 = .ok (.iconst 1, 1) := dk_4 (dk_at dksX2_tenths_0 9 rfl rfl)
theorem dX2_tenths_10 : decode cX2_tenths 10 = .ok (.goto 4, 3) := dk_167 0 4 (dk_at dksX2_tenths_0 10 rfl rfl)
theorem dX2_tenths_13 : decode cX2_tenths 13 = .ok (.iconst 0, 1) := dk_3 (dk_at dksX2_tenths_0 13 rfl rfl)
theorem dX2_tenths_14 : decode cX2_tenths 14 = .ok (.istore_n 1, 1) := dk_60 (dk_at dksX2_tenths_0 14 rfl rfl)
theorem dX2_tenths_15 : decode cX2_tenths 15 = .ok (.aload_n 0, 1) := dk_42 (dk_at dksX2_tenths_0 15 rfl rfl)
theorem dX2_tenths_16 : decode cX2_tenths 16 = .ok (.dup, 1) := dk_89 (dk_at dksX2_tenths_0 16 rfl rfl)
theorem dX2_tenths_17 : decode cX2_tenths 17 = .ok (.getfield 169, 3) := dk_180 0 169 (dk_at dksX2_tenths_0 17 rfl rfl)
theorem dX2_tenths_20 : decode cX2_tenths 20 = .ok (.iload_n 1, 1) := dk_27 (dk_at dksX2_tenths_0 20 rfl rfl)
theorem dX2_tenths_21 : decode cX2_tenths 21 = .ok (.ifCond .eq 14, 3) := dk_153 0 14 (dk_at dksX2_tenths_0 21 rfl rfl)
theorem dX2_tenths_24 : decode cX2_tenths 24 = .ok (.aload_n 0, 1) := dk_42 (dk_at dksX2_tenths_1 0 rfl rfl)
theorem dX2_tenths_25 : decode cX2_tenths 25 = .ok (.getfield 172, 3) := dk_180 0 172 (dk_at dksX2_tenths_1 1 rfl rfl)
theorem dX2_tenths_28 : decode cX2_tenths 28 = .ok (.ifCond .ne 7, 3) := dk_154 0 7 (dk_at dksX2_tenths_1 4 rfl rfl)
theorem dX2_tenths_31 : decode cX2_tenths 31 = .ok (.iconst 1, 1) := dk_4 (dk_at dksX2_tenths_1 7 rfl rfl)
theorem dX2_tenths_32 : decode cX2_tenths 32 = .ok (.goto 4, 3) := dk_167 0 4 (dk_at dksX2_tenths_1 8 rfl rfl)
theorem dX2_tenths_35 : decode cX2_tenths 35 = .ok (.iconst 0, 1) := dk_3 (dk_at dksX2_tenths_1 11 rfl rfl)
theorem dX2_tenths_36 : decode cX2_tenths 36 = .ok (.iadd, 1) := dk_96 (dk_at dksX2_tenths_1 12 rfl rfl)
theorem dX2_tenths_37 : decode cX2_tenths 37 = .ok (.putfield 169, 3) := dk_181 0 169 (dk_at dksX2_tenths_1 13 rfl rfl)
theorem dX2_tenths_40 : decode cX2_tenths 40 = .ok (.aload_n 0, 1) := dk_42 (dk_at dksX2_tenths_1 16 rfl rfl)
theorem dX2_tenths_41 : decode cX2_tenths 41 = .ok (.iconst 3, 1) := dk_6 (dk_at dksX2_tenths_1 17 rfl rfl)
theorem dX2_tenths_42 : decode cX2_tenths 42 = .ok (.invokevirtual 182, 3) := dk_182 0 182 (dk_at dksX2_tenths_1 18 rfl rfl)
theorem dX2_tenths_45 : decode cX2_tenths 45 = .ok (.istore_n 2, 1) := dk_61 (dk_at dksX2_tenths_1 21 rfl rfl)
theorem dX2_tenths_46 : decode cX2_tenths 46 = .ok (.aload_n 0, 1) := dk_42 (dk_at dksX2_tenths_1 22 rfl rfl)
theorem dX2_tenths_47 : decode cX2_tenths 47 = .ok (.aload_n 0, 1) := dk_42 (dk_at dksX2_tenths_1 23 rfl rfl)
theorem dX2_tenths_48 : decode cX2_tenths 48 = .ok (.invokevirtual 175, 3) := dk_182 0 175 (dk_at dksX2_tenths_2 0 rfl rfl)
theorem dX2_tenths_51 : decode cX2_tenths 51 = .ok (.bipush 46, 2) := dk_16 46 (dk_at dksX2_tenths_2 3 rfl rfl)
theorem dX2_tenths_53 : decode cX2_tenths 53 = .ok (.if_icmp .ne 7, 3) := dk_160 0 7 (dk_at dksX2_tenths_2 5 rfl rfl)
theorem dX2_tenths_56 : decode cX2_tenths 56 = .ok (.iconst 1, 1) := dk_4 (dk_at dksX2_tenths_2 8 rfl rfl)
theorem dX2_tenths_57 : decode cX2_tenths 57 = .ok (.goto 4, 3) := dk_167 0 4 (dk_at dksX2_tenths_2 9 rfl rfl)
theorem dX2_tenths_60 : decode cX2_tenths 60 = .ok (.iconst 0, 1) := dk_3 (dk_at dksX2_tenths_2 12 rfl rfl)
theorem dX2_tenths_61 : decode cX2_tenths 61 = .ok (.invokevirtual 178, 3) := dk_182 0 178 (dk_at dksX2_tenths_2 13 rfl rfl)
theorem dX2_tenths_64 : decode cX2_tenths 64 = .ok (.aload_n 0, 1) := dk_42 (dk_at dksX2_tenths_2 16 rfl rfl)
theorem dX2_tenths_65 : decode cX2_tenths 65 = .ok (.invokevirtual 175, 3) := dk_182 0 175 (dk_at dksX2_tenths_2 17 rfl rfl)
theorem dX2_tenths_68 : decode cX2_tenths 68 = .ok (.bipush 48, 2) := dk_16 48 (dk_at dksX2_tenths_2 20 rfl rfl)
theorem dX2_tenths_70 : decode cX2_tenths 70 = .ok (.isub, 1) := dk_100 (dk_at dksX2_tenths_2 22 rfl rfl)
theorem dX2_tenths_71 : decode cX2_tenths 71 = .ok (.istore_n 3, 1) := dk_62 (dk_at dksX2_tenths_2 23 rfl rfl)
theorem dX2_tenths_72 : decode cX2_tenths 72 = .ok (.aload_n 0, 1) := dk_42 (dk_at dksX2_tenths_3 0 rfl rfl)
theorem dX2_tenths_73 : decode cX2_tenths 73 = .ok (.aload_n 0, 1) := dk_42 (dk_at dksX2_tenths_3 1 rfl rfl)
theorem dX2_tenths_74 : decode cX2_tenths 74 = .ok (.invokevirtual 175, 3) := dk_182 0 175 (dk_at dksX2_tenths_3 2 rfl rfl)
theorem dX2_tenths_77 : decode cX2_tenths 77 = .ok (.bipush 48, 2) := dk_16 48 (dk_at dksX2_tenths_3 5 rfl rfl)
theorem dX2_tenths_79 : decode cX2_tenths 79 = .ok (.bipush 57, 2) := dk_16 57 (dk_at dksX2_tenths_3 7 rfl rfl)
theorem dX2_tenths_81 : decode cX2_tenths 81 = .ok (.invokestatic 53, 3) := dk_184 0 53 (dk_at dksX2_tenths_3 9 rfl rfl)
theorem dX2_tenths_84 : decode cX2_tenths 84 = .ok (.invokevirtual 178, 3) := dk_182 0 178 (dk_at dksX2_tenths_3 12 rfl rfl)
theorem dX2_tenths_87 : decode cX2_tenths 87 = .ok (.iload_n 1, 1) := dk_27 (dk_at dksX2_tenths_3 15 rfl rfl)
theorem dX2_tenths_88 : decode cX2_tenths 88 = .ok (.ifCond .eq 13, 3) := dk_153 0 13 (dk_at dksX2_tenths_3 16 rfl rfl)
theorem dX2_tenths_91 : decode cX2_tenths 91 = .ok (.bipush 10, 2) := dk_16 10 (dk_at dksX2_tenths_3 19 rfl rfl)
theorem dX2_tenths_93 : decode cX2_tenths 93 = .ok (.iload_n 2, 1) := dk_28 (dk_at dksX2_tenths_3 21 rfl rfl)
theorem dX2_tenths_94 : decode cX2_tenths 94 = .ok (.imul, 1) := dk_104 (dk_at dksX2_tenths_3 22 rfl rfl)
theorem dX2_tenths_95 : decode cX2_tenths 95 = .ok (.iload_n 3, 1) := dk_29 (dk_at dksX2_tenths_3 23 rfl rfl)
theorem dX2_tenths_96 : decode cX2_tenths 96 = .ok (.iadd, 1) := dk_96 (dk_at dksX2_tenths_4 0 rfl rfl)
theorem dX2_tenths_97 : decode cX2_tenths 97 = .ok (.ineg, 1) := dk_116 (dk_at dksX2_tenths_4 1 rfl rfl)
theorem dX2_tenths_98 : decode cX2_tenths 98 = .ok (.goto 9, 3) := dk_167 0 9 (dk_at dksX2_tenths_4 2 rfl rfl)
theorem dX2_tenths_101 : decode cX2_tenths 101 = .ok (.bipush 10, 2) := dk_16 10 (dk_at dksX2_tenths_4 5 rfl rfl)
theorem dX2_tenths_103 : decode cX2_tenths 103 = .ok (.iload_n 2, 1) := dk_28 (dk_at dksX2_tenths_4 7 rfl rfl)
theorem dX2_tenths_104 : decode cX2_tenths 104 = .ok (.imul, 1) := dk_104 (dk_at dksX2_tenths_4 8 rfl rfl)
theorem dX2_tenths_105 : decode cX2_tenths 105 = .ok (.iload_n 3, 1) := dk_29 (dk_at dksX2_tenths_4 9 rfl rfl)
theorem dX2_tenths_106 : decode cX2_tenths 106 = .ok (.iadd, 1) := dk_96 (dk_at dksX2_tenths_4 10 rfl rfl)
theorem dX2_tenths_107 : decode cX2_tenths 107 = .ok (.ireturn, 1) := dk_172 (dk_at dksX2_tenths_4 11 rfl rfl)
abbrev cX2_bitsOf : ByteArray := prog_9_method_50_code
def yX2_bitsOf : MethodName := ⟨RX2, "bitsOf", "(I)I"⟩
def dkwX2_bitsOf_0 : List UInt8 := [26, 134, 18, 124, 110, 184, 0, 138, 172]
abbrev dktX2_bitsOf_0 : List UInt8 := dkwX2_bitsOf_0 ++ []
theorem dksX2_bitsOf_0 : cX2_bitsOf.data.toList.drop 0 = dktX2_bitsOf_0 := by decide +kernel
theorem dX2_bitsOf_0 : decode cX2_bitsOf 0 = .ok (.iload_n 0, 1) := dk_26 (dk_at dksX2_bitsOf_0 0 rfl rfl)
theorem dX2_bitsOf_1 : decode cX2_bitsOf 1 = .ok (.i2f, 1) := dk_134 (dk_at dksX2_bitsOf_0 1 rfl rfl)
theorem dX2_bitsOf_2 : decode cX2_bitsOf 2 = .ok (.ldc 124, 2) := dk_18 124 (dk_at dksX2_bitsOf_0 2 rfl rfl)
theorem dX2_bitsOf_4 : decode cX2_bitsOf 4 = .ok (.fdiv, 1) := dk_110 (dk_at dksX2_bitsOf_0 4 rfl rfl)
theorem dX2_bitsOf_5 : decode cX2_bitsOf 5 = .ok (.invokestatic 138, 3) := dk_184 0 138 (dk_at dksX2_bitsOf_0 5 rfl rfl)
theorem dX2_bitsOf_8 : decode cX2_bitsOf 8 = .ok (.ireturn, 1) := dk_172 (dk_at dksX2_bitsOf_0 8 rfl rfl)
abbrev cX2_putBack : ByteArray := prog_9_method_15_code
def yX2_putBack : MethodName := ⟨RX2, "putBack", "()V"⟩
def dkwX2_putBack_1 : List UInt8 := [167, 255, 234, 177]
abbrev dktX2_putBack_1 : List UInt8 := dkwX2_putBack_1 ++ []
def dkwX2_putBack_0 : List UInt8 := [3, 60, 27, 17, 1, 36, 162, 0, 21, 42, 180, 0, 7, 27, 42, 180, 0, 13, 27, 46, 79, 132, 1, 1]
abbrev dktX2_putBack_0 : List UInt8 := dkwX2_putBack_0 ++ dktX2_putBack_1
theorem dksX2_putBack_0 : cX2_putBack.data.toList.drop 0 = dktX2_putBack_0 := by decide +kernel
theorem dksX2_putBack_1 : cX2_putBack.data.toList.drop 24 = dktX2_putBack_1 := dk_seg dksX2_putBack_0 24 rfl rfl
theorem dX2_putBack_0 : decode cX2_putBack 0 = .ok (.iconst 0, 1) := dk_3 (dk_at dksX2_putBack_0 0 rfl rfl)
theorem dX2_putBack_1 : decode cX2_putBack 1 = .ok (.istore_n 1, 1) := dk_60 (dk_at dksX2_putBack_0 1 rfl rfl)
theorem dX2_putBack_2 : decode cX2_putBack 2 = .ok (.iload_n 1, 1) := dk_27 (dk_at dksX2_putBack_0 2 rfl rfl)
theorem dX2_putBack_3 : decode cX2_putBack 3 = .ok (.sipush 292, 3) := dk_17 1 36 (dk_at dksX2_putBack_0 3 rfl rfl)
theorem dX2_putBack_6 : decode cX2_putBack 6 = .ok (.if_icmp .ge 21, 3) := dk_162 0 21 (dk_at dksX2_putBack_0 6 rfl rfl)
theorem dX2_putBack_9 : decode cX2_putBack 9 = .ok (.aload_n 0, 1) := dk_42 (dk_at dksX2_putBack_0 9 rfl rfl)
theorem dX2_putBack_10 : decode cX2_putBack 10 = .ok (.getfield 7, 3) := dk_180 0 7 (dk_at dksX2_putBack_0 10 rfl rfl)
theorem dX2_putBack_13 : decode cX2_putBack 13 = .ok (.iload_n 1, 1) := dk_27 (dk_at dksX2_putBack_0 13 rfl rfl)
theorem dX2_putBack_14 : decode cX2_putBack 14 = .ok (.aload_n 0, 1) := dk_42 (dk_at dksX2_putBack_0 14 rfl rfl)
theorem dX2_putBack_15 : decode cX2_putBack 15 = .ok (.getfield 13, 3) := dk_180 0 13 (dk_at dksX2_putBack_0 15 rfl rfl)
theorem dX2_putBack_18 : decode cX2_putBack 18 = .ok (.iload_n 1, 1) := dk_27 (dk_at dksX2_putBack_0 18 rfl rfl)
theorem dX2_putBack_19 : decode cX2_putBack 19 = .ok (.iaload, 1) := dk_46 (dk_at dksX2_putBack_0 19 rfl rfl)
theorem dX2_putBack_20 : decode cX2_putBack 20 = .ok (.iastore, 1) := dk_79 (dk_at dksX2_putBack_0 20 rfl rfl)
theorem dX2_putBack_21 : decode cX2_putBack 21 = .ok (.iinc 1 1, 3) := dk_132 1 1 (dk_at dksX2_putBack_0 21 rfl rfl)
theorem dX2_putBack_24 : decode cX2_putBack 24 = .ok (.goto (-22), 3) := dk_167 255 234 (dk_at dksX2_putBack_1 0 rfl rfl)
theorem dX2_putBack_27 : decode cX2_putBack 27 = .ok (.return_, 1) := dk_177 (dk_at dksX2_putBack_1 3 rfl rfl)
abbrev cX2_undo : ByteArray := prog_9_method_52_code
def yX2_undo : MethodName := ⟨RX2, "undo", "()I"⟩
def dkwX2_undo_2 : List UInt8 := [42, 180, 0, 63, 104, 27, 96, 46, 79, 132, 1, 1, 167, 255, 225, 42, 180, 0, 63, 172]
abbrev dktX2_undo_2 : List UInt8 := dkwX2_undo_2 ++ []
def dkwX2_undo_1 : List UInt8 := [181, 0, 63, 3, 60, 27, 17, 1, 36, 162, 0, 30, 42, 180, 0, 7, 27, 42, 180, 0, 19, 17, 1, 36]
abbrev dktX2_undo_1 : List UInt8 := dkwX2_undo_1 ++ dktX2_undo_2
def dkwX2_undo_0 : List UInt8 := [42, 3, 181, 0, 39, 42, 180, 0, 63, 154, 0, 6, 16, 251, 172, 42, 89, 180, 0, 63, 4, 100]
abbrev dktX2_undo_0 : List UInt8 := dkwX2_undo_0 ++ dktX2_undo_1
theorem dksX2_undo_0 : cX2_undo.data.toList.drop 0 = dktX2_undo_0 := by decide +kernel
theorem dksX2_undo_1 : cX2_undo.data.toList.drop 22 = dktX2_undo_1 := dk_seg dksX2_undo_0 22 rfl rfl
theorem dksX2_undo_2 : cX2_undo.data.toList.drop 46 = dktX2_undo_2 := dk_seg dksX2_undo_1 24 rfl rfl
theorem dX2_undo_0 : decode cX2_undo 0 = .ok (.aload_n 0, 1) := dk_42 (dk_at dksX2_undo_0 0 rfl rfl)
theorem dX2_undo_1 : decode cX2_undo 1 = .ok (.iconst 0, 1) := dk_3 (dk_at dksX2_undo_0 1 rfl rfl)
theorem dX2_undo_2 : decode cX2_undo 2 = .ok (.putfield 39, 3) := dk_181 0 39 (dk_at dksX2_undo_0 2 rfl rfl)
theorem dX2_undo_5 : decode cX2_undo 5 = .ok (.aload_n 0, 1) := dk_42 (dk_at dksX2_undo_0 5 rfl rfl)
theorem dX2_undo_6 : decode cX2_undo 6 = .ok (.getfield 63, 3) := dk_180 0 63 (dk_at dksX2_undo_0 6 rfl rfl)
theorem dX2_undo_9 : decode cX2_undo 9 = .ok (.ifCond .ne 6, 3) := dk_154 0 6 (dk_at dksX2_undo_0 9 rfl rfl)
theorem dX2_undo_12 : decode cX2_undo 12 = .ok (.bipush (-5), 2) := dk_16 251 (dk_at dksX2_undo_0 12 rfl rfl)
theorem dX2_undo_14 : decode cX2_undo 14 = .ok (.ireturn, 1) := dk_172 (dk_at dksX2_undo_0 14 rfl rfl)
theorem dX2_undo_15 : decode cX2_undo 15 = .ok (.aload_n 0, 1) := dk_42 (dk_at dksX2_undo_0 15 rfl rfl)
theorem dX2_undo_16 : decode cX2_undo 16 = .ok (.dup, 1) := dk_89 (dk_at dksX2_undo_0 16 rfl rfl)
theorem dX2_undo_17 : decode cX2_undo 17 = .ok (.getfield 63, 3) := dk_180 0 63 (dk_at dksX2_undo_0 17 rfl rfl)
theorem dX2_undo_20 : decode cX2_undo 20 = .ok (.iconst 1, 1) := dk_4 (dk_at dksX2_undo_0 20 rfl rfl)
theorem dX2_undo_21 : decode cX2_undo 21 = .ok (.isub, 1) := dk_100 (dk_at dksX2_undo_0 21 rfl rfl)
theorem dX2_undo_22 : decode cX2_undo 22 = .ok (.putfield 63, 3) := dk_181 0 63 (dk_at dksX2_undo_1 0 rfl rfl)
theorem dX2_undo_25 : decode cX2_undo 25 = .ok (.iconst 0, 1) := dk_3 (dk_at dksX2_undo_1 3 rfl rfl)
theorem dX2_undo_26 : decode cX2_undo 26 = .ok (.istore_n 1, 1) := dk_60 (dk_at dksX2_undo_1 4 rfl rfl)
theorem dX2_undo_27 : decode cX2_undo 27 = .ok (.iload_n 1, 1) := dk_27 (dk_at dksX2_undo_1 5 rfl rfl)
theorem dX2_undo_28 : decode cX2_undo 28 = .ok (.sipush 292, 3) := dk_17 1 36 (dk_at dksX2_undo_1 6 rfl rfl)
theorem dX2_undo_31 : decode cX2_undo 31 = .ok (.if_icmp .ge 30, 3) := dk_162 0 30 (dk_at dksX2_undo_1 9 rfl rfl)
theorem dX2_undo_34 : decode cX2_undo 34 = .ok (.aload_n 0, 1) := dk_42 (dk_at dksX2_undo_1 12 rfl rfl)
theorem dX2_undo_35 : decode cX2_undo 35 = .ok (.getfield 7, 3) := dk_180 0 7 (dk_at dksX2_undo_1 13 rfl rfl)
theorem dX2_undo_38 : decode cX2_undo 38 = .ok (.iload_n 1, 1) := dk_27 (dk_at dksX2_undo_1 16 rfl rfl)
theorem dX2_undo_39 : decode cX2_undo 39 = .ok (.aload_n 0, 1) := dk_42 (dk_at dksX2_undo_1 17 rfl rfl)
theorem dX2_undo_40 : decode cX2_undo 40 = .ok (.getfield 19, 3) := dk_180 0 19 (dk_at dksX2_undo_1 18 rfl rfl)
theorem dX2_undo_43 : decode cX2_undo 43 = .ok (.sipush 292, 3) := dk_17 1 36 (dk_at dksX2_undo_1 21 rfl rfl)
theorem dX2_undo_46 : decode cX2_undo 46 = .ok (.aload_n 0, 1) := dk_42 (dk_at dksX2_undo_2 0 rfl rfl)
theorem dX2_undo_47 : decode cX2_undo 47 = .ok (.getfield 63, 3) := dk_180 0 63 (dk_at dksX2_undo_2 1 rfl rfl)
theorem dX2_undo_50 : decode cX2_undo 50 = .ok (.imul, 1) := dk_104 (dk_at dksX2_undo_2 4 rfl rfl)
theorem dX2_undo_51 : decode cX2_undo 51 = .ok (.iload_n 1, 1) := dk_27 (dk_at dksX2_undo_2 5 rfl rfl)
theorem dX2_undo_52 : decode cX2_undo 52 = .ok (.iadd, 1) := dk_96 (dk_at dksX2_undo_2 6 rfl rfl)
theorem dX2_undo_53 : decode cX2_undo 53 = .ok (.iaload, 1) := dk_46 (dk_at dksX2_undo_2 7 rfl rfl)
theorem dX2_undo_54 : decode cX2_undo 54 = .ok (.iastore, 1) := dk_79 (dk_at dksX2_undo_2 8 rfl rfl)
theorem dX2_undo_55 : decode cX2_undo 55 = .ok (.iinc 1 1, 3) := dk_132 1 1 (dk_at dksX2_undo_2 9 rfl rfl)
theorem dX2_undo_58 : decode cX2_undo 58 = .ok (.goto (-31), 3) := dk_167 255 225 (dk_at dksX2_undo_2 12 rfl rfl)
theorem dX2_undo_61 : decode cX2_undo 61 = .ok (.aload_n 0, 1) := dk_42 (dk_at dksX2_undo_2 15 rfl rfl)
theorem dX2_undo_62 : decode cX2_undo 62 = .ok (.getfield 63, 3) := dk_180 0 63 (dk_at dksX2_undo_2 16 rfl rfl)
theorem dX2_undo_65 : decode cX2_undo 65 = .ok (.ireturn, 1) := dk_172 (dk_at dksX2_undo_2 19 rfl rfl)
abbrev cX2_keep : ByteArray := prog_9_method_53_code
def yX2_keep : MethodName := ⟨RX2, "keep", "()I"⟩
def dkwX2_keep_1 : List UInt8 := [46, 79, 132, 1, 1, 167, 255, 234, 42, 4, 181, 0, 201, 42, 182, 0, 134, 172]
abbrev dktX2_keep_1 : List UInt8 := dkwX2_keep_1 ++ []
def dkwX2_keep_0 : List UInt8 := [42, 3, 181, 0, 39, 3, 60, 27, 17, 1, 36, 162, 0, 21, 42, 180, 0, 16, 27, 42, 180, 0, 7, 27]
abbrev dktX2_keep_0 : List UInt8 := dkwX2_keep_0 ++ dktX2_keep_1
theorem dksX2_keep_0 : cX2_keep.data.toList.drop 0 = dktX2_keep_0 := by decide +kernel
theorem dksX2_keep_1 : cX2_keep.data.toList.drop 24 = dktX2_keep_1 := dk_seg dksX2_keep_0 24 rfl rfl
theorem dX2_keep_0 : decode cX2_keep 0 = .ok (.aload_n 0, 1) := dk_42 (dk_at dksX2_keep_0 0 rfl rfl)
theorem dX2_keep_1 : decode cX2_keep 1 = .ok (.iconst 0, 1) := dk_3 (dk_at dksX2_keep_0 1 rfl rfl)
theorem dX2_keep_2 : decode cX2_keep 2 = .ok (.putfield 39, 3) := dk_181 0 39 (dk_at dksX2_keep_0 2 rfl rfl)
theorem dX2_keep_5 : decode cX2_keep 5 = .ok (.iconst 0, 1) := dk_3 (dk_at dksX2_keep_0 5 rfl rfl)
theorem dX2_keep_6 : decode cX2_keep 6 = .ok (.istore_n 1, 1) := dk_60 (dk_at dksX2_keep_0 6 rfl rfl)
theorem dX2_keep_7 : decode cX2_keep 7 = .ok (.iload_n 1, 1) := dk_27 (dk_at dksX2_keep_0 7 rfl rfl)
theorem dX2_keep_8 : decode cX2_keep 8 = .ok (.sipush 292, 3) := dk_17 1 36 (dk_at dksX2_keep_0 8 rfl rfl)
theorem dX2_keep_11 : decode cX2_keep 11 = .ok (.if_icmp .ge 21, 3) := dk_162 0 21 (dk_at dksX2_keep_0 11 rfl rfl)
theorem dX2_keep_14 : decode cX2_keep 14 = .ok (.aload_n 0, 1) := dk_42 (dk_at dksX2_keep_0 14 rfl rfl)
theorem dX2_keep_15 : decode cX2_keep 15 = .ok (.getfield 16, 3) := dk_180 0 16 (dk_at dksX2_keep_0 15 rfl rfl)
theorem dX2_keep_18 : decode cX2_keep 18 = .ok (.iload_n 1, 1) := dk_27 (dk_at dksX2_keep_0 18 rfl rfl)
theorem dX2_keep_19 : decode cX2_keep 19 = .ok (.aload_n 0, 1) := dk_42 (dk_at dksX2_keep_0 19 rfl rfl)
theorem dX2_keep_20 : decode cX2_keep 20 = .ok (.getfield 7, 3) := dk_180 0 7 (dk_at dksX2_keep_0 20 rfl rfl)
theorem dX2_keep_23 : decode cX2_keep 23 = .ok (.iload_n 1, 1) := dk_27 (dk_at dksX2_keep_0 23 rfl rfl)
theorem dX2_keep_24 : decode cX2_keep 24 = .ok (.iaload, 1) := dk_46 (dk_at dksX2_keep_1 0 rfl rfl)
theorem dX2_keep_25 : decode cX2_keep 25 = .ok (.iastore, 1) := dk_79 (dk_at dksX2_keep_1 1 rfl rfl)
theorem dX2_keep_26 : decode cX2_keep 26 = .ok (.iinc 1 1, 3) := dk_132 1 1 (dk_at dksX2_keep_1 2 rfl rfl)
theorem dX2_keep_29 : decode cX2_keep 29 = .ok (.goto (-22), 3) := dk_167 255 234 (dk_at dksX2_keep_1 5 rfl rfl)
theorem dX2_keep_32 : decode cX2_keep 32 = .ok (.aload_n 0, 1) := dk_42 (dk_at dksX2_keep_1 8 rfl rfl)
theorem dX2_keep_33 : decode cX2_keep 33 = .ok (.iconst 1, 1) := dk_4 (dk_at dksX2_keep_1 9 rfl rfl)
theorem dX2_keep_34 : decode cX2_keep 34 = .ok (.putfield 201, 3) := dk_181 0 201 (dk_at dksX2_keep_1 10 rfl rfl)
theorem dX2_keep_37 : decode cX2_keep 37 = .ok (.aload_n 0, 1) := dk_42 (dk_at dksX2_keep_1 13 rfl rfl)
theorem dX2_keep_38 : decode cX2_keep 38 = .ok (.invokevirtual 134, 3) := dk_182 0 134 (dk_at dksX2_keep_1 14 rfl rfl)
theorem dX2_keep_41 : decode cX2_keep 41 = .ok (.ireturn, 1) := dk_172 (dk_at dksX2_keep_1 17 rfl rfl)
abbrev cX2_restore : ByteArray := prog_9_method_54_code
def yX2_restore : MethodName := ⟨RX2, "restore", "()I"⟩
def dkwX2_restore_2 : List UInt8 := [182, 0, 110, 172]
abbrev dktX2_restore_2 : List UInt8 := dkwX2_restore_2 ++ []
def dkwX2_restore_1 : List UInt8 := [180, 0, 7, 27, 42, 180, 0, 16, 27, 46, 79, 132, 1, 1, 167, 255, 234, 42, 42, 182, 0, 134]
abbrev dktX2_restore_1 : List UInt8 := dkwX2_restore_1 ++ dktX2_restore_2
def dkwX2_restore_0 : List UInt8 := [42, 182, 0, 107, 42, 180, 0, 201, 154, 0, 6, 16, 251, 172, 3, 60, 27, 17, 1, 36, 162, 0, 21, 42]
abbrev dktX2_restore_0 : List UInt8 := dkwX2_restore_0 ++ dktX2_restore_1
theorem dksX2_restore_0 : cX2_restore.data.toList.drop 0 = dktX2_restore_0 := by decide +kernel
theorem dksX2_restore_1 : cX2_restore.data.toList.drop 24 = dktX2_restore_1 := dk_seg dksX2_restore_0 24 rfl rfl
theorem dksX2_restore_2 : cX2_restore.data.toList.drop 46 = dktX2_restore_2 := dk_seg dksX2_restore_1 22 rfl rfl
theorem dX2_restore_0 : decode cX2_restore 0 = .ok (.aload_n 0, 1) := dk_42 (dk_at dksX2_restore_0 0 rfl rfl)
theorem dX2_restore_1 : decode cX2_restore 1 = .ok (.invokevirtual 107, 3) := dk_182 0 107 (dk_at dksX2_restore_0 1 rfl rfl)
theorem dX2_restore_4 : decode cX2_restore 4 = .ok (.aload_n 0, 1) := dk_42 (dk_at dksX2_restore_0 4 rfl rfl)
theorem dX2_restore_5 : decode cX2_restore 5 = .ok (.getfield 201, 3) := dk_180 0 201 (dk_at dksX2_restore_0 5 rfl rfl)
theorem dX2_restore_8 : decode cX2_restore 8 = .ok (.ifCond .ne 6, 3) := dk_154 0 6 (dk_at dksX2_restore_0 8 rfl rfl)
theorem dX2_restore_11 : decode cX2_restore 11 = .ok (.bipush (-5), 2) := dk_16 251 (dk_at dksX2_restore_0 11 rfl rfl)
theorem dX2_restore_13 : decode cX2_restore 13 = .ok (.ireturn, 1) := dk_172 (dk_at dksX2_restore_0 13 rfl rfl)
theorem dX2_restore_14 : decode cX2_restore 14 = .ok (.iconst 0, 1) := dk_3 (dk_at dksX2_restore_0 14 rfl rfl)
theorem dX2_restore_15 : decode cX2_restore 15 = .ok (.istore_n 1, 1) := dk_60 (dk_at dksX2_restore_0 15 rfl rfl)
theorem dX2_restore_16 : decode cX2_restore 16 = .ok (.iload_n 1, 1) := dk_27 (dk_at dksX2_restore_0 16 rfl rfl)
theorem dX2_restore_17 : decode cX2_restore 17 = .ok (.sipush 292, 3) := dk_17 1 36 (dk_at dksX2_restore_0 17 rfl rfl)
theorem dX2_restore_20 : decode cX2_restore 20 = .ok (.if_icmp .ge 21, 3) := dk_162 0 21 (dk_at dksX2_restore_0 20 rfl rfl)
theorem dX2_restore_23 : decode cX2_restore 23 = .ok (.aload_n 0, 1) := dk_42 (dk_at dksX2_restore_0 23 rfl rfl)
theorem dX2_restore_24 : decode cX2_restore 24 = .ok (.getfield 7, 3) := dk_180 0 7 (dk_at dksX2_restore_1 0 rfl rfl)
theorem dX2_restore_27 : decode cX2_restore 27 = .ok (.iload_n 1, 1) := dk_27 (dk_at dksX2_restore_1 3 rfl rfl)
theorem dX2_restore_28 : decode cX2_restore 28 = .ok (.aload_n 0, 1) := dk_42 (dk_at dksX2_restore_1 4 rfl rfl)
theorem dX2_restore_29 : decode cX2_restore 29 = .ok (.getfield 16, 3) := dk_180 0 16 (dk_at dksX2_restore_1 5 rfl rfl)
theorem dX2_restore_32 : decode cX2_restore 32 = .ok (.iload_n 1, 1) := dk_27 (dk_at dksX2_restore_1 8 rfl rfl)
theorem dX2_restore_33 : decode cX2_restore 33 = .ok (.iaload, 1) := dk_46 (dk_at dksX2_restore_1 9 rfl rfl)
theorem dX2_restore_34 : decode cX2_restore 34 = .ok (.iastore, 1) := dk_79 (dk_at dksX2_restore_1 10 rfl rfl)
theorem dX2_restore_35 : decode cX2_restore 35 = .ok (.iinc 1 1, 3) := dk_132 1 1 (dk_at dksX2_restore_1 11 rfl rfl)
theorem dX2_restore_38 : decode cX2_restore 38 = .ok (.goto (-22), 3) := dk_167 255 234 (dk_at dksX2_restore_1 14 rfl rfl)
theorem dX2_restore_41 : decode cX2_restore 41 = .ok (.aload_n 0, 1) := dk_42 (dk_at dksX2_restore_1 17 rfl rfl)
theorem dX2_restore_42 : decode cX2_restore 42 = .ok (.aload_n 0, 1) := dk_42 (dk_at dksX2_restore_1 18 rfl rfl)
theorem dX2_restore_43 : decode cX2_restore 43 = .ok (.invokevirtual 134, 3) := dk_182 0 134 (dk_at dksX2_restore_1 19 rfl rfl)
theorem dX2_restore_46 : decode cX2_restore 46 = .ok (.invokevirtual 110, 3) := dk_182 0 110 (dk_at dksX2_restore_2 0 rfl rfl)
theorem dX2_restore_49 : decode cX2_restore 49 = .ok (.ireturn, 1) := dk_172 (dk_at dksX2_restore_2 3 rfl rfl)
abbrev cX2_value : ByteArray := prog_9_method_55_code
def yX2_value : MethodName := ⟨RX2, "value", "(I)F"⟩
def dkwX2_value_1 : List UInt8 := [180, 0, 83, 153, 0, 7, 36, 167, 0, 5, 18, 204, 174]
abbrev dktX2_value_1 : List UInt8 := dkwX2_value_1 ++ []
def dkwX2_value_0 : List UInt8 := [42, 3, 181, 0, 39, 27, 184, 0, 125, 154, 0, 6, 18, 204, 174, 42, 27, 182, 0, 94, 69, 42]
abbrev dktX2_value_0 : List UInt8 := dkwX2_value_0 ++ dktX2_value_1
theorem dksX2_value_0 : cX2_value.data.toList.drop 0 = dktX2_value_0 := by decide +kernel
theorem dksX2_value_1 : cX2_value.data.toList.drop 22 = dktX2_value_1 := dk_seg dksX2_value_0 22 rfl rfl
theorem dX2_value_0 : decode cX2_value 0 = .ok (.aload_n 0, 1) := dk_42 (dk_at dksX2_value_0 0 rfl rfl)
theorem dX2_value_1 : decode cX2_value 1 = .ok (.iconst 0, 1) := dk_3 (dk_at dksX2_value_0 1 rfl rfl)
theorem dX2_value_2 : decode cX2_value 2 = .ok (.putfield 39, 3) := dk_181 0 39 (dk_at dksX2_value_0 2 rfl rfl)
theorem dX2_value_5 : decode cX2_value 5 = .ok (.iload_n 1, 1) := dk_27 (dk_at dksX2_value_0 5 rfl rfl)
theorem dX2_value_6 : decode cX2_value 6 = .ok (.invokestatic 125, 3) := dk_184 0 125 (dk_at dksX2_value_0 6 rfl rfl)
theorem dX2_value_9 : decode cX2_value 9 = .ok (.ifCond .ne 6, 3) := dk_154 0 6 (dk_at dksX2_value_0 9 rfl rfl)
theorem dX2_value_12 : decode cX2_value 12 = .ok (.ldc 204, 2) := dk_18 204 (dk_at dksX2_value_0 12 rfl rfl)
theorem dX2_value_14 : decode cX2_value 14 = .ok (.freturn, 1) := dk_174 (dk_at dksX2_value_0 14 rfl rfl)
theorem dX2_value_15 : decode cX2_value 15 = .ok (.aload_n 0, 1) := dk_42 (dk_at dksX2_value_0 15 rfl rfl)
theorem dX2_value_16 : decode cX2_value 16 = .ok (.iload_n 1, 1) := dk_27 (dk_at dksX2_value_0 16 rfl rfl)
theorem dX2_value_17 : decode cX2_value 17 = .ok (.invokevirtual 94, 3) := dk_182 0 94 (dk_at dksX2_value_0 17 rfl rfl)
theorem dX2_value_20 : decode cX2_value 20 = .ok (.fstore_n 2, 1) := dk_69 (dk_at dksX2_value_0 20 rfl rfl)
theorem dX2_value_21 : decode cX2_value 21 = .ok (.aload_n 0, 1) := dk_42 (dk_at dksX2_value_0 21 rfl rfl)
theorem dX2_value_22 : decode cX2_value 22 = .ok (.getfield 83, 3) := dk_180 0 83 (dk_at dksX2_value_1 0 rfl rfl)
theorem dX2_value_25 : decode cX2_value 25 = .ok (.ifCond .eq 7, 3) := dk_153 0 7 (dk_at dksX2_value_1 3 rfl rfl)
theorem dX2_value_28 : decode cX2_value 28 = .ok (.fload_n 2, 1) := dk_36 (dk_at dksX2_value_1 6 rfl rfl)
theorem dX2_value_29 : decode cX2_value 29 = .ok (.goto 5, 3) := dk_167 0 5 (dk_at dksX2_value_1 7 rfl rfl)
theorem dX2_value_32 : decode cX2_value 32 = .ok (.ldc 204, 2) := dk_18 204 (dk_at dksX2_value_1 10 rfl rfl)
theorem dX2_value_34 : decode cX2_value 34 = .ok (.freturn, 1) := dk_174 (dk_at dksX2_value_1 12 rfl rfl)
abbrev cX2_valueBy : ByteArray := prog_9_method_22_code
def yX2_valueBy : MethodName := ⟨RX2, "valueBy", "(I)F"⟩
def dkwX2_valueBy_3 : List UInt8 := [180, 0, 25, 21, 4, 46, 37, 182, 0, 90, 70, 132, 4, 255, 167, 255, 228, 37, 174]
abbrev dktX2_valueBy_3 : List UInt8 := dkwX2_valueBy_3 ++ []
def dkwX2_valueBy_2 : List UInt8 := [7, 182, 0, 77, 70, 28, 4, 100, 54, 4, 21, 4, 155, 0, 29, 42, 180, 0, 83, 153, 0, 22, 42, 42]
abbrev dktX2_valueBy_2 : List UInt8 := dkwX2_valueBy_2 ++ dktX2_valueBy_3
def dkwX2_valueBy_1 : List UInt8 := [4, 167, 0, 4, 3, 181, 0, 83, 42, 180, 0, 83, 154, 0, 5, 11, 174, 42, 42, 180, 0, 25, 28, 46]
abbrev dktX2_valueBy_1 : List UInt8 := dkwX2_valueBy_1 ++ dktX2_valueBy_2
def dkwX2_valueBy_0 : List UInt8 := [42, 27, 182, 0, 87, 61, 42, 28, 16, 251, 159, 0, 18, 42, 180, 0, 25, 28, 46, 16, 251, 159, 0, 7]
abbrev dktX2_valueBy_0 : List UInt8 := dkwX2_valueBy_0 ++ dktX2_valueBy_1
theorem dksX2_valueBy_0 : cX2_valueBy.data.toList.drop 0 = dktX2_valueBy_0 := by decide +kernel
theorem dksX2_valueBy_1 : cX2_valueBy.data.toList.drop 24 = dktX2_valueBy_1 := dk_seg dksX2_valueBy_0 24 rfl rfl
theorem dksX2_valueBy_2 : cX2_valueBy.data.toList.drop 48 = dktX2_valueBy_2 := dk_seg dksX2_valueBy_1 24 rfl rfl
theorem dksX2_valueBy_3 : cX2_valueBy.data.toList.drop 72 = dktX2_valueBy_3 := dk_seg dksX2_valueBy_2 24 rfl rfl
theorem dX2_valueBy_0 : decode cX2_valueBy 0 = .ok (.aload_n 0, 1) := dk_42 (dk_at dksX2_valueBy_0 0 rfl rfl)
theorem dX2_valueBy_1 : decode cX2_valueBy 1 = .ok (.iload_n 1, 1) := dk_27 (dk_at dksX2_valueBy_0 1 rfl rfl)
theorem dX2_valueBy_2 : decode cX2_valueBy 2 = .ok (.invokevirtual 87, 3) := dk_182 0 87 (dk_at dksX2_valueBy_0 2 rfl rfl)
theorem dX2_valueBy_5 : decode cX2_valueBy 5 = .ok (.istore_n 2, 1) := dk_61 (dk_at dksX2_valueBy_0 5 rfl rfl)
theorem dX2_valueBy_6 : decode cX2_valueBy 6 = .ok (.aload_n 0, 1) := dk_42 (dk_at dksX2_valueBy_0 6 rfl rfl)
theorem dX2_valueBy_7 : decode cX2_valueBy 7 = .ok (.iload_n 2, 1) := dk_28 (dk_at dksX2_valueBy_0 7 rfl rfl)
theorem dX2_valueBy_8 : decode cX2_valueBy 8 = .ok (.bipush (-5), 2) := dk_16 251 (dk_at dksX2_valueBy_0 8 rfl rfl)
theorem dX2_valueBy_10 : decode cX2_valueBy 10 = .ok (.if_icmp .eq 18, 3) := dk_159 0 18 (dk_at dksX2_valueBy_0 10 rfl rfl)
theorem dX2_valueBy_13 : decode cX2_valueBy 13 = .ok (.aload_n 0, 1) := dk_42 (dk_at dksX2_valueBy_0 13 rfl rfl)
theorem dX2_valueBy_14 : decode cX2_valueBy 14 = .ok (.getfield 25, 3) := dk_180 0 25 (dk_at dksX2_valueBy_0 14 rfl rfl)
theorem dX2_valueBy_17 : decode cX2_valueBy 17 = .ok (.iload_n 2, 1) := dk_28 (dk_at dksX2_valueBy_0 17 rfl rfl)
theorem dX2_valueBy_18 : decode cX2_valueBy 18 = .ok (.iaload, 1) := dk_46 (dk_at dksX2_valueBy_0 18 rfl rfl)
theorem dX2_valueBy_19 : decode cX2_valueBy 19 = .ok (.bipush (-5), 2) := dk_16 251 (dk_at dksX2_valueBy_0 19 rfl rfl)
theorem dX2_valueBy_21 : decode cX2_valueBy 21 = .ok (.if_icmp .eq 7, 3) := dk_159 0 7 (dk_at dksX2_valueBy_0 21 rfl rfl)
theorem dX2_valueBy_24 : decode cX2_valueBy 24 = .ok (.iconst 1, 1) := dk_4 (dk_at dksX2_valueBy_1 0 rfl rfl)
theorem dX2_valueBy_25 : decode cX2_valueBy 25 = .ok (.goto 4, 3) := dk_167 0 4 (dk_at dksX2_valueBy_1 1 rfl rfl)
theorem dX2_valueBy_28 : decode cX2_valueBy 28 = .ok (.iconst 0, 1) := dk_3 (dk_at dksX2_valueBy_1 4 rfl rfl)
theorem dX2_valueBy_29 : decode cX2_valueBy 29 = .ok (.putfield 83, 3) := dk_181 0 83 (dk_at dksX2_valueBy_1 5 rfl rfl)
theorem dX2_valueBy_32 : decode cX2_valueBy 32 = .ok (.aload_n 0, 1) := dk_42 (dk_at dksX2_valueBy_1 8 rfl rfl)
theorem dX2_valueBy_33 : decode cX2_valueBy 33 = .ok (.getfield 83, 3) := dk_180 0 83 (dk_at dksX2_valueBy_1 9 rfl rfl)
theorem dX2_valueBy_36 : decode cX2_valueBy 36 = .ok (.ifCond .ne 5, 3) := dk_154 0 5 (dk_at dksX2_valueBy_1 12 rfl rfl)
theorem dX2_valueBy_39 : decode cX2_valueBy 39 = .ok (.fconst 0, 1) := dk_11 (dk_at dksX2_valueBy_1 15 rfl rfl)
theorem dX2_valueBy_40 : decode cX2_valueBy 40 = .ok (.freturn, 1) := dk_174 (dk_at dksX2_valueBy_1 16 rfl rfl)
theorem dX2_valueBy_41 : decode cX2_valueBy 41 = .ok (.aload_n 0, 1) := dk_42 (dk_at dksX2_valueBy_1 17 rfl rfl)
theorem dX2_valueBy_42 : decode cX2_valueBy 42 = .ok (.aload_n 0, 1) := dk_42 (dk_at dksX2_valueBy_1 18 rfl rfl)
theorem dX2_valueBy_43 : decode cX2_valueBy 43 = .ok (.getfield 25, 3) := dk_180 0 25 (dk_at dksX2_valueBy_1 19 rfl rfl)
theorem dX2_valueBy_46 : decode cX2_valueBy 46 = .ok (.iload_n 2, 1) := dk_28 (dk_at dksX2_valueBy_1 22 rfl rfl)
theorem dX2_valueBy_47 : decode cX2_valueBy 47 = .ok (.iaload, 1) := dk_46 (dk_at dksX2_valueBy_1 23 rfl rfl)
theorem dX2_valueBy_48 : decode cX2_valueBy 48 = .ok (.iconst 4, 1) := dk_7 (dk_at dksX2_valueBy_2 0 rfl rfl)
theorem dX2_valueBy_49 : decode cX2_valueBy 49 = .ok (.invokevirtual 77, 3) := dk_182 0 77 (dk_at dksX2_valueBy_2 1 rfl rfl)
theorem dX2_valueBy_52 : decode cX2_valueBy 52 = .ok (.fstore_n 3, 1) := dk_70 (dk_at dksX2_valueBy_2 4 rfl rfl)
theorem dX2_valueBy_53 : decode cX2_valueBy 53 = .ok (.iload_n 2, 1) := dk_28 (dk_at dksX2_valueBy_2 5 rfl rfl)
theorem dX2_valueBy_54 : decode cX2_valueBy 54 = .ok (.iconst 1, 1) := dk_4 (dk_at dksX2_valueBy_2 6 rfl rfl)
theorem dX2_valueBy_55 : decode cX2_valueBy 55 = .ok (.isub, 1) := dk_100 (dk_at dksX2_valueBy_2 7 rfl rfl)
theorem dX2_valueBy_56 : decode cX2_valueBy 56 = .ok (.istore 4, 2) := dk_54 4 (dk_at dksX2_valueBy_2 8 rfl rfl)
theorem dX2_valueBy_58 : decode cX2_valueBy 58 = .ok (.iload 4, 2) := dk_21 4 (dk_at dksX2_valueBy_2 10 rfl rfl)
theorem dX2_valueBy_60 : decode cX2_valueBy 60 = .ok (.ifCond .lt 29, 3) := dk_155 0 29 (dk_at dksX2_valueBy_2 12 rfl rfl)
theorem dX2_valueBy_63 : decode cX2_valueBy 63 = .ok (.aload_n 0, 1) := dk_42 (dk_at dksX2_valueBy_2 15 rfl rfl)
theorem dX2_valueBy_64 : decode cX2_valueBy 64 = .ok (.getfield 83, 3) := dk_180 0 83 (dk_at dksX2_valueBy_2 16 rfl rfl)
theorem dX2_valueBy_67 : decode cX2_valueBy 67 = .ok (.ifCond .eq 22, 3) := dk_153 0 22 (dk_at dksX2_valueBy_2 19 rfl rfl)
theorem dX2_valueBy_70 : decode cX2_valueBy 70 = .ok (.aload_n 0, 1) := dk_42 (dk_at dksX2_valueBy_2 22 rfl rfl)
theorem dX2_valueBy_71 : decode cX2_valueBy 71 = .ok (.aload_n 0, 1) := dk_42 (dk_at dksX2_valueBy_2 23 rfl rfl)
theorem dX2_valueBy_72 : decode cX2_valueBy 72 = .ok (.getfield 25, 3) := dk_180 0 25 (dk_at dksX2_valueBy_3 0 rfl rfl)
theorem dX2_valueBy_75 : decode cX2_valueBy 75 = .ok (.iload 4, 2) := dk_21 4 (dk_at dksX2_valueBy_3 3 rfl rfl)
theorem dX2_valueBy_77 : decode cX2_valueBy 77 = .ok (.iaload, 1) := dk_46 (dk_at dksX2_valueBy_3 5 rfl rfl)
theorem dX2_valueBy_78 : decode cX2_valueBy 78 = .ok (.fload_n 3, 1) := dk_37 (dk_at dksX2_valueBy_3 6 rfl rfl)
theorem dX2_valueBy_79 : decode cX2_valueBy 79 = .ok (.invokevirtual 90, 3) := dk_182 0 90 (dk_at dksX2_valueBy_3 7 rfl rfl)
theorem dX2_valueBy_82 : decode cX2_valueBy 82 = .ok (.fstore_n 3, 1) := dk_70 (dk_at dksX2_valueBy_3 10 rfl rfl)
theorem dX2_valueBy_83 : decode cX2_valueBy 83 = .ok (.iinc 4 (-1), 3) := dk_132 4 255 (dk_at dksX2_valueBy_3 11 rfl rfl)
theorem dX2_valueBy_86 : decode cX2_valueBy 86 = .ok (.goto (-28), 3) := dk_167 255 228 (dk_at dksX2_valueBy_3 14 rfl rfl)
theorem dX2_valueBy_89 : decode cX2_valueBy 89 = .ok (.fload_n 3, 1) := dk_37 (dk_at dksX2_valueBy_3 17 rfl rfl)
theorem dX2_valueBy_90 : decode cX2_valueBy 90 = .ok (.freturn, 1) := dk_174 (dk_at dksX2_valueBy_3 18 rfl rfl)
abbrev cX2_lays : ByteArray := prog_9_method_20_code
def yX2_lays : MethodName := ⟨RX2, "lays", "(I)I"⟩
def dkwX2_lays_3 : List UInt8 := [16, 251, 172]
abbrev dktX2_lays_3 : List UInt8 := dkwX2_lays_3 ++ []
def dkwX2_lays_2 : List UInt8 := [160, 0, 5, 29, 172, 42, 42, 180, 0, 25, 29, 46, 5, 182, 0, 49, 61, 132, 3, 1, 167, 255, 195]
abbrev dktX2_lays_2 : List UInt8 := dkwX2_lays_2 ++ dktX2_lays_3
def dkwX2_lays_1 : List UInt8 := [180, 0, 25, 29, 46, 16, 251, 159, 0, 19, 42, 42, 180, 0, 25, 29, 46, 5, 182, 0, 49, 16, 251]
abbrev dktX2_lays_1 : List UInt8 := dkwX2_lays_1 ++ dktX2_lays_2
def dkwX2_lays_0 : List UInt8 := [27, 61, 3, 62, 29, 16, 17, 162, 0, 61, 42, 180, 0, 25, 29, 42, 28, 182, 0, 74, 79, 42]
abbrev dktX2_lays_0 : List UInt8 := dkwX2_lays_0 ++ dktX2_lays_1
theorem dksX2_lays_0 : cX2_lays.data.toList.drop 0 = dktX2_lays_0 := by decide +kernel
theorem dksX2_lays_1 : cX2_lays.data.toList.drop 22 = dktX2_lays_1 := dk_seg dksX2_lays_0 22 rfl rfl
theorem dksX2_lays_2 : cX2_lays.data.toList.drop 45 = dktX2_lays_2 := dk_seg dksX2_lays_1 23 rfl rfl
theorem dksX2_lays_3 : cX2_lays.data.toList.drop 68 = dktX2_lays_3 := dk_seg dksX2_lays_2 23 rfl rfl
theorem dX2_lays_0 : decode cX2_lays 0 = .ok (.iload_n 1, 1) := dk_27 (dk_at dksX2_lays_0 0 rfl rfl)
theorem dX2_lays_1 : decode cX2_lays 1 = .ok (.istore_n 2, 1) := dk_61 (dk_at dksX2_lays_0 1 rfl rfl)
theorem dX2_lays_2 : decode cX2_lays 2 = .ok (.iconst 0, 1) := dk_3 (dk_at dksX2_lays_0 2 rfl rfl)
theorem dX2_lays_3 : decode cX2_lays 3 = .ok (.istore_n 3, 1) := dk_62 (dk_at dksX2_lays_0 3 rfl rfl)
theorem dX2_lays_4 : decode cX2_lays 4 = .ok (.iload_n 3, 1) := dk_29 (dk_at dksX2_lays_0 4 rfl rfl)
theorem dX2_lays_5 : decode cX2_lays 5 = .ok (.bipush 17, 2) := dk_16 17 (dk_at dksX2_lays_0 5 rfl rfl)
theorem dX2_lays_7 : decode cX2_lays 7 = .ok (.if_icmp .ge 61, 3) := dk_162 0 61 (dk_at dksX2_lays_0 7 rfl rfl)
theorem dX2_lays_10 : decode cX2_lays 10 = .ok (.aload_n 0, 1) := dk_42 (dk_at dksX2_lays_0 10 rfl rfl)
theorem dX2_lays_11 : decode cX2_lays 11 = .ok (.getfield 25, 3) := dk_180 0 25 (dk_at dksX2_lays_0 11 rfl rfl)
theorem dX2_lays_14 : decode cX2_lays 14 = .ok (.iload_n 3, 1) := dk_29 (dk_at dksX2_lays_0 14 rfl rfl)
theorem dX2_lays_15 : decode cX2_lays 15 = .ok (.aload_n 0, 1) := dk_42 (dk_at dksX2_lays_0 15 rfl rfl)
theorem dX2_lays_16 : decode cX2_lays 16 = .ok (.iload_n 2, 1) := dk_28 (dk_at dksX2_lays_0 16 rfl rfl)
theorem dX2_lays_17 : decode cX2_lays 17 = .ok (.invokevirtual 74, 3) := dk_182 0 74 (dk_at dksX2_lays_0 17 rfl rfl)
theorem dX2_lays_20 : decode cX2_lays 20 = .ok (.iastore, 1) := dk_79 (dk_at dksX2_lays_0 20 rfl rfl)
theorem dX2_lays_21 : decode cX2_lays 21 = .ok (.aload_n 0, 1) := dk_42 (dk_at dksX2_lays_0 21 rfl rfl)
theorem dX2_lays_22 : decode cX2_lays 22 = .ok (.getfield 25, 3) := dk_180 0 25 (dk_at dksX2_lays_1 0 rfl rfl)
theorem dX2_lays_25 : decode cX2_lays 25 = .ok (.iload_n 3, 1) := dk_29 (dk_at dksX2_lays_1 3 rfl rfl)
theorem dX2_lays_26 : decode cX2_lays 26 = .ok (.iaload, 1) := dk_46 (dk_at dksX2_lays_1 4 rfl rfl)
theorem dX2_lays_27 : decode cX2_lays 27 = .ok (.bipush (-5), 2) := dk_16 251 (dk_at dksX2_lays_1 5 rfl rfl)
theorem dX2_lays_29 : decode cX2_lays 29 = .ok (.if_icmp .eq 19, 3) := dk_159 0 19 (dk_at dksX2_lays_1 7 rfl rfl)
theorem dX2_lays_32 : decode cX2_lays 32 = .ok (.aload_n 0, 1) := dk_42 (dk_at dksX2_lays_1 10 rfl rfl)
theorem dX2_lays_33 : decode cX2_lays 33 = .ok (.aload_n 0, 1) := dk_42 (dk_at dksX2_lays_1 11 rfl rfl)
theorem dX2_lays_34 : decode cX2_lays 34 = .ok (.getfield 25, 3) := dk_180 0 25 (dk_at dksX2_lays_1 12 rfl rfl)
theorem dX2_lays_37 : decode cX2_lays 37 = .ok (.iload_n 3, 1) := dk_29 (dk_at dksX2_lays_1 15 rfl rfl)
theorem dX2_lays_38 : decode cX2_lays 38 = .ok (.iaload, 1) := dk_46 (dk_at dksX2_lays_1 16 rfl rfl)
theorem dX2_lays_39 : decode cX2_lays 39 = .ok (.iconst 2, 1) := dk_5 (dk_at dksX2_lays_1 17 rfl rfl)
theorem dX2_lays_40 : decode cX2_lays 40 = .ok (.invokevirtual 49, 3) := dk_182 0 49 (dk_at dksX2_lays_1 18 rfl rfl)
theorem dX2_lays_43 : decode cX2_lays 43 = .ok (.bipush (-5), 2) := dk_16 251 (dk_at dksX2_lays_1 21 rfl rfl)
theorem dX2_lays_45 : decode cX2_lays 45 = .ok (.if_icmp .ne 5, 3) := dk_160 0 5 (dk_at dksX2_lays_2 0 rfl rfl)
theorem dX2_lays_48 : decode cX2_lays 48 = .ok (.iload_n 3, 1) := dk_29 (dk_at dksX2_lays_2 3 rfl rfl)
theorem dX2_lays_49 : decode cX2_lays 49 = .ok (.ireturn, 1) := dk_172 (dk_at dksX2_lays_2 4 rfl rfl)
theorem dX2_lays_50 : decode cX2_lays 50 = .ok (.aload_n 0, 1) := dk_42 (dk_at dksX2_lays_2 5 rfl rfl)
theorem dX2_lays_51 : decode cX2_lays 51 = .ok (.aload_n 0, 1) := dk_42 (dk_at dksX2_lays_2 6 rfl rfl)
theorem dX2_lays_52 : decode cX2_lays 52 = .ok (.getfield 25, 3) := dk_180 0 25 (dk_at dksX2_lays_2 7 rfl rfl)
theorem dX2_lays_55 : decode cX2_lays 55 = .ok (.iload_n 3, 1) := dk_29 (dk_at dksX2_lays_2 10 rfl rfl)
theorem dX2_lays_56 : decode cX2_lays 56 = .ok (.iaload, 1) := dk_46 (dk_at dksX2_lays_2 11 rfl rfl)
theorem dX2_lays_57 : decode cX2_lays 57 = .ok (.iconst 2, 1) := dk_5 (dk_at dksX2_lays_2 12 rfl rfl)
theorem dX2_lays_58 : decode cX2_lays 58 = .ok (.invokevirtual 49, 3) := dk_182 0 49 (dk_at dksX2_lays_2 13 rfl rfl)
theorem dX2_lays_61 : decode cX2_lays 61 = .ok (.istore_n 2, 1) := dk_61 (dk_at dksX2_lays_2 16 rfl rfl)
theorem dX2_lays_62 : decode cX2_lays 62 = .ok (.iinc 3 1, 3) := dk_132 3 1 (dk_at dksX2_lays_2 17 rfl rfl)
theorem dX2_lays_65 : decode cX2_lays 65 = .ok (.goto (-61), 3) := dk_167 255 195 (dk_at dksX2_lays_2 20 rfl rfl)
theorem dX2_lays_68 : decode cX2_lays 68 = .ok (.bipush (-5), 2) := dk_16 251 (dk_at dksX2_lays_3 0 rfl rfl)
theorem dX2_lays_70 : decode cX2_lays 70 = .ok (.ireturn, 1) := dk_172 (dk_at dksX2_lays_3 2 rfl rfl)
abbrev cX2_ruling : ByteArray := prog_9_method_19_code
def yX2_ruling : MethodName := ⟨RX2, "ruling", "(I)I"⟩
def dkwX2_ruling_2 : List UInt8 := [61, 132, 3, 1, 167, 255, 209, 28, 172]
abbrev dktX2_ruling_2 : List UInt8 := dkwX2_ruling_2 ++ []
def dkwX2_ruling_1 : List UInt8 := [28, 16, 251, 159, 0, 16, 42, 29, 182, 0, 70, 42, 28, 182, 0, 70, 161, 0, 7, 29, 167, 0, 4, 28]
abbrev dktX2_ruling_1 : List UInt8 := dkwX2_ruling_1 ++ dktX2_ruling_2
def dkwX2_ruling_0 : List UInt8 := [16, 251, 61, 3, 62, 29, 42, 180, 0, 7, 4, 46, 162, 0, 43, 42, 29, 27, 182, 0, 66, 153, 0, 26]
abbrev dktX2_ruling_0 : List UInt8 := dkwX2_ruling_0 ++ dktX2_ruling_1
theorem dksX2_ruling_0 : cX2_ruling.data.toList.drop 0 = dktX2_ruling_0 := by decide +kernel
theorem dksX2_ruling_1 : cX2_ruling.data.toList.drop 24 = dktX2_ruling_1 := dk_seg dksX2_ruling_0 24 rfl rfl
theorem dksX2_ruling_2 : cX2_ruling.data.toList.drop 48 = dktX2_ruling_2 := dk_seg dksX2_ruling_1 24 rfl rfl
theorem dX2_ruling_0 : decode cX2_ruling 0 = .ok (.bipush (-5), 2) := dk_16 251 (dk_at dksX2_ruling_0 0 rfl rfl)
theorem dX2_ruling_2 : decode cX2_ruling 2 = .ok (.istore_n 2, 1) := dk_61 (dk_at dksX2_ruling_0 2 rfl rfl)
theorem dX2_ruling_3 : decode cX2_ruling 3 = .ok (.iconst 0, 1) := dk_3 (dk_at dksX2_ruling_0 3 rfl rfl)
theorem dX2_ruling_4 : decode cX2_ruling 4 = .ok (.istore_n 3, 1) := dk_62 (dk_at dksX2_ruling_0 4 rfl rfl)
theorem dX2_ruling_5 : decode cX2_ruling 5 = .ok (.iload_n 3, 1) := dk_29 (dk_at dksX2_ruling_0 5 rfl rfl)
theorem dX2_ruling_6 : decode cX2_ruling 6 = .ok (.aload_n 0, 1) := dk_42 (dk_at dksX2_ruling_0 6 rfl rfl)
theorem dX2_ruling_7 : decode cX2_ruling 7 = .ok (.getfield 7, 3) := dk_180 0 7 (dk_at dksX2_ruling_0 7 rfl rfl)
theorem dX2_ruling_10 : decode cX2_ruling 10 = .ok (.iconst 1, 1) := dk_4 (dk_at dksX2_ruling_0 10 rfl rfl)
theorem dX2_ruling_11 : decode cX2_ruling 11 = .ok (.iaload, 1) := dk_46 (dk_at dksX2_ruling_0 11 rfl rfl)
theorem dX2_ruling_12 : decode cX2_ruling 12 = .ok (.if_icmp .ge 43, 3) := dk_162 0 43 (dk_at dksX2_ruling_0 12 rfl rfl)
theorem dX2_ruling_15 : decode cX2_ruling 15 = .ok (.aload_n 0, 1) := dk_42 (dk_at dksX2_ruling_0 15 rfl rfl)
theorem dX2_ruling_16 : decode cX2_ruling 16 = .ok (.iload_n 3, 1) := dk_29 (dk_at dksX2_ruling_0 16 rfl rfl)
theorem dX2_ruling_17 : decode cX2_ruling 17 = .ok (.iload_n 1, 1) := dk_27 (dk_at dksX2_ruling_0 17 rfl rfl)
theorem dX2_ruling_18 : decode cX2_ruling 18 = .ok (.invokevirtual 66, 3) := dk_182 0 66 (dk_at dksX2_ruling_0 18 rfl rfl)
theorem dX2_ruling_21 : decode cX2_ruling 21 = .ok (.ifCond .eq 26, 3) := dk_153 0 26 (dk_at dksX2_ruling_0 21 rfl rfl)
theorem dX2_ruling_24 : decode cX2_ruling 24 = .ok (.iload_n 2, 1) := dk_28 (dk_at dksX2_ruling_1 0 rfl rfl)
theorem dX2_ruling_25 : decode cX2_ruling 25 = .ok (.bipush (-5), 2) := dk_16 251 (dk_at dksX2_ruling_1 1 rfl rfl)
theorem dX2_ruling_27 : decode cX2_ruling 27 = .ok (.if_icmp .eq 16, 3) := dk_159 0 16 (dk_at dksX2_ruling_1 3 rfl rfl)
theorem dX2_ruling_30 : decode cX2_ruling 30 = .ok (.aload_n 0, 1) := dk_42 (dk_at dksX2_ruling_1 6 rfl rfl)
theorem dX2_ruling_31 : decode cX2_ruling 31 = .ok (.iload_n 3, 1) := dk_29 (dk_at dksX2_ruling_1 7 rfl rfl)
theorem dX2_ruling_32 : decode cX2_ruling 32 = .ok (.invokevirtual 70, 3) := dk_182 0 70 (dk_at dksX2_ruling_1 8 rfl rfl)
theorem dX2_ruling_35 : decode cX2_ruling 35 = .ok (.aload_n 0, 1) := dk_42 (dk_at dksX2_ruling_1 11 rfl rfl)
theorem dX2_ruling_36 : decode cX2_ruling 36 = .ok (.iload_n 2, 1) := dk_28 (dk_at dksX2_ruling_1 12 rfl rfl)
theorem dX2_ruling_37 : decode cX2_ruling 37 = .ok (.invokevirtual 70, 3) := dk_182 0 70 (dk_at dksX2_ruling_1 13 rfl rfl)
theorem dX2_ruling_40 : decode cX2_ruling 40 = .ok (.if_icmp .lt 7, 3) := dk_161 0 7 (dk_at dksX2_ruling_1 16 rfl rfl)
theorem dX2_ruling_43 : decode cX2_ruling 43 = .ok (.iload_n 3, 1) := dk_29 (dk_at dksX2_ruling_1 19 rfl rfl)
theorem dX2_ruling_44 : decode cX2_ruling 44 = .ok (.goto 4, 3) := dk_167 0 4 (dk_at dksX2_ruling_1 20 rfl rfl)
theorem dX2_ruling_47 : decode cX2_ruling 47 = .ok (.iload_n 2, 1) := dk_28 (dk_at dksX2_ruling_1 23 rfl rfl)
theorem dX2_ruling_48 : decode cX2_ruling 48 = .ok (.istore_n 2, 1) := dk_61 (dk_at dksX2_ruling_2 0 rfl rfl)
theorem dX2_ruling_49 : decode cX2_ruling 49 = .ok (.iinc 3 1, 3) := dk_132 3 1 (dk_at dksX2_ruling_2 1 rfl rfl)
theorem dX2_ruling_52 : decode cX2_ruling 52 = .ok (.goto (-47), 3) := dk_167 255 209 (dk_at dksX2_ruling_2 4 rfl rfl)
theorem dX2_ruling_55 : decode cX2_ruling 55 = .ok (.iload_n 2, 1) := dk_28 (dk_at dksX2_ruling_2 7 rfl rfl)
theorem dX2_ruling_56 : decode cX2_ruling 56 = .ok (.ireturn, 1) := dk_172 (dk_at dksX2_ruling_2 8 rfl rfl)
abbrev cX2_rankOf : ByteArray := prog_9_method_12_code
def yX2_rankOf : MethodName := ⟨RX2, "rankOf", "(I)I"⟩
def dkwX2_rankOf_0 : List UInt8 := [42, 180, 0, 7, 16, 6, 42, 27, 3, 182, 0, 49, 96, 46, 172]
abbrev dktX2_rankOf_0 : List UInt8 := dkwX2_rankOf_0 ++ []
theorem dksX2_rankOf_0 : cX2_rankOf.data.toList.drop 0 = dktX2_rankOf_0 := by decide +kernel
theorem dX2_rankOf_0 : decode cX2_rankOf 0 = .ok (.aload_n 0, 1) := dk_42 (dk_at dksX2_rankOf_0 0 rfl rfl)
theorem dX2_rankOf_1 : decode cX2_rankOf 1 = .ok (.getfield 7, 3) := dk_180 0 7 (dk_at dksX2_rankOf_0 1 rfl rfl)
theorem dX2_rankOf_4 : decode cX2_rankOf 4 = .ok (.bipush 6, 2) := dk_16 6 (dk_at dksX2_rankOf_0 4 rfl rfl)
theorem dX2_rankOf_6 : decode cX2_rankOf 6 = .ok (.aload_n 0, 1) := dk_42 (dk_at dksX2_rankOf_0 6 rfl rfl)
theorem dX2_rankOf_7 : decode cX2_rankOf 7 = .ok (.iload_n 1, 1) := dk_27 (dk_at dksX2_rankOf_0 7 rfl rfl)
theorem dX2_rankOf_8 : decode cX2_rankOf 8 = .ok (.iconst 0, 1) := dk_3 (dk_at dksX2_rankOf_0 8 rfl rfl)
theorem dX2_rankOf_9 : decode cX2_rankOf 9 = .ok (.invokevirtual 49, 3) := dk_182 0 49 (dk_at dksX2_rankOf_0 9 rfl rfl)
theorem dX2_rankOf_12 : decode cX2_rankOf 12 = .ok (.iadd, 1) := dk_96 (dk_at dksX2_rankOf_0 12 rfl rfl)
theorem dX2_rankOf_13 : decode cX2_rankOf 13 = .ok (.iaload, 1) := dk_46 (dk_at dksX2_rankOf_0 13 rfl rfl)
theorem dX2_rankOf_14 : decode cX2_rankOf 14 = .ok (.ireturn, 1) := dk_172 (dk_at dksX2_rankOf_0 14 rfl rfl)
abbrev cX2_by : ByteArray := prog_9_method_21_code
def yX2_by : MethodName := ⟨RX2, "by", "(IF)F"⟩
def dkwX2_by_1 : List UInt8 := [37, 18, 82, 150, 157, 0, 7, 4, 167, 0, 4, 3, 181, 0, 83, 37, 174]
abbrev dktX2_by_1 : List UInt8 := dkwX2_by_1 ++ []
def dkwX2_by_0 : List UInt8 := [36, 42, 27, 6, 182, 0, 77, 106, 42, 27, 7, 182, 0, 77, 98, 70, 42, 37, 18, 81, 149, 155, 0, 14]
abbrev dktX2_by_0 : List UInt8 := dkwX2_by_0 ++ dktX2_by_1
theorem dksX2_by_0 : cX2_by.data.toList.drop 0 = dktX2_by_0 := by decide +kernel
theorem dksX2_by_1 : cX2_by.data.toList.drop 24 = dktX2_by_1 := dk_seg dksX2_by_0 24 rfl rfl
theorem dX2_by_0 : decode cX2_by 0 = .ok (.fload_n 2, 1) := dk_36 (dk_at dksX2_by_0 0 rfl rfl)
theorem dX2_by_1 : decode cX2_by 1 = .ok (.aload_n 0, 1) := dk_42 (dk_at dksX2_by_0 1 rfl rfl)
theorem dX2_by_2 : decode cX2_by 2 = .ok (.iload_n 1, 1) := dk_27 (dk_at dksX2_by_0 2 rfl rfl)
theorem dX2_by_3 : decode cX2_by 3 = .ok (.iconst 3, 1) := dk_6 (dk_at dksX2_by_0 3 rfl rfl)
theorem dX2_by_4 : decode cX2_by 4 = .ok (.invokevirtual 77, 3) := dk_182 0 77 (dk_at dksX2_by_0 4 rfl rfl)
theorem dX2_by_7 : decode cX2_by 7 = .ok (.fmul, 1) := dk_106 (dk_at dksX2_by_0 7 rfl rfl)
theorem dX2_by_8 : decode cX2_by 8 = .ok (.aload_n 0, 1) := dk_42 (dk_at dksX2_by_0 8 rfl rfl)
theorem dX2_by_9 : decode cX2_by 9 = .ok (.iload_n 1, 1) := dk_27 (dk_at dksX2_by_0 9 rfl rfl)
theorem dX2_by_10 : decode cX2_by 10 = .ok (.iconst 4, 1) := dk_7 (dk_at dksX2_by_0 10 rfl rfl)
theorem dX2_by_11 : decode cX2_by 11 = .ok (.invokevirtual 77, 3) := dk_182 0 77 (dk_at dksX2_by_0 11 rfl rfl)
theorem dX2_by_14 : decode cX2_by 14 = .ok (.fadd, 1) := dk_98 (dk_at dksX2_by_0 14 rfl rfl)
theorem dX2_by_15 : decode cX2_by 15 = .ok (.fstore_n 3, 1) := dk_70 (dk_at dksX2_by_0 15 rfl rfl)
theorem dX2_by_16 : decode cX2_by 16 = .ok (.aload_n 0, 1) := dk_42 (dk_at dksX2_by_0 16 rfl rfl)
theorem dX2_by_17 : decode cX2_by 17 = .ok (.fload_n 3, 1) := dk_37 (dk_at dksX2_by_0 17 rfl rfl)
theorem dX2_by_18 : decode cX2_by 18 = .ok (.ldc 81, 2) := dk_18 81 (dk_at dksX2_by_0 18 rfl rfl)
theorem dX2_by_20 : decode cX2_by 20 = .ok (.fcmp .l, 1) := dk_149 (dk_at dksX2_by_0 20 rfl rfl)
theorem dX2_by_21 : decode cX2_by 21 = .ok (.ifCond .lt 14, 3) := dk_155 0 14 (dk_at dksX2_by_0 21 rfl rfl)
theorem dX2_by_24 : decode cX2_by 24 = .ok (.fload_n 3, 1) := dk_37 (dk_at dksX2_by_1 0 rfl rfl)
theorem dX2_by_25 : decode cX2_by 25 = .ok (.ldc 82, 2) := dk_18 82 (dk_at dksX2_by_1 1 rfl rfl)
theorem dX2_by_27 : decode cX2_by 27 = .ok (.fcmp .g, 1) := dk_150 (dk_at dksX2_by_1 3 rfl rfl)
theorem dX2_by_28 : decode cX2_by 28 = .ok (.ifCond .gt 7, 3) := dk_157 0 7 (dk_at dksX2_by_1 4 rfl rfl)
theorem dX2_by_31 : decode cX2_by 31 = .ok (.iconst 1, 1) := dk_4 (dk_at dksX2_by_1 7 rfl rfl)
theorem dX2_by_32 : decode cX2_by 32 = .ok (.goto 4, 3) := dk_167 0 4 (dk_at dksX2_by_1 8 rfl rfl)
theorem dX2_by_35 : decode cX2_by 35 = .ok (.iconst 0, 1) := dk_3 (dk_at dksX2_by_1 11 rfl rfl)
theorem dX2_by_36 : decode cX2_by 36 = .ok (.putfield 83, 3) := dk_181 0 83 (dk_at dksX2_by_1 12 rfl rfl)
theorem dX2_by_39 : decode cX2_by 39 = .ok (.fload_n 3, 1) := dk_37 (dk_at dksX2_by_1 15 rfl rfl)
theorem dX2_by_40 : decode cX2_by 40 = .ok (.freturn, 1) := dk_174 (dk_at dksX2_by_1 16 rfl rfl)
abbrev cX2_valueOf : ByteArray := prog_9_method_56_code
def yX2_valueOf : MethodName := ⟨RX2, "valueOf", "(I)F"⟩
def dkwX2_valueOf_1 : List UInt8 := [180, 0, 83, 153, 0, 7, 36, 167, 0, 5, 18, 204, 174]
abbrev dktX2_valueOf_1 : List UInt8 := dkwX2_valueOf_1 ++ []
def dkwX2_valueOf_0 : List UInt8 := [42, 3, 181, 0, 39, 42, 27, 182, 0, 149, 154, 0, 6, 18, 204, 174, 42, 27, 182, 0, 100, 69, 42]
abbrev dktX2_valueOf_0 : List UInt8 := dkwX2_valueOf_0 ++ dktX2_valueOf_1
theorem dksX2_valueOf_0 : cX2_valueOf.data.toList.drop 0 = dktX2_valueOf_0 := by decide +kernel
theorem dksX2_valueOf_1 : cX2_valueOf.data.toList.drop 23 = dktX2_valueOf_1 := dk_seg dksX2_valueOf_0 23 rfl rfl
theorem dX2_valueOf_0 : decode cX2_valueOf 0 = .ok (.aload_n 0, 1) := dk_42 (dk_at dksX2_valueOf_0 0 rfl rfl)
theorem dX2_valueOf_1 : decode cX2_valueOf 1 = .ok (.iconst 0, 1) := dk_3 (dk_at dksX2_valueOf_0 1 rfl rfl)
theorem dX2_valueOf_2 : decode cX2_valueOf 2 = .ok (.putfield 39, 3) := dk_181 0 39 (dk_at dksX2_valueOf_0 2 rfl rfl)
theorem dX2_valueOf_5 : decode cX2_valueOf 5 = .ok (.aload_n 0, 1) := dk_42 (dk_at dksX2_valueOf_0 5 rfl rfl)
theorem dX2_valueOf_6 : decode cX2_valueOf 6 = .ok (.iload_n 1, 1) := dk_27 (dk_at dksX2_valueOf_0 6 rfl rfl)
theorem dX2_valueOf_7 : decode cX2_valueOf 7 = .ok (.invokevirtual 149, 3) := dk_182 0 149 (dk_at dksX2_valueOf_0 7 rfl rfl)
theorem dX2_valueOf_10 : decode cX2_valueOf 10 = .ok (.ifCond .ne 6, 3) := dk_154 0 6 (dk_at dksX2_valueOf_0 10 rfl rfl)
theorem dX2_valueOf_13 : decode cX2_valueOf 13 = .ok (.ldc 204, 2) := dk_18 204 (dk_at dksX2_valueOf_0 13 rfl rfl)
theorem dX2_valueOf_15 : decode cX2_valueOf 15 = .ok (.freturn, 1) := dk_174 (dk_at dksX2_valueOf_0 15 rfl rfl)
theorem dX2_valueOf_16 : decode cX2_valueOf 16 = .ok (.aload_n 0, 1) := dk_42 (dk_at dksX2_valueOf_0 16 rfl rfl)
theorem dX2_valueOf_17 : decode cX2_valueOf 17 = .ok (.iload_n 1, 1) := dk_27 (dk_at dksX2_valueOf_0 17 rfl rfl)
theorem dX2_valueOf_18 : decode cX2_valueOf 18 = .ok (.invokevirtual 100, 3) := dk_182 0 100 (dk_at dksX2_valueOf_0 18 rfl rfl)
theorem dX2_valueOf_21 : decode cX2_valueOf 21 = .ok (.fstore_n 2, 1) := dk_69 (dk_at dksX2_valueOf_0 21 rfl rfl)
theorem dX2_valueOf_22 : decode cX2_valueOf 22 = .ok (.aload_n 0, 1) := dk_42 (dk_at dksX2_valueOf_0 22 rfl rfl)
theorem dX2_valueOf_23 : decode cX2_valueOf 23 = .ok (.getfield 83, 3) := dk_180 0 83 (dk_at dksX2_valueOf_1 0 rfl rfl)
theorem dX2_valueOf_26 : decode cX2_valueOf 26 = .ok (.ifCond .eq 7, 3) := dk_153 0 7 (dk_at dksX2_valueOf_1 3 rfl rfl)
theorem dX2_valueOf_29 : decode cX2_valueOf 29 = .ok (.fload_n 2, 1) := dk_36 (dk_at dksX2_valueOf_1 6 rfl rfl)
theorem dX2_valueOf_30 : decode cX2_valueOf 30 = .ok (.goto 5, 3) := dk_167 0 5 (dk_at dksX2_valueOf_1 7 rfl rfl)
theorem dX2_valueOf_33 : decode cX2_valueOf 33 = .ok (.ldc 204, 2) := dk_18 204 (dk_at dksX2_valueOf_1 10 rfl rfl)
theorem dX2_valueOf_35 : decode cX2_valueOf 35 = .ok (.freturn, 1) := dk_174 (dk_at dksX2_valueOf_1 12 rfl rfl)
abbrev cX2_valueOfOrder : ByteArray := prog_9_method_23_code
def yX2_valueOfOrder : MethodName := ⟨RX2, "valueOfOrder", "(I)F"⟩
def dkwX2_valueOfOrder_2 : List UInt8 := [167, 0, 4, 11, 174]
abbrev dktX2_valueOfOrder_2 : List UInt8 := dkwX2_valueOfOrder_2 ++ []
def dkwX2_valueOfOrder_1 : List UInt8 := [42, 27, 5, 182, 0, 49, 182, 0, 94, 69, 42, 180, 0, 83, 153, 0, 12, 42, 27, 36, 182, 0, 90]
abbrev dktX2_valueOfOrder_1 : List UInt8 := dkwX2_valueOfOrder_1 ++ dktX2_valueOfOrder_2
def dkwX2_valueOfOrder_0 : List UInt8 := [42, 27, 5, 182, 0, 49, 16, 251, 160, 0, 15, 42, 4, 181, 0, 83, 42, 27, 7, 182, 0, 77, 174, 42]
abbrev dktX2_valueOfOrder_0 : List UInt8 := dkwX2_valueOfOrder_0 ++ dktX2_valueOfOrder_1
theorem dksX2_valueOfOrder_0 : cX2_valueOfOrder.data.toList.drop 0 = dktX2_valueOfOrder_0 := by decide +kernel
theorem dksX2_valueOfOrder_1 : cX2_valueOfOrder.data.toList.drop 24 = dktX2_valueOfOrder_1 := dk_seg dksX2_valueOfOrder_0 24 rfl rfl
theorem dksX2_valueOfOrder_2 : cX2_valueOfOrder.data.toList.drop 47 = dktX2_valueOfOrder_2 := dk_seg dksX2_valueOfOrder_1 23 rfl rfl
theorem dX2_valueOfOrder_0 : decode cX2_valueOfOrder 0 = .ok (.aload_n 0, 1) := dk_42 (dk_at dksX2_valueOfOrder_0 0 rfl rfl)
theorem dX2_valueOfOrder_1 : decode cX2_valueOfOrder 1 = .ok (.iload_n 1, 1) := dk_27 (dk_at dksX2_valueOfOrder_0 1 rfl rfl)
theorem dX2_valueOfOrder_2 : decode cX2_valueOfOrder 2 = .ok (.iconst 2, 1) := dk_5 (dk_at dksX2_valueOfOrder_0 2 rfl rfl)
theorem dX2_valueOfOrder_3 : decode cX2_valueOfOrder 3 = .ok (.invokevirtual 49, 3) := dk_182 0 49 (dk_at dksX2_valueOfOrder_0 3 rfl rfl)
theorem dX2_valueOfOrder_6 : decode cX2_valueOfOrder 6 = .ok (.bipush (-5), 2) := dk_16 251 (dk_at dksX2_valueOfOrder_0 6 rfl rfl)
theorem dX2_valueOfOrder_8 : decode cX2_valueOfOrder 8 = .ok (.if_icmp .ne 15, 3) := dk_160 0 15 (dk_at dksX2_valueOfOrder_0 8 rfl rfl)
theorem dX2_valueOfOrder_11 : decode cX2_valueOfOrder 11 = .ok (.aload_n 0, 1) := dk_42 (dk_at dksX2_valueOfOrder_0 11 rfl rfl)
theorem dX2_valueOfOrder_12 : decode cX2_valueOfOrder 12 = .ok (.iconst 1, 1) := dk_4 (dk_at dksX2_valueOfOrder_0 12 rfl rfl)
theorem dX2_valueOfOrder_13 : decode cX2_valueOfOrder 13 = .ok (.putfield 83, 3) := dk_181 0 83 (dk_at dksX2_valueOfOrder_0 13 rfl rfl)
theorem dX2_valueOfOrder_16 : decode cX2_valueOfOrder 16 = .ok (.aload_n 0, 1) := dk_42 (dk_at dksX2_valueOfOrder_0 16 rfl rfl)
theorem dX2_valueOfOrder_17 : decode cX2_valueOfOrder 17 = .ok (.iload_n 1, 1) := dk_27 (dk_at dksX2_valueOfOrder_0 17 rfl rfl)
theorem dX2_valueOfOrder_18 : decode cX2_valueOfOrder 18 = .ok (.iconst 4, 1) := dk_7 (dk_at dksX2_valueOfOrder_0 18 rfl rfl)
theorem dX2_valueOfOrder_19 : decode cX2_valueOfOrder 19 = .ok (.invokevirtual 77, 3) := dk_182 0 77 (dk_at dksX2_valueOfOrder_0 19 rfl rfl)
theorem dX2_valueOfOrder_22 : decode cX2_valueOfOrder 22 = .ok (.freturn, 1) := dk_174 (dk_at dksX2_valueOfOrder_0 22 rfl rfl)
theorem dX2_valueOfOrder_23 : decode cX2_valueOfOrder 23 = .ok (.aload_n 0, 1) := dk_42 (dk_at dksX2_valueOfOrder_0 23 rfl rfl)
theorem dX2_valueOfOrder_24 : decode cX2_valueOfOrder 24 = .ok (.aload_n 0, 1) := dk_42 (dk_at dksX2_valueOfOrder_1 0 rfl rfl)
theorem dX2_valueOfOrder_25 : decode cX2_valueOfOrder 25 = .ok (.iload_n 1, 1) := dk_27 (dk_at dksX2_valueOfOrder_1 1 rfl rfl)
theorem dX2_valueOfOrder_26 : decode cX2_valueOfOrder 26 = .ok (.iconst 2, 1) := dk_5 (dk_at dksX2_valueOfOrder_1 2 rfl rfl)
theorem dX2_valueOfOrder_27 : decode cX2_valueOfOrder 27 = .ok (.invokevirtual 49, 3) := dk_182 0 49 (dk_at dksX2_valueOfOrder_1 3 rfl rfl)
theorem dX2_valueOfOrder_30 : decode cX2_valueOfOrder 30 = .ok (.invokevirtual 94, 3) := dk_182 0 94 (dk_at dksX2_valueOfOrder_1 6 rfl rfl)
theorem dX2_valueOfOrder_33 : decode cX2_valueOfOrder 33 = .ok (.fstore_n 2, 1) := dk_69 (dk_at dksX2_valueOfOrder_1 9 rfl rfl)
theorem dX2_valueOfOrder_34 : decode cX2_valueOfOrder 34 = .ok (.aload_n 0, 1) := dk_42 (dk_at dksX2_valueOfOrder_1 10 rfl rfl)
theorem dX2_valueOfOrder_35 : decode cX2_valueOfOrder 35 = .ok (.getfield 83, 3) := dk_180 0 83 (dk_at dksX2_valueOfOrder_1 11 rfl rfl)
theorem dX2_valueOfOrder_38 : decode cX2_valueOfOrder 38 = .ok (.ifCond .eq 12, 3) := dk_153 0 12 (dk_at dksX2_valueOfOrder_1 14 rfl rfl)
theorem dX2_valueOfOrder_41 : decode cX2_valueOfOrder 41 = .ok (.aload_n 0, 1) := dk_42 (dk_at dksX2_valueOfOrder_1 17 rfl rfl)
theorem dX2_valueOfOrder_42 : decode cX2_valueOfOrder 42 = .ok (.iload_n 1, 1) := dk_27 (dk_at dksX2_valueOfOrder_1 18 rfl rfl)
theorem dX2_valueOfOrder_43 : decode cX2_valueOfOrder 43 = .ok (.fload_n 2, 1) := dk_36 (dk_at dksX2_valueOfOrder_1 19 rfl rfl)
theorem dX2_valueOfOrder_44 : decode cX2_valueOfOrder 44 = .ok (.invokevirtual 90, 3) := dk_182 0 90 (dk_at dksX2_valueOfOrder_1 20 rfl rfl)
theorem dX2_valueOfOrder_47 : decode cX2_valueOfOrder 47 = .ok (.goto 4, 3) := dk_167 0 4 (dk_at dksX2_valueOfOrder_2 0 rfl rfl)
theorem dX2_valueOfOrder_50 : decode cX2_valueOfOrder 50 = .ok (.fconst 0, 1) := dk_11 (dk_at dksX2_valueOfOrder_2 3 rfl rfl)
theorem dX2_valueOfOrder_51 : decode cX2_valueOfOrder 51 = .ok (.freturn, 1) := dk_174 (dk_at dksX2_valueOfOrder_2 4 rfl rfl)
abbrev cX2_word : ByteArray := prog_9_method_60_code
def yX2_word : MethodName := ⟨RX2, "word", "(II)I"⟩
def dkwX2_word_4 : List UInt8 := [182, 0, 87, 172, 16, 254, 172]
abbrev dktX2_word_4 : List UInt8 := dkwX2_word_4 ++ []
def dkwX2_word_3 : List UInt8 := [153, 0, 7, 4, 167, 0, 4, 3, 172, 42, 27, 182, 0, 214, 172, 42, 27, 182, 0, 217, 172, 42, 27]
abbrev dktX2_word_3 : List UInt8 := dkwX2_word_3 ++ dktX2_word_4
def dkwX2_word_2 : List UInt8 := [42, 27, 182, 0, 74, 172, 42, 27, 182, 0, 208, 172, 42, 27, 3, 182, 0, 152, 172, 42, 27, 182, 0, 211]
abbrev dktX2_word_2 : List UInt8 := dkwX2_word_2 ++ dktX2_word_3
def dkwX2_word_1 : List UInt8 := [170, 0, 0, 0, 92, 0, 0, 0, 0, 0, 0, 0, 6, 0, 0, 0, 41, 0, 0, 0, 47, 0, 0, 0, 53, 0, 0, 0, 60, 0, 0, 0, 74, 0, 0, 0, 80, 0, 0, 0, 86]
abbrev dktX2_word_1 : List UInt8 := dkwX2_word_1 ++ dktX2_word_2
def dkwX2_word_0 : List UInt8 := [42, 3, 181, 0, 39, 27, 184, 0, 125, 154, 0, 5, 2, 172, 28]
abbrev dktX2_word_0 : List UInt8 := dkwX2_word_0 ++ dktX2_word_1
theorem dksX2_word_0 : cX2_word.data.toList.drop 0 = dktX2_word_0 := by decide +kernel
theorem dksX2_word_1 : cX2_word.data.toList.drop 15 = dktX2_word_1 := dk_seg dksX2_word_0 15 rfl rfl
theorem dksX2_word_2 : cX2_word.data.toList.drop 56 = dktX2_word_2 := dk_seg dksX2_word_1 41 rfl rfl
theorem dksX2_word_3 : cX2_word.data.toList.drop 80 = dktX2_word_3 := dk_seg dksX2_word_2 24 rfl rfl
theorem dksX2_word_4 : cX2_word.data.toList.drop 103 = dktX2_word_4 := dk_seg dksX2_word_3 23 rfl rfl
theorem dX2_word_0 : decode cX2_word 0 = .ok (.aload_n 0, 1) := dk_42 (dk_at dksX2_word_0 0 rfl rfl)
theorem dX2_word_1 : decode cX2_word 1 = .ok (.iconst 0, 1) := dk_3 (dk_at dksX2_word_0 1 rfl rfl)
theorem dX2_word_2 : decode cX2_word 2 = .ok (.putfield 39, 3) := dk_181 0 39 (dk_at dksX2_word_0 2 rfl rfl)
theorem dX2_word_5 : decode cX2_word 5 = .ok (.iload_n 1, 1) := dk_27 (dk_at dksX2_word_0 5 rfl rfl)
theorem dX2_word_6 : decode cX2_word 6 = .ok (.invokestatic 125, 3) := dk_184 0 125 (dk_at dksX2_word_0 6 rfl rfl)
theorem dX2_word_9 : decode cX2_word 9 = .ok (.ifCond .ne 5, 3) := dk_154 0 5 (dk_at dksX2_word_0 9 rfl rfl)
theorem dX2_word_12 : decode cX2_word 12 = .ok (.iconst (-1), 1) := dk_2 (dk_at dksX2_word_0 12 rfl rfl)
theorem dX2_word_13 : decode cX2_word 13 = .ok (.ireturn, 1) := dk_172 (dk_at dksX2_word_0 13 rfl rfl)
theorem dX2_word_14 : decode cX2_word 14 = .ok (.iload_n 2, 1) := dk_28 (dk_at dksX2_word_0 14 rfl rfl)
theorem dX2_word_15 : decode cX2_word 15 = .ok (.tableswitch 92 0 6 #[41, 47, 53, 60, 74, 80, 86], 41) := by decide +kernel
theorem dX2_word_56 : decode cX2_word 56 = .ok (.aload_n 0, 1) := dk_42 (dk_at dksX2_word_2 0 rfl rfl)
theorem dX2_word_57 : decode cX2_word 57 = .ok (.iload_n 1, 1) := dk_27 (dk_at dksX2_word_2 1 rfl rfl)
theorem dX2_word_58 : decode cX2_word 58 = .ok (.invokevirtual 74, 3) := dk_182 0 74 (dk_at dksX2_word_2 2 rfl rfl)
theorem dX2_word_61 : decode cX2_word 61 = .ok (.ireturn, 1) := dk_172 (dk_at dksX2_word_2 5 rfl rfl)
theorem dX2_word_62 : decode cX2_word 62 = .ok (.aload_n 0, 1) := dk_42 (dk_at dksX2_word_2 6 rfl rfl)
theorem dX2_word_63 : decode cX2_word 63 = .ok (.iload_n 1, 1) := dk_27 (dk_at dksX2_word_2 7 rfl rfl)
theorem dX2_word_64 : decode cX2_word 64 = .ok (.invokevirtual 208, 3) := dk_182 0 208 (dk_at dksX2_word_2 8 rfl rfl)
theorem dX2_word_67 : decode cX2_word 67 = .ok (.ireturn, 1) := dk_172 (dk_at dksX2_word_2 11 rfl rfl)
theorem dX2_word_68 : decode cX2_word 68 = .ok (.aload_n 0, 1) := dk_42 (dk_at dksX2_word_2 12 rfl rfl)
theorem dX2_word_69 : decode cX2_word 69 = .ok (.iload_n 1, 1) := dk_27 (dk_at dksX2_word_2 13 rfl rfl)
theorem dX2_word_70 : decode cX2_word 70 = .ok (.iconst 0, 1) := dk_3 (dk_at dksX2_word_2 14 rfl rfl)
theorem dX2_word_71 : decode cX2_word 71 = .ok (.invokevirtual 152, 3) := dk_182 0 152 (dk_at dksX2_word_2 15 rfl rfl)
theorem dX2_word_74 : decode cX2_word 74 = .ok (.ireturn, 1) := dk_172 (dk_at dksX2_word_2 18 rfl rfl)
theorem dX2_word_75 : decode cX2_word 75 = .ok (.aload_n 0, 1) := dk_42 (dk_at dksX2_word_2 19 rfl rfl)
theorem dX2_word_76 : decode cX2_word 76 = .ok (.iload_n 1, 1) := dk_27 (dk_at dksX2_word_2 20 rfl rfl)
theorem dX2_word_77 : decode cX2_word 77 = .ok (.invokevirtual 211, 3) := dk_182 0 211 (dk_at dksX2_word_2 21 rfl rfl)
theorem dX2_word_80 : decode cX2_word 80 = .ok (.ifCond .eq 7, 3) := dk_153 0 7 (dk_at dksX2_word_3 0 rfl rfl)
theorem dX2_word_83 : decode cX2_word 83 = .ok (.iconst 1, 1) := dk_4 (dk_at dksX2_word_3 3 rfl rfl)
theorem dX2_word_84 : decode cX2_word 84 = .ok (.goto 4, 3) := dk_167 0 4 (dk_at dksX2_word_3 4 rfl rfl)
theorem dX2_word_87 : decode cX2_word 87 = .ok (.iconst 0, 1) := dk_3 (dk_at dksX2_word_3 7 rfl rfl)
theorem dX2_word_88 : decode cX2_word 88 = .ok (.ireturn, 1) := dk_172 (dk_at dksX2_word_3 8 rfl rfl)
theorem dX2_word_89 : decode cX2_word 89 = .ok (.aload_n 0, 1) := dk_42 (dk_at dksX2_word_3 9 rfl rfl)
theorem dX2_word_90 : decode cX2_word 90 = .ok (.iload_n 1, 1) := dk_27 (dk_at dksX2_word_3 10 rfl rfl)
theorem dX2_word_91 : decode cX2_word 91 = .ok (.invokevirtual 214, 3) := dk_182 0 214 (dk_at dksX2_word_3 11 rfl rfl)
theorem dX2_word_94 : decode cX2_word 94 = .ok (.ireturn, 1) := dk_172 (dk_at dksX2_word_3 14 rfl rfl)
theorem dX2_word_95 : decode cX2_word 95 = .ok (.aload_n 0, 1) := dk_42 (dk_at dksX2_word_3 15 rfl rfl)
theorem dX2_word_96 : decode cX2_word 96 = .ok (.iload_n 1, 1) := dk_27 (dk_at dksX2_word_3 16 rfl rfl)
theorem dX2_word_97 : decode cX2_word 97 = .ok (.invokevirtual 217, 3) := dk_182 0 217 (dk_at dksX2_word_3 17 rfl rfl)
theorem dX2_word_100 : decode cX2_word 100 = .ok (.ireturn, 1) := dk_172 (dk_at dksX2_word_3 20 rfl rfl)
theorem dX2_word_101 : decode cX2_word 101 = .ok (.aload_n 0, 1) := dk_42 (dk_at dksX2_word_3 21 rfl rfl)
theorem dX2_word_102 : decode cX2_word 102 = .ok (.iload_n 1, 1) := dk_27 (dk_at dksX2_word_3 22 rfl rfl)
theorem dX2_word_103 : decode cX2_word 103 = .ok (.invokevirtual 87, 3) := dk_182 0 87 (dk_at dksX2_word_4 0 rfl rfl)
theorem dX2_word_106 : decode cX2_word 106 = .ok (.ireturn, 1) := dk_172 (dk_at dksX2_word_4 3 rfl rfl)
theorem dX2_word_107 : decode cX2_word 107 = .ok (.bipush (-2), 2) := dk_16 254 (dk_at dksX2_word_4 4 rfl rfl)
theorem dX2_word_109 : decode cX2_word 109 = .ok (.ireturn, 1) := dk_172 (dk_at dksX2_word_4 6 rfl rfl)
abbrev cX2_top : ByteArray := prog_9_method_57_code
def yX2_top : MethodName := ⟨RX2, "top", "(I)I"⟩
def dkwX2_top_1 : List UInt8 := [29, 167, 0, 4, 28, 61, 132, 3, 1, 167, 255, 228, 28, 172]
abbrev dktX2_top_1 : List UInt8 := dkwX2_top_1 ++ []
def dkwX2_top_0 : List UInt8 := [16, 251, 61, 3, 62, 29, 42, 180, 0, 7, 4, 46, 162, 0, 24, 42, 29, 27, 182, 0, 66, 153, 0, 7]
abbrev dktX2_top_0 : List UInt8 := dkwX2_top_0 ++ dktX2_top_1
theorem dksX2_top_0 : cX2_top.data.toList.drop 0 = dktX2_top_0 := by decide +kernel
theorem dksX2_top_1 : cX2_top.data.toList.drop 24 = dktX2_top_1 := dk_seg dksX2_top_0 24 rfl rfl
theorem dX2_top_0 : decode cX2_top 0 = .ok (.bipush (-5), 2) := dk_16 251 (dk_at dksX2_top_0 0 rfl rfl)
theorem dX2_top_2 : decode cX2_top 2 = .ok (.istore_n 2, 1) := dk_61 (dk_at dksX2_top_0 2 rfl rfl)
theorem dX2_top_3 : decode cX2_top 3 = .ok (.iconst 0, 1) := dk_3 (dk_at dksX2_top_0 3 rfl rfl)
theorem dX2_top_4 : decode cX2_top 4 = .ok (.istore_n 3, 1) := dk_62 (dk_at dksX2_top_0 4 rfl rfl)
theorem dX2_top_5 : decode cX2_top 5 = .ok (.iload_n 3, 1) := dk_29 (dk_at dksX2_top_0 5 rfl rfl)
theorem dX2_top_6 : decode cX2_top 6 = .ok (.aload_n 0, 1) := dk_42 (dk_at dksX2_top_0 6 rfl rfl)
theorem dX2_top_7 : decode cX2_top 7 = .ok (.getfield 7, 3) := dk_180 0 7 (dk_at dksX2_top_0 7 rfl rfl)
theorem dX2_top_10 : decode cX2_top 10 = .ok (.iconst 1, 1) := dk_4 (dk_at dksX2_top_0 10 rfl rfl)
theorem dX2_top_11 : decode cX2_top 11 = .ok (.iaload, 1) := dk_46 (dk_at dksX2_top_0 11 rfl rfl)
theorem dX2_top_12 : decode cX2_top 12 = .ok (.if_icmp .ge 24, 3) := dk_162 0 24 (dk_at dksX2_top_0 12 rfl rfl)
theorem dX2_top_15 : decode cX2_top 15 = .ok (.aload_n 0, 1) := dk_42 (dk_at dksX2_top_0 15 rfl rfl)
theorem dX2_top_16 : decode cX2_top 16 = .ok (.iload_n 3, 1) := dk_29 (dk_at dksX2_top_0 16 rfl rfl)
theorem dX2_top_17 : decode cX2_top 17 = .ok (.iload_n 1, 1) := dk_27 (dk_at dksX2_top_0 17 rfl rfl)
theorem dX2_top_18 : decode cX2_top 18 = .ok (.invokevirtual 66, 3) := dk_182 0 66 (dk_at dksX2_top_0 18 rfl rfl)
theorem dX2_top_21 : decode cX2_top 21 = .ok (.ifCond .eq 7, 3) := dk_153 0 7 (dk_at dksX2_top_0 21 rfl rfl)
theorem dX2_top_24 : decode cX2_top 24 = .ok (.iload_n 3, 1) := dk_29 (dk_at dksX2_top_1 0 rfl rfl)
theorem dX2_top_25 : decode cX2_top 25 = .ok (.goto 4, 3) := dk_167 0 4 (dk_at dksX2_top_1 1 rfl rfl)
theorem dX2_top_28 : decode cX2_top 28 = .ok (.iload_n 2, 1) := dk_28 (dk_at dksX2_top_1 4 rfl rfl)
theorem dX2_top_29 : decode cX2_top 29 = .ok (.istore_n 2, 1) := dk_61 (dk_at dksX2_top_1 5 rfl rfl)
theorem dX2_top_30 : decode cX2_top 30 = .ok (.iinc 3 1, 3) := dk_132 3 1 (dk_at dksX2_top_1 6 rfl rfl)
theorem dX2_top_33 : decode cX2_top 33 = .ok (.goto (-28), 3) := dk_167 255 228 (dk_at dksX2_top_1 9 rfl rfl)
theorem dX2_top_36 : decode cX2_top 36 = .ok (.iload_n 2, 1) := dk_28 (dk_at dksX2_top_1 12 rfl rfl)
theorem dX2_top_37 : decode cX2_top 37 = .ok (.ireturn, 1) := dk_172 (dk_at dksX2_top_1 13 rfl rfl)
abbrev cX2_hasValue : ByteArray := prog_9_method_58_code
def yX2_hasValue : MethodName := ⟨RX2, "hasValue", "(I)Z"⟩
def dkwX2_hasValue_0 : List UInt8 := [42, 27, 182, 0, 94, 87, 42, 180, 0, 83, 172]
abbrev dktX2_hasValue_0 : List UInt8 := dkwX2_hasValue_0 ++ []
theorem dksX2_hasValue_0 : cX2_hasValue.data.toList.drop 0 = dktX2_hasValue_0 := by decide +kernel
theorem dX2_hasValue_0 : decode cX2_hasValue 0 = .ok (.aload_n 0, 1) := dk_42 (dk_at dksX2_hasValue_0 0 rfl rfl)
theorem dX2_hasValue_1 : decode cX2_hasValue 1 = .ok (.iload_n 1, 1) := dk_27 (dk_at dksX2_hasValue_0 1 rfl rfl)
theorem dX2_hasValue_2 : decode cX2_hasValue 2 = .ok (.invokevirtual 94, 3) := dk_182 0 94 (dk_at dksX2_hasValue_0 2 rfl rfl)
theorem dX2_hasValue_5 : decode cX2_hasValue 5 = .ok (.pop, 1) := dk_87 (dk_at dksX2_hasValue_0 5 rfl rfl)
theorem dX2_hasValue_6 : decode cX2_hasValue 6 = .ok (.aload_n 0, 1) := dk_42 (dk_at dksX2_hasValue_0 6 rfl rfl)
theorem dX2_hasValue_7 : decode cX2_hasValue 7 = .ok (.getfield 83, 3) := dk_180 0 83 (dk_at dksX2_hasValue_0 7 rfl rfl)
theorem dX2_hasValue_10 : decode cX2_hasValue 10 = .ok (.ireturn, 1) := dk_172 (dk_at dksX2_hasValue_0 10 rfl rfl)
abbrev cX2_conflict : ByteArray := prog_9_method_25_code
def yX2_conflict : MethodName := ⟨RX2, "conflict", "(I)I"⟩
def dkwX2_conflict_5 : List UInt8 := [172]
abbrev dktX2_conflict_5 : List UInt8 := dkwX2_conflict_5 ++ []
def dkwX2_conflict_4 : List UInt8 := [37, 42, 180, 0, 83, 23, 6, 182, 0, 103, 153, 0, 6, 21, 5, 172, 132, 5, 255, 167, 255, 181, 16, 251]
abbrev dktX2_conflict_4 : List UInt8 := dkwX2_conflict_4 ++ dktX2_conflict_5
def dkwX2_conflict_3 : List UInt8 := [21, 5, 182, 0, 70, 42, 28, 182, 0, 70, 160, 0, 30, 42, 21, 5, 182, 0, 100, 56, 6, 42, 21, 4]
abbrev dktX2_conflict_3 : List UInt8 := dkwX2_conflict_3 ++ dktX2_conflict_4
def dkwX2_conflict_2 : List UInt8 := [182, 0, 66, 153, 0, 60, 42, 21, 5, 3, 182, 0, 49, 42, 28, 3, 182, 0, 49, 159, 0, 44, 42]
abbrev dktX2_conflict_2 : List UInt8 := dkwX2_conflict_2 ++ dktX2_conflict_3
def dkwX2_conflict_1 : List UInt8 := [180, 0, 83, 54, 4, 42, 180, 0, 7, 4, 46, 4, 100, 54, 5, 21, 5, 155, 0, 76, 42, 21, 5, 27]
abbrev dktX2_conflict_1 : List UInt8 := dkwX2_conflict_1 ++ dktX2_conflict_2
def dkwX2_conflict_0 : List UInt8 := [42, 27, 182, 0, 74, 61, 28, 16, 251, 160, 0, 6, 16, 251, 172, 42, 28, 182, 0, 100, 70, 42]
abbrev dktX2_conflict_0 : List UInt8 := dkwX2_conflict_0 ++ dktX2_conflict_1
theorem dksX2_conflict_0 : cX2_conflict.data.toList.drop 0 = dktX2_conflict_0 := by decide +kernel
theorem dksX2_conflict_1 : cX2_conflict.data.toList.drop 22 = dktX2_conflict_1 := dk_seg dksX2_conflict_0 22 rfl rfl
theorem dksX2_conflict_2 : cX2_conflict.data.toList.drop 46 = dktX2_conflict_2 := dk_seg dksX2_conflict_1 24 rfl rfl
theorem dksX2_conflict_3 : cX2_conflict.data.toList.drop 69 = dktX2_conflict_3 := dk_seg dksX2_conflict_2 23 rfl rfl
theorem dksX2_conflict_4 : cX2_conflict.data.toList.drop 93 = dktX2_conflict_4 := dk_seg dksX2_conflict_3 24 rfl rfl
theorem dksX2_conflict_5 : cX2_conflict.data.toList.drop 117 = dktX2_conflict_5 := dk_seg dksX2_conflict_4 24 rfl rfl
theorem dX2_conflict_0 : decode cX2_conflict 0 = .ok (.aload_n 0, 1) := dk_42 (dk_at dksX2_conflict_0 0 rfl rfl)
theorem dX2_conflict_1 : decode cX2_conflict 1 = .ok (.iload_n 1, 1) := dk_27 (dk_at dksX2_conflict_0 1 rfl rfl)
theorem dX2_conflict_2 : decode cX2_conflict 2 = .ok (.invokevirtual 74, 3) := dk_182 0 74 (dk_at dksX2_conflict_0 2 rfl rfl)
theorem dX2_conflict_5 : decode cX2_conflict 5 = .ok (.istore_n 2, 1) := dk_61 (dk_at dksX2_conflict_0 5 rfl rfl)
theorem dX2_conflict_6 : decode cX2_conflict 6 = .ok (.iload_n 2, 1) := dk_28 (dk_at dksX2_conflict_0 6 rfl rfl)
theorem dX2_conflict_7 : decode cX2_conflict 7 = .ok (.bipush (-5), 2) := dk_16 251 (dk_at dksX2_conflict_0 7 rfl rfl)
theorem dX2_conflict_9 : decode cX2_conflict 9 = .ok (.if_icmp .ne 6, 3) := dk_160 0 6 (dk_at dksX2_conflict_0 9 rfl rfl)
theorem dX2_conflict_12 : decode cX2_conflict 12 = .ok (.bipush (-5), 2) := dk_16 251 (dk_at dksX2_conflict_0 12 rfl rfl)
theorem dX2_conflict_14 : decode cX2_conflict 14 = .ok (.ireturn, 1) := dk_172 (dk_at dksX2_conflict_0 14 rfl rfl)
theorem dX2_conflict_15 : decode cX2_conflict 15 = .ok (.aload_n 0, 1) := dk_42 (dk_at dksX2_conflict_0 15 rfl rfl)
theorem dX2_conflict_16 : decode cX2_conflict 16 = .ok (.iload_n 2, 1) := dk_28 (dk_at dksX2_conflict_0 16 rfl rfl)
theorem dX2_conflict_17 : decode cX2_conflict 17 = .ok (.invokevirtual 100, 3) := dk_182 0 100 (dk_at dksX2_conflict_0 17 rfl rfl)
theorem dX2_conflict_20 : decode cX2_conflict 20 = .ok (.fstore_n 3, 1) := dk_70 (dk_at dksX2_conflict_0 20 rfl rfl)
theorem dX2_conflict_21 : decode cX2_conflict 21 = .ok (.aload_n 0, 1) := dk_42 (dk_at dksX2_conflict_0 21 rfl rfl)
theorem dX2_conflict_22 : decode cX2_conflict 22 = .ok (.getfield 83, 3) := dk_180 0 83 (dk_at dksX2_conflict_1 0 rfl rfl)
theorem dX2_conflict_25 : decode cX2_conflict 25 = .ok (.istore 4, 2) := dk_54 4 (dk_at dksX2_conflict_1 3 rfl rfl)
theorem dX2_conflict_27 : decode cX2_conflict 27 = .ok (.aload_n 0, 1) := dk_42 (dk_at dksX2_conflict_1 5 rfl rfl)
theorem dX2_conflict_28 : decode cX2_conflict 28 = .ok (.getfield 7, 3) := dk_180 0 7 (dk_at dksX2_conflict_1 6 rfl rfl)
theorem dX2_conflict_31 : decode cX2_conflict 31 = .ok (.iconst 1, 1) := dk_4 (dk_at dksX2_conflict_1 9 rfl rfl)
theorem dX2_conflict_32 : decode cX2_conflict 32 = .ok (.iaload, 1) := dk_46 (dk_at dksX2_conflict_1 10 rfl rfl)
theorem dX2_conflict_33 : decode cX2_conflict 33 = .ok (.iconst 1, 1) := dk_4 (dk_at dksX2_conflict_1 11 rfl rfl)
theorem dX2_conflict_34 : decode cX2_conflict 34 = .ok (.isub, 1) := dk_100 (dk_at dksX2_conflict_1 12 rfl rfl)
theorem dX2_conflict_35 : decode cX2_conflict 35 = .ok (.istore 5, 2) := dk_54 5 (dk_at dksX2_conflict_1 13 rfl rfl)
theorem dX2_conflict_37 : decode cX2_conflict 37 = .ok (.iload 5, 2) := dk_21 5 (dk_at dksX2_conflict_1 15 rfl rfl)
theorem dX2_conflict_39 : decode cX2_conflict 39 = .ok (.ifCond .lt 76, 3) := dk_155 0 76 (dk_at dksX2_conflict_1 17 rfl rfl)
theorem dX2_conflict_42 : decode cX2_conflict 42 = .ok (.aload_n 0, 1) := dk_42 (dk_at dksX2_conflict_1 20 rfl rfl)
theorem dX2_conflict_43 : decode cX2_conflict 43 = .ok (.iload 5, 2) := dk_21 5 (dk_at dksX2_conflict_1 21 rfl rfl)
theorem dX2_conflict_45 : decode cX2_conflict 45 = .ok (.iload_n 1, 1) := dk_27 (dk_at dksX2_conflict_1 23 rfl rfl)
theorem dX2_conflict_46 : decode cX2_conflict 46 = .ok (.invokevirtual 66, 3) := dk_182 0 66 (dk_at dksX2_conflict_2 0 rfl rfl)
theorem dX2_conflict_49 : decode cX2_conflict 49 = .ok (.ifCond .eq 60, 3) := dk_153 0 60 (dk_at dksX2_conflict_2 3 rfl rfl)
theorem dX2_conflict_52 : decode cX2_conflict 52 = .ok (.aload_n 0, 1) := dk_42 (dk_at dksX2_conflict_2 6 rfl rfl)
theorem dX2_conflict_53 : decode cX2_conflict 53 = .ok (.iload 5, 2) := dk_21 5 (dk_at dksX2_conflict_2 7 rfl rfl)
theorem dX2_conflict_55 : decode cX2_conflict 55 = .ok (.iconst 0, 1) := dk_3 (dk_at dksX2_conflict_2 9 rfl rfl)
theorem dX2_conflict_56 : decode cX2_conflict 56 = .ok (.invokevirtual 49, 3) := dk_182 0 49 (dk_at dksX2_conflict_2 10 rfl rfl)
theorem dX2_conflict_59 : decode cX2_conflict 59 = .ok (.aload_n 0, 1) := dk_42 (dk_at dksX2_conflict_2 13 rfl rfl)
theorem dX2_conflict_60 : decode cX2_conflict 60 = .ok (.iload_n 2, 1) := dk_28 (dk_at dksX2_conflict_2 14 rfl rfl)
theorem dX2_conflict_61 : decode cX2_conflict 61 = .ok (.iconst 0, 1) := dk_3 (dk_at dksX2_conflict_2 15 rfl rfl)
theorem dX2_conflict_62 : decode cX2_conflict 62 = .ok (.invokevirtual 49, 3) := dk_182 0 49 (dk_at dksX2_conflict_2 16 rfl rfl)
theorem dX2_conflict_65 : decode cX2_conflict 65 = .ok (.if_icmp .eq 44, 3) := dk_159 0 44 (dk_at dksX2_conflict_2 19 rfl rfl)
theorem dX2_conflict_68 : decode cX2_conflict 68 = .ok (.aload_n 0, 1) := dk_42 (dk_at dksX2_conflict_2 22 rfl rfl)
theorem dX2_conflict_69 : decode cX2_conflict 69 = .ok (.iload 5, 2) := dk_21 5 (dk_at dksX2_conflict_3 0 rfl rfl)
theorem dX2_conflict_71 : decode cX2_conflict 71 = .ok (.invokevirtual 70, 3) := dk_182 0 70 (dk_at dksX2_conflict_3 2 rfl rfl)
theorem dX2_conflict_74 : decode cX2_conflict 74 = .ok (.aload_n 0, 1) := dk_42 (dk_at dksX2_conflict_3 5 rfl rfl)
theorem dX2_conflict_75 : decode cX2_conflict 75 = .ok (.iload_n 2, 1) := dk_28 (dk_at dksX2_conflict_3 6 rfl rfl)
theorem dX2_conflict_76 : decode cX2_conflict 76 = .ok (.invokevirtual 70, 3) := dk_182 0 70 (dk_at dksX2_conflict_3 7 rfl rfl)
theorem dX2_conflict_79 : decode cX2_conflict 79 = .ok (.if_icmp .ne 30, 3) := dk_160 0 30 (dk_at dksX2_conflict_3 10 rfl rfl)
theorem dX2_conflict_82 : decode cX2_conflict 82 = .ok (.aload_n 0, 1) := dk_42 (dk_at dksX2_conflict_3 13 rfl rfl)
theorem dX2_conflict_83 : decode cX2_conflict 83 = .ok (.iload 5, 2) := dk_21 5 (dk_at dksX2_conflict_3 14 rfl rfl)
theorem dX2_conflict_85 : decode cX2_conflict 85 = .ok (.invokevirtual 100, 3) := dk_182 0 100 (dk_at dksX2_conflict_3 16 rfl rfl)
theorem dX2_conflict_88 : decode cX2_conflict 88 = .ok (.fstore 6, 2) := dk_56 6 (dk_at dksX2_conflict_3 19 rfl rfl)
theorem dX2_conflict_90 : decode cX2_conflict 90 = .ok (.aload_n 0, 1) := dk_42 (dk_at dksX2_conflict_3 21 rfl rfl)
theorem dX2_conflict_91 : decode cX2_conflict 91 = .ok (.iload 4, 2) := dk_21 4 (dk_at dksX2_conflict_3 22 rfl rfl)
theorem dX2_conflict_93 : decode cX2_conflict 93 = .ok (.fload_n 3, 1) := dk_37 (dk_at dksX2_conflict_4 0 rfl rfl)
theorem dX2_conflict_94 : decode cX2_conflict 94 = .ok (.aload_n 0, 1) := dk_42 (dk_at dksX2_conflict_4 1 rfl rfl)
theorem dX2_conflict_95 : decode cX2_conflict 95 = .ok (.getfield 83, 3) := dk_180 0 83 (dk_at dksX2_conflict_4 2 rfl rfl)
theorem dX2_conflict_98 : decode cX2_conflict 98 = .ok (.fload 6, 2) := dk_23 6 (dk_at dksX2_conflict_4 5 rfl rfl)
theorem dX2_conflict_100 : decode cX2_conflict 100 = .ok (.invokevirtual 103, 3) := dk_182 0 103 (dk_at dksX2_conflict_4 7 rfl rfl)
theorem dX2_conflict_103 : decode cX2_conflict 103 = .ok (.ifCond .eq 6, 3) := dk_153 0 6 (dk_at dksX2_conflict_4 10 rfl rfl)
theorem dX2_conflict_106 : decode cX2_conflict 106 = .ok (.iload 5, 2) := dk_21 5 (dk_at dksX2_conflict_4 13 rfl rfl)
theorem dX2_conflict_108 : decode cX2_conflict 108 = .ok (.ireturn, 1) := dk_172 (dk_at dksX2_conflict_4 15 rfl rfl)
theorem dX2_conflict_109 : decode cX2_conflict 109 = .ok (.iinc 5 (-1), 3) := dk_132 5 255 (dk_at dksX2_conflict_4 16 rfl rfl)
theorem dX2_conflict_112 : decode cX2_conflict 112 = .ok (.goto (-75), 3) := dk_167 255 181 (dk_at dksX2_conflict_4 19 rfl rfl)
theorem dX2_conflict_115 : decode cX2_conflict 115 = .ok (.bipush (-5), 2) := dk_16 251 (dk_at dksX2_conflict_4 22 rfl rfl)
theorem dX2_conflict_117 : decode cX2_conflict 117 = .ok (.ireturn, 1) := dk_172 (dk_at dksX2_conflict_5 0 rfl rfl)
abbrev cX2_differ : ByteArray := prog_9_method_24_code
def yX2_differ : MethodName := ⟨RX2, "differ", "(ZFZF)Z"⟩
def dkwX2_differ_1 : List UInt8 := [118, 167, 0, 5, 23, 5, 42, 8, 182, 0, 97, 149, 158, 0, 7, 4, 167, 0, 4, 3, 172]
abbrev dktX2_differ_1 : List UInt8 := dkwX2_differ_1 ++ []
def dkwX2_differ_0 : List UInt8 := [36, 23, 4, 102, 56, 5, 27, 29, 160, 0, 31, 27, 153, 0, 31, 23, 5, 11, 150, 156, 0, 9, 23, 5]
abbrev dktX2_differ_0 : List UInt8 := dkwX2_differ_0 ++ dktX2_differ_1
theorem dksX2_differ_0 : cX2_differ.data.toList.drop 0 = dktX2_differ_0 := by decide +kernel
theorem dksX2_differ_1 : cX2_differ.data.toList.drop 24 = dktX2_differ_1 := dk_seg dksX2_differ_0 24 rfl rfl
theorem dX2_differ_0 : decode cX2_differ 0 = .ok (.fload_n 2, 1) := dk_36 (dk_at dksX2_differ_0 0 rfl rfl)
theorem dX2_differ_1 : decode cX2_differ 1 = .ok (.fload 4, 2) := dk_23 4 (dk_at dksX2_differ_0 1 rfl rfl)
theorem dX2_differ_3 : decode cX2_differ 3 = .ok (.fsub, 1) := dk_102 (dk_at dksX2_differ_0 3 rfl rfl)
theorem dX2_differ_4 : decode cX2_differ 4 = .ok (.fstore 5, 2) := dk_56 5 (dk_at dksX2_differ_0 4 rfl rfl)
theorem dX2_differ_6 : decode cX2_differ 6 = .ok (.iload_n 1, 1) := dk_27 (dk_at dksX2_differ_0 6 rfl rfl)
theorem dX2_differ_7 : decode cX2_differ 7 = .ok (.iload_n 3, 1) := dk_29 (dk_at dksX2_differ_0 7 rfl rfl)
theorem dX2_differ_8 : decode cX2_differ 8 = .ok (.if_icmp .ne 31, 3) := dk_160 0 31 (dk_at dksX2_differ_0 8 rfl rfl)
theorem dX2_differ_11 : decode cX2_differ 11 = .ok (.iload_n 1, 1) := dk_27 (dk_at dksX2_differ_0 11 rfl rfl)
theorem dX2_differ_12 : decode cX2_differ 12 = .ok (.ifCond .eq 31, 3) := dk_153 0 31 (dk_at dksX2_differ_0 12 rfl rfl)
theorem dX2_differ_15 : decode cX2_differ 15 = .ok (.fload 5, 2) := dk_23 5 (dk_at dksX2_differ_0 15 rfl rfl)
theorem dX2_differ_17 : decode cX2_differ 17 = .ok (.fconst 0, 1) := dk_11 (dk_at dksX2_differ_0 17 rfl rfl)
theorem dX2_differ_18 : decode cX2_differ 18 = .ok (.fcmp .g, 1) := dk_150 (dk_at dksX2_differ_0 18 rfl rfl)
theorem dX2_differ_19 : decode cX2_differ 19 = .ok (.ifCond .ge 9, 3) := dk_156 0 9 (dk_at dksX2_differ_0 19 rfl rfl)
theorem dX2_differ_22 : decode cX2_differ 22 = .ok (.fload 5, 2) := dk_23 5 (dk_at dksX2_differ_0 22 rfl rfl)
theorem dX2_differ_24 : decode cX2_differ 24 = .ok (.fneg, 1) := dk_118 (dk_at dksX2_differ_1 0 rfl rfl)
theorem dX2_differ_25 : decode cX2_differ 25 = .ok (.goto 5, 3) := dk_167 0 5 (dk_at dksX2_differ_1 1 rfl rfl)
theorem dX2_differ_28 : decode cX2_differ 28 = .ok (.fload 5, 2) := dk_23 5 (dk_at dksX2_differ_1 4 rfl rfl)
theorem dX2_differ_30 : decode cX2_differ 30 = .ok (.aload_n 0, 1) := dk_42 (dk_at dksX2_differ_1 6 rfl rfl)
theorem dX2_differ_31 : decode cX2_differ 31 = .ok (.iconst 5, 1) := dk_8 (dk_at dksX2_differ_1 7 rfl rfl)
theorem dX2_differ_32 : decode cX2_differ 32 = .ok (.invokevirtual 97, 3) := dk_182 0 97 (dk_at dksX2_differ_1 8 rfl rfl)
theorem dX2_differ_35 : decode cX2_differ 35 = .ok (.fcmp .l, 1) := dk_149 (dk_at dksX2_differ_1 11 rfl rfl)
theorem dX2_differ_36 : decode cX2_differ 36 = .ok (.ifCond .le 7, 3) := dk_158 0 7 (dk_at dksX2_differ_1 12 rfl rfl)
theorem dX2_differ_39 : decode cX2_differ 39 = .ok (.iconst 1, 1) := dk_4 (dk_at dksX2_differ_1 15 rfl rfl)
theorem dX2_differ_40 : decode cX2_differ 40 = .ok (.goto 4, 3) := dk_167 0 4 (dk_at dksX2_differ_1 16 rfl rfl)
theorem dX2_differ_43 : decode cX2_differ 43 = .ok (.iconst 0, 1) := dk_3 (dk_at dksX2_differ_1 19 rfl rfl)
theorem dX2_differ_44 : decode cX2_differ 44 = .ok (.ireturn, 1) := dk_172 (dk_at dksX2_differ_1 20 rfl rfl)
abbrev cX2_amountAt : ByteArray := prog_9_method_5_code
def yX2_amountAt : MethodName := ⟨RX2, "amountAt", "(I)F"⟩
def dkwX2_amountAt_0 : List UInt8 := [42, 180, 0, 7, 27, 46, 184, 0, 43, 174]
abbrev dktX2_amountAt_0 : List UInt8 := dkwX2_amountAt_0 ++ []
theorem dksX2_amountAt_0 : cX2_amountAt.data.toList.drop 0 = dktX2_amountAt_0 := by decide +kernel
theorem dX2_amountAt_0 : decode cX2_amountAt 0 = .ok (.aload_n 0, 1) := dk_42 (dk_at dksX2_amountAt_0 0 rfl rfl)
theorem dX2_amountAt_1 : decode cX2_amountAt 1 = .ok (.getfield 7, 3) := dk_180 0 7 (dk_at dksX2_amountAt_0 1 rfl rfl)
theorem dX2_amountAt_4 : decode cX2_amountAt 4 = .ok (.iload_n 1, 1) := dk_27 (dk_at dksX2_amountAt_0 4 rfl rfl)
theorem dX2_amountAt_5 : decode cX2_amountAt 5 = .ok (.iaload, 1) := dk_46 (dk_at dksX2_amountAt_0 5 rfl rfl)
theorem dX2_amountAt_6 : decode cX2_amountAt 6 = .ok (.invokestatic 43, 3) := dk_184 0 43 (dk_at dksX2_amountAt_0 6 rfl rfl)
theorem dX2_amountAt_9 : decode cX2_amountAt 9 = .ok (.freturn, 1) := dk_174 (dk_at dksX2_amountAt_0 9 rfl rfl)
abbrev cX2_dependents : ByteArray := prog_9_method_59_code
def yX2_dependents : MethodName := ⟨RX2, "dependents", "(I)I"⟩
def dkwX2_dependents_1 : List UInt8 := [167, 0, 4, 3, 128, 61, 132, 3, 1, 167, 255, 228, 28, 172]
abbrev dktX2_dependents_1 : List UInt8 := dkwX2_dependents_1 ++ []
def dkwX2_dependents_0 : List UInt8 := [3, 61, 3, 62, 29, 16, 16, 162, 0, 28, 28, 42, 29, 27, 182, 0, 205, 153, 0, 9, 4, 29, 120]
abbrev dktX2_dependents_0 : List UInt8 := dkwX2_dependents_0 ++ dktX2_dependents_1
theorem dksX2_dependents_0 : cX2_dependents.data.toList.drop 0 = dktX2_dependents_0 := by decide +kernel
theorem dksX2_dependents_1 : cX2_dependents.data.toList.drop 23 = dktX2_dependents_1 := dk_seg dksX2_dependents_0 23 rfl rfl
theorem dX2_dependents_0 : decode cX2_dependents 0 = .ok (.iconst 0, 1) := dk_3 (dk_at dksX2_dependents_0 0 rfl rfl)
theorem dX2_dependents_1 : decode cX2_dependents 1 = .ok (.istore_n 2, 1) := dk_61 (dk_at dksX2_dependents_0 1 rfl rfl)
theorem dX2_dependents_2 : decode cX2_dependents 2 = .ok (.iconst 0, 1) := dk_3 (dk_at dksX2_dependents_0 2 rfl rfl)
theorem dX2_dependents_3 : decode cX2_dependents 3 = .ok (.istore_n 3, 1) := dk_62 (dk_at dksX2_dependents_0 3 rfl rfl)
theorem dX2_dependents_4 : decode cX2_dependents 4 = .ok (.iload_n 3, 1) := dk_29 (dk_at dksX2_dependents_0 4 rfl rfl)
theorem dX2_dependents_5 : decode cX2_dependents 5 = .ok (.bipush 16, 2) := dk_16 16 (dk_at dksX2_dependents_0 5 rfl rfl)
theorem dX2_dependents_7 : decode cX2_dependents 7 = .ok (.if_icmp .ge 28, 3) := dk_162 0 28 (dk_at dksX2_dependents_0 7 rfl rfl)
theorem dX2_dependents_10 : decode cX2_dependents 10 = .ok (.iload_n 2, 1) := dk_28 (dk_at dksX2_dependents_0 10 rfl rfl)
theorem dX2_dependents_11 : decode cX2_dependents 11 = .ok (.aload_n 0, 1) := dk_42 (dk_at dksX2_dependents_0 11 rfl rfl)
theorem dX2_dependents_12 : decode cX2_dependents 12 = .ok (.iload_n 3, 1) := dk_29 (dk_at dksX2_dependents_0 12 rfl rfl)
theorem dX2_dependents_13 : decode cX2_dependents 13 = .ok (.iload_n 1, 1) := dk_27 (dk_at dksX2_dependents_0 13 rfl rfl)
theorem dX2_dependents_14 : decode cX2_dependents 14 = .ok (.invokevirtual 205, 3) := dk_182 0 205 (dk_at dksX2_dependents_0 14 rfl rfl)
theorem dX2_dependents_17 : decode cX2_dependents 17 = .ok (.ifCond .eq 9, 3) := dk_153 0 9 (dk_at dksX2_dependents_0 17 rfl rfl)
theorem dX2_dependents_20 : decode cX2_dependents 20 = .ok (.iconst 1, 1) := dk_4 (dk_at dksX2_dependents_0 20 rfl rfl)
theorem dX2_dependents_21 : decode cX2_dependents 21 = .ok (.iload_n 3, 1) := dk_29 (dk_at dksX2_dependents_0 21 rfl rfl)
theorem dX2_dependents_22 : decode cX2_dependents 22 = .ok (.ishl, 1) := dk_120 (dk_at dksX2_dependents_0 22 rfl rfl)
theorem dX2_dependents_23 : decode cX2_dependents 23 = .ok (.goto 4, 3) := dk_167 0 4 (dk_at dksX2_dependents_1 0 rfl rfl)
theorem dX2_dependents_26 : decode cX2_dependents 26 = .ok (.iconst 0, 1) := dk_3 (dk_at dksX2_dependents_1 3 rfl rfl)
theorem dX2_dependents_27 : decode cX2_dependents 27 = .ok (.ior, 1) := dk_128 (dk_at dksX2_dependents_1 4 rfl rfl)
theorem dX2_dependents_28 : decode cX2_dependents 28 = .ok (.istore_n 2, 1) := dk_61 (dk_at dksX2_dependents_1 5 rfl rfl)
theorem dX2_dependents_29 : decode cX2_dependents 29 = .ok (.iinc 3 1, 3) := dk_132 3 1 (dk_at dksX2_dependents_1 6 rfl rfl)
theorem dX2_dependents_32 : decode cX2_dependents 32 = .ok (.goto (-28), 3) := dk_167 255 228 (dk_at dksX2_dependents_1 9 rfl rfl)
theorem dX2_dependents_35 : decode cX2_dependents 35 = .ok (.iload_n 2, 1) := dk_28 (dk_at dksX2_dependents_1 12 rfl rfl)
theorem dX2_dependents_36 : decode cX2_dependents 36 = .ok (.ireturn, 1) := dk_172 (dk_at dksX2_dependents_1 13 rfl rfl)
abbrev cX2_comesTo : ByteArray := prog_9_method_26_code
def yX2_comesTo : MethodName := ⟨RX2, "comesTo", "(II)Z"⟩
def dkwX2_comesTo_2 : List UInt8 := [62, 29, 28, 160, 0, 5, 4, 172, 132, 4, 1, 167, 255, 203, 3, 172]
abbrev dktX2_comesTo_2 : List UInt8 := dkwX2_comesTo_2 ++ []
def dkwX2_comesTo_1 : List UInt8 := [159, 0, 15, 42, 21, 5, 5, 182, 0, 49, 16, 251, 160, 0, 5, 3, 172, 42, 21, 5, 5, 182, 0, 49]
abbrev dktX2_comesTo_1 : List UInt8 := dkwX2_comesTo_1 ++ dktX2_comesTo_2
def dkwX2_comesTo_0 : List UInt8 := [27, 62, 3, 54, 4, 21, 4, 16, 16, 162, 0, 52, 42, 29, 182, 0, 74, 54, 5, 21, 5, 16, 251]
abbrev dktX2_comesTo_0 : List UInt8 := dkwX2_comesTo_0 ++ dktX2_comesTo_1
theorem dksX2_comesTo_0 : cX2_comesTo.data.toList.drop 0 = dktX2_comesTo_0 := by decide +kernel
theorem dksX2_comesTo_1 : cX2_comesTo.data.toList.drop 23 = dktX2_comesTo_1 := dk_seg dksX2_comesTo_0 23 rfl rfl
theorem dksX2_comesTo_2 : cX2_comesTo.data.toList.drop 47 = dktX2_comesTo_2 := dk_seg dksX2_comesTo_1 24 rfl rfl
theorem dX2_comesTo_0 : decode cX2_comesTo 0 = .ok (.iload_n 1, 1) := dk_27 (dk_at dksX2_comesTo_0 0 rfl rfl)
theorem dX2_comesTo_1 : decode cX2_comesTo 1 = .ok (.istore_n 3, 1) := dk_62 (dk_at dksX2_comesTo_0 1 rfl rfl)
theorem dX2_comesTo_2 : decode cX2_comesTo 2 = .ok (.iconst 0, 1) := dk_3 (dk_at dksX2_comesTo_0 2 rfl rfl)
theorem dX2_comesTo_3 : decode cX2_comesTo 3 = .ok (.istore 4, 2) := dk_54 4 (dk_at dksX2_comesTo_0 3 rfl rfl)
theorem dX2_comesTo_5 : decode cX2_comesTo 5 = .ok (.iload 4, 2) := dk_21 4 (dk_at dksX2_comesTo_0 5 rfl rfl)
theorem dX2_comesTo_7 : decode cX2_comesTo 7 = .ok (.bipush 16, 2) := dk_16 16 (dk_at dksX2_comesTo_0 7 rfl rfl)
theorem dX2_comesTo_9 : decode cX2_comesTo 9 = .ok (.if_icmp .ge 52, 3) := dk_162 0 52 (dk_at dksX2_comesTo_0 9 rfl rfl)
theorem dX2_comesTo_12 : decode cX2_comesTo 12 = .ok (.aload_n 0, 1) := dk_42 (dk_at dksX2_comesTo_0 12 rfl rfl)
theorem dX2_comesTo_13 : decode cX2_comesTo 13 = .ok (.iload_n 3, 1) := dk_29 (dk_at dksX2_comesTo_0 13 rfl rfl)
theorem dX2_comesTo_14 : decode cX2_comesTo 14 = .ok (.invokevirtual 74, 3) := dk_182 0 74 (dk_at dksX2_comesTo_0 14 rfl rfl)
theorem dX2_comesTo_17 : decode cX2_comesTo 17 = .ok (.istore 5, 2) := dk_54 5 (dk_at dksX2_comesTo_0 17 rfl rfl)
theorem dX2_comesTo_19 : decode cX2_comesTo 19 = .ok (.iload 5, 2) := dk_21 5 (dk_at dksX2_comesTo_0 19 rfl rfl)
theorem dX2_comesTo_21 : decode cX2_comesTo 21 = .ok (.bipush (-5), 2) := dk_16 251 (dk_at dksX2_comesTo_0 21 rfl rfl)
theorem dX2_comesTo_23 : decode cX2_comesTo 23 = .ok (.if_icmp .eq 15, 3) := dk_159 0 15 (dk_at dksX2_comesTo_1 0 rfl rfl)
theorem dX2_comesTo_26 : decode cX2_comesTo 26 = .ok (.aload_n 0, 1) := dk_42 (dk_at dksX2_comesTo_1 3 rfl rfl)
theorem dX2_comesTo_27 : decode cX2_comesTo 27 = .ok (.iload 5, 2) := dk_21 5 (dk_at dksX2_comesTo_1 4 rfl rfl)
theorem dX2_comesTo_29 : decode cX2_comesTo 29 = .ok (.iconst 2, 1) := dk_5 (dk_at dksX2_comesTo_1 6 rfl rfl)
theorem dX2_comesTo_30 : decode cX2_comesTo 30 = .ok (.invokevirtual 49, 3) := dk_182 0 49 (dk_at dksX2_comesTo_1 7 rfl rfl)
theorem dX2_comesTo_33 : decode cX2_comesTo 33 = .ok (.bipush (-5), 2) := dk_16 251 (dk_at dksX2_comesTo_1 10 rfl rfl)
theorem dX2_comesTo_35 : decode cX2_comesTo 35 = .ok (.if_icmp .ne 5, 3) := dk_160 0 5 (dk_at dksX2_comesTo_1 12 rfl rfl)
theorem dX2_comesTo_38 : decode cX2_comesTo 38 = .ok (.iconst 0, 1) := dk_3 (dk_at dksX2_comesTo_1 15 rfl rfl)
theorem dX2_comesTo_39 : decode cX2_comesTo 39 = .ok (.ireturn, 1) := dk_172 (dk_at dksX2_comesTo_1 16 rfl rfl)
theorem dX2_comesTo_40 : decode cX2_comesTo 40 = .ok (.aload_n 0, 1) := dk_42 (dk_at dksX2_comesTo_1 17 rfl rfl)
theorem dX2_comesTo_41 : decode cX2_comesTo 41 = .ok (.iload 5, 2) := dk_21 5 (dk_at dksX2_comesTo_1 18 rfl rfl)
theorem dX2_comesTo_43 : decode cX2_comesTo 43 = .ok (.iconst 2, 1) := dk_5 (dk_at dksX2_comesTo_1 20 rfl rfl)
theorem dX2_comesTo_44 : decode cX2_comesTo 44 = .ok (.invokevirtual 49, 3) := dk_182 0 49 (dk_at dksX2_comesTo_1 21 rfl rfl)
theorem dX2_comesTo_47 : decode cX2_comesTo 47 = .ok (.istore_n 3, 1) := dk_62 (dk_at dksX2_comesTo_2 0 rfl rfl)
theorem dX2_comesTo_48 : decode cX2_comesTo 48 = .ok (.iload_n 3, 1) := dk_29 (dk_at dksX2_comesTo_2 1 rfl rfl)
theorem dX2_comesTo_49 : decode cX2_comesTo 49 = .ok (.iload_n 2, 1) := dk_28 (dk_at dksX2_comesTo_2 2 rfl rfl)
theorem dX2_comesTo_50 : decode cX2_comesTo 50 = .ok (.if_icmp .ne 5, 3) := dk_160 0 5 (dk_at dksX2_comesTo_2 3 rfl rfl)
theorem dX2_comesTo_53 : decode cX2_comesTo 53 = .ok (.iconst 1, 1) := dk_4 (dk_at dksX2_comesTo_2 6 rfl rfl)
theorem dX2_comesTo_54 : decode cX2_comesTo 54 = .ok (.ireturn, 1) := dk_172 (dk_at dksX2_comesTo_2 7 rfl rfl)
theorem dX2_comesTo_55 : decode cX2_comesTo 55 = .ok (.iinc 4 1, 3) := dk_132 4 1 (dk_at dksX2_comesTo_2 8 rfl rfl)
theorem dX2_comesTo_58 : decode cX2_comesTo 58 = .ok (.goto (-53), 3) := dk_167 255 203 (dk_at dksX2_comesTo_2 11 rfl rfl)
theorem dX2_comesTo_61 : decode cX2_comesTo 61 = .ok (.iconst 0, 1) := dk_3 (dk_at dksX2_comesTo_2 14 rfl rfl)
theorem dX2_comesTo_62 : decode cX2_comesTo 62 = .ok (.ireturn, 1) := dk_172 (dk_at dksX2_comesTo_2 15 rfl rfl)
abbrev cX2_hangsAt : ByteArray := prog_9_method_61_code
def yX2_hangsAt : MethodName := ⟨RX2, "hangsAt", "(II)I"⟩
def dkwX2_hangsAt_2 : List UInt8 := [29, 28, 160, 0, 6, 21, 4, 172, 132, 3, 1, 132, 4, 255, 167, 255, 227, 16, 251, 172]
abbrev dktX2_hangsAt_2 : List UInt8 := dkwX2_hangsAt_2 ++ []
def dkwX2_hangsAt_1 : List UInt8 := [180, 0, 7, 4, 46, 4, 100, 54, 4, 21, 4, 155, 0, 30, 42, 21, 4, 27, 182, 0, 66, 153, 0, 14]
abbrev dktX2_hangsAt_1 : List UInt8 := dkwX2_hangsAt_1 ++ dktX2_hangsAt_2
def dkwX2_hangsAt_0 : List UInt8 := [42, 3, 181, 0, 39, 27, 184, 0, 125, 154, 0, 5, 2, 172, 28, 156, 0, 6, 16, 254, 172, 3, 62, 42]
abbrev dktX2_hangsAt_0 : List UInt8 := dkwX2_hangsAt_0 ++ dktX2_hangsAt_1
theorem dksX2_hangsAt_0 : cX2_hangsAt.data.toList.drop 0 = dktX2_hangsAt_0 := by decide +kernel
theorem dksX2_hangsAt_1 : cX2_hangsAt.data.toList.drop 24 = dktX2_hangsAt_1 := dk_seg dksX2_hangsAt_0 24 rfl rfl
theorem dksX2_hangsAt_2 : cX2_hangsAt.data.toList.drop 48 = dktX2_hangsAt_2 := dk_seg dksX2_hangsAt_1 24 rfl rfl
theorem dX2_hangsAt_0 : decode cX2_hangsAt 0 = .ok (.aload_n 0, 1) := dk_42 (dk_at dksX2_hangsAt_0 0 rfl rfl)
theorem dX2_hangsAt_1 : decode cX2_hangsAt 1 = .ok (.iconst 0, 1) := dk_3 (dk_at dksX2_hangsAt_0 1 rfl rfl)
theorem dX2_hangsAt_2 : decode cX2_hangsAt 2 = .ok (.putfield 39, 3) := dk_181 0 39 (dk_at dksX2_hangsAt_0 2 rfl rfl)
theorem dX2_hangsAt_5 : decode cX2_hangsAt 5 = .ok (.iload_n 1, 1) := dk_27 (dk_at dksX2_hangsAt_0 5 rfl rfl)
theorem dX2_hangsAt_6 : decode cX2_hangsAt 6 = .ok (.invokestatic 125, 3) := dk_184 0 125 (dk_at dksX2_hangsAt_0 6 rfl rfl)
theorem dX2_hangsAt_9 : decode cX2_hangsAt 9 = .ok (.ifCond .ne 5, 3) := dk_154 0 5 (dk_at dksX2_hangsAt_0 9 rfl rfl)
theorem dX2_hangsAt_12 : decode cX2_hangsAt 12 = .ok (.iconst (-1), 1) := dk_2 (dk_at dksX2_hangsAt_0 12 rfl rfl)
theorem dX2_hangsAt_13 : decode cX2_hangsAt 13 = .ok (.ireturn, 1) := dk_172 (dk_at dksX2_hangsAt_0 13 rfl rfl)
theorem dX2_hangsAt_14 : decode cX2_hangsAt 14 = .ok (.iload_n 2, 1) := dk_28 (dk_at dksX2_hangsAt_0 14 rfl rfl)
theorem dX2_hangsAt_15 : decode cX2_hangsAt 15 = .ok (.ifCond .ge 6, 3) := dk_156 0 6 (dk_at dksX2_hangsAt_0 15 rfl rfl)
theorem dX2_hangsAt_18 : decode cX2_hangsAt 18 = .ok (.bipush (-2), 2) := dk_16 254 (dk_at dksX2_hangsAt_0 18 rfl rfl)
theorem dX2_hangsAt_20 : decode cX2_hangsAt 20 = .ok (.ireturn, 1) := dk_172 (dk_at dksX2_hangsAt_0 20 rfl rfl)
theorem dX2_hangsAt_21 : decode cX2_hangsAt 21 = .ok (.iconst 0, 1) := dk_3 (dk_at dksX2_hangsAt_0 21 rfl rfl)
theorem dX2_hangsAt_22 : decode cX2_hangsAt 22 = .ok (.istore_n 3, 1) := dk_62 (dk_at dksX2_hangsAt_0 22 rfl rfl)
theorem dX2_hangsAt_23 : decode cX2_hangsAt 23 = .ok (.aload_n 0, 1) := dk_42 (dk_at dksX2_hangsAt_0 23 rfl rfl)
theorem dX2_hangsAt_24 : decode cX2_hangsAt 24 = .ok (.getfield 7, 3) := dk_180 0 7 (dk_at dksX2_hangsAt_1 0 rfl rfl)
theorem dX2_hangsAt_27 : decode cX2_hangsAt 27 = .ok (.iconst 1, 1) := dk_4 (dk_at dksX2_hangsAt_1 3 rfl rfl)
theorem dX2_hangsAt_28 : decode cX2_hangsAt 28 = .ok (.iaload, 1) := dk_46 (dk_at dksX2_hangsAt_1 4 rfl rfl)
theorem dX2_hangsAt_29 : decode cX2_hangsAt 29 = .ok (.iconst 1, 1) := dk_4 (dk_at dksX2_hangsAt_1 5 rfl rfl)
theorem dX2_hangsAt_30 : decode cX2_hangsAt 30 = .ok (.isub, 1) := dk_100 (dk_at dksX2_hangsAt_1 6 rfl rfl)
theorem dX2_hangsAt_31 : decode cX2_hangsAt 31 = .ok (.istore 4, 2) := dk_54 4 (dk_at dksX2_hangsAt_1 7 rfl rfl)
theorem dX2_hangsAt_33 : decode cX2_hangsAt 33 = .ok (.iload 4, 2) := dk_21 4 (dk_at dksX2_hangsAt_1 9 rfl rfl)
theorem dX2_hangsAt_35 : decode cX2_hangsAt 35 = .ok (.ifCond .lt 30, 3) := dk_155 0 30 (dk_at dksX2_hangsAt_1 11 rfl rfl)
theorem dX2_hangsAt_38 : decode cX2_hangsAt 38 = .ok (.aload_n 0, 1) := dk_42 (dk_at dksX2_hangsAt_1 14 rfl rfl)
theorem dX2_hangsAt_39 : decode cX2_hangsAt 39 = .ok (.iload 4, 2) := dk_21 4 (dk_at dksX2_hangsAt_1 15 rfl rfl)
theorem dX2_hangsAt_41 : decode cX2_hangsAt 41 = .ok (.iload_n 1, 1) := dk_27 (dk_at dksX2_hangsAt_1 17 rfl rfl)
theorem dX2_hangsAt_42 : decode cX2_hangsAt 42 = .ok (.invokevirtual 66, 3) := dk_182 0 66 (dk_at dksX2_hangsAt_1 18 rfl rfl)
theorem dX2_hangsAt_45 : decode cX2_hangsAt 45 = .ok (.ifCond .eq 14, 3) := dk_153 0 14 (dk_at dksX2_hangsAt_1 21 rfl rfl)
theorem dX2_hangsAt_48 : decode cX2_hangsAt 48 = .ok (.iload_n 3, 1) := dk_29 (dk_at dksX2_hangsAt_2 0 rfl rfl)
theorem dX2_hangsAt_49 : decode cX2_hangsAt 49 = .ok (.iload_n 2, 1) := dk_28 (dk_at dksX2_hangsAt_2 1 rfl rfl)
theorem dX2_hangsAt_50 : decode cX2_hangsAt 50 = .ok (.if_icmp .ne 6, 3) := dk_160 0 6 (dk_at dksX2_hangsAt_2 2 rfl rfl)
theorem dX2_hangsAt_53 : decode cX2_hangsAt 53 = .ok (.iload 4, 2) := dk_21 4 (dk_at dksX2_hangsAt_2 5 rfl rfl)
theorem dX2_hangsAt_55 : decode cX2_hangsAt 55 = .ok (.ireturn, 1) := dk_172 (dk_at dksX2_hangsAt_2 7 rfl rfl)
theorem dX2_hangsAt_56 : decode cX2_hangsAt 56 = .ok (.iinc 3 1, 3) := dk_132 3 1 (dk_at dksX2_hangsAt_2 8 rfl rfl)
theorem dX2_hangsAt_59 : decode cX2_hangsAt 59 = .ok (.iinc 4 (-1), 3) := dk_132 4 255 (dk_at dksX2_hangsAt_2 11 rfl rfl)
theorem dX2_hangsAt_62 : decode cX2_hangsAt 62 = .ok (.goto (-29), 3) := dk_167 255 227 (dk_at dksX2_hangsAt_2 14 rfl rfl)
theorem dX2_hangsAt_65 : decode cX2_hangsAt 65 = .ok (.bipush (-5), 2) := dk_16 251 (dk_at dksX2_hangsAt_2 17 rfl rfl)
theorem dX2_hangsAt_67 : decode cX2_hangsAt 67 = .ok (.ireturn, 1) := dk_172 (dk_at dksX2_hangsAt_2 19 rfl rfl)
abbrev cX2_order : ByteArray := prog_9_method_62_code
def yX2_order : MethodName := ⟨RX2, "order", "(II)I"⟩
def dkwX2_order_6 : List UInt8 := [172]
abbrev dktX2_order_6 : List UInt8 := dkwX2_order_6 ++ []
def dkwX2_order_5 : List UInt8 := [172, 42, 27, 182, 0, 160, 172, 42, 29, 182, 0, 74, 27, 160, 0, 7, 4, 167, 0, 4, 3, 172, 16, 254]
abbrev dktX2_order_5 : List UInt8 := dkwX2_order_5 ++ dktX2_order_6
def dkwX2_order_4 : List UInt8 := [182, 0, 57, 153, 0, 19, 42, 29, 3, 182, 0, 152, 42, 29, 27, 182, 0, 152, 100, 167, 0, 5, 16, 251]
abbrev dktX2_order_4 : List UInt8 := dkwX2_order_4 ++ dktX2_order_5
def dkwX2_order_3 : List UInt8 := [42, 27, 182, 0, 57, 153, 0, 14, 42, 29, 27, 4, 96, 182, 0, 152, 167, 0, 5, 16, 251, 172, 42, 27]
abbrev dktX2_order_3 : List UInt8 := dkwX2_order_3 ++ dktX2_order_4
def dkwX2_order_2 : List UInt8 := [42, 27, 3, 182, 0, 49, 172, 29, 172, 42, 27, 5, 182, 0, 49, 172, 42, 27, 16, 6, 182, 0, 49, 172]
abbrev dktX2_order_2 : List UInt8 := dkwX2_order_2 ++ dktX2_order_3
def dkwX2_order_1 : List UInt8 := [170, 0, 0, 0, 139, 0, 0, 0, 0, 0, 0, 0, 7, 0, 0, 0, 45, 0, 0, 0, 52, 0, 0, 0, 54, 0, 0, 0, 61, 0, 0, 0, 69, 0, 0, 0, 91, 0, 0, 0, 118, 0, 0, 0, 124]
abbrev dktX2_order_1 : List UInt8 := dkwX2_order_1 ++ dktX2_order_2
def dkwX2_order_0 : List UInt8 := [42, 3, 181, 0, 39, 42, 27, 182, 0, 149, 154, 0, 5, 2, 172, 42, 27, 4, 182, 0, 49, 62, 28]
abbrev dktX2_order_0 : List UInt8 := dkwX2_order_0 ++ dktX2_order_1
theorem dksX2_order_0 : cX2_order.data.toList.drop 0 = dktX2_order_0 := by decide +kernel
theorem dksX2_order_1 : cX2_order.data.toList.drop 23 = dktX2_order_1 := dk_seg dksX2_order_0 23 rfl rfl
theorem dksX2_order_2 : cX2_order.data.toList.drop 68 = dktX2_order_2 := dk_seg dksX2_order_1 45 rfl rfl
theorem dksX2_order_3 : cX2_order.data.toList.drop 92 = dktX2_order_3 := dk_seg dksX2_order_2 24 rfl rfl
theorem dksX2_order_4 : cX2_order.data.toList.drop 116 = dktX2_order_4 := dk_seg dksX2_order_3 24 rfl rfl
theorem dksX2_order_5 : cX2_order.data.toList.drop 140 = dktX2_order_5 := dk_seg dksX2_order_4 24 rfl rfl
theorem dksX2_order_6 : cX2_order.data.toList.drop 164 = dktX2_order_6 := dk_seg dksX2_order_5 24 rfl rfl
theorem dX2_order_0 : decode cX2_order 0 = .ok (.aload_n 0, 1) := dk_42 (dk_at dksX2_order_0 0 rfl rfl)
theorem dX2_order_1 : decode cX2_order 1 = .ok (.iconst 0, 1) := dk_3 (dk_at dksX2_order_0 1 rfl rfl)
theorem dX2_order_2 : decode cX2_order 2 = .ok (.putfield 39, 3) := dk_181 0 39 (dk_at dksX2_order_0 2 rfl rfl)
theorem dX2_order_5 : decode cX2_order 5 = .ok (.aload_n 0, 1) := dk_42 (dk_at dksX2_order_0 5 rfl rfl)
theorem dX2_order_6 : decode cX2_order 6 = .ok (.iload_n 1, 1) := dk_27 (dk_at dksX2_order_0 6 rfl rfl)
theorem dX2_order_7 : decode cX2_order 7 = .ok (.invokevirtual 149, 3) := dk_182 0 149 (dk_at dksX2_order_0 7 rfl rfl)
theorem dX2_order_10 : decode cX2_order 10 = .ok (.ifCond .ne 5, 3) := dk_154 0 5 (dk_at dksX2_order_0 10 rfl rfl)
theorem dX2_order_13 : decode cX2_order 13 = .ok (.iconst (-1), 1) := dk_2 (dk_at dksX2_order_0 13 rfl rfl)
theorem dX2_order_14 : decode cX2_order 14 = .ok (.ireturn, 1) := dk_172 (dk_at dksX2_order_0 14 rfl rfl)
theorem dX2_order_15 : decode cX2_order 15 = .ok (.aload_n 0, 1) := dk_42 (dk_at dksX2_order_0 15 rfl rfl)
theorem dX2_order_16 : decode cX2_order 16 = .ok (.iload_n 1, 1) := dk_27 (dk_at dksX2_order_0 16 rfl rfl)
theorem dX2_order_17 : decode cX2_order 17 = .ok (.iconst 1, 1) := dk_4 (dk_at dksX2_order_0 17 rfl rfl)
theorem dX2_order_18 : decode cX2_order 18 = .ok (.invokevirtual 49, 3) := dk_182 0 49 (dk_at dksX2_order_0 18 rfl rfl)
theorem dX2_order_21 : decode cX2_order 21 = .ok (.istore_n 3, 1) := dk_62 (dk_at dksX2_order_0 21 rfl rfl)
theorem dX2_order_22 : decode cX2_order 22 = .ok (.iload_n 2, 1) := dk_28 (dk_at dksX2_order_0 22 rfl rfl)
theorem dX2_order_23 : decode cX2_order 23 = .ok (.tableswitch 139 0 7 #[45, 52, 54, 61, 69, 91, 118, 124], 45) := by decide +kernel
theorem dX2_order_68 : decode cX2_order 68 = .ok (.aload_n 0, 1) := dk_42 (dk_at dksX2_order_2 0 rfl rfl)
theorem dX2_order_69 : decode cX2_order 69 = .ok (.iload_n 1, 1) := dk_27 (dk_at dksX2_order_2 1 rfl rfl)
theorem dX2_order_70 : decode cX2_order 70 = .ok (.iconst 0, 1) := dk_3 (dk_at dksX2_order_2 2 rfl rfl)
theorem dX2_order_71 : decode cX2_order 71 = .ok (.invokevirtual 49, 3) := dk_182 0 49 (dk_at dksX2_order_2 3 rfl rfl)
theorem dX2_order_74 : decode cX2_order 74 = .ok (.ireturn, 1) := dk_172 (dk_at dksX2_order_2 6 rfl rfl)
theorem dX2_order_75 : decode cX2_order 75 = .ok (.iload_n 3, 1) := dk_29 (dk_at dksX2_order_2 7 rfl rfl)
theorem dX2_order_76 : decode cX2_order 76 = .ok (.ireturn, 1) := dk_172 (dk_at dksX2_order_2 8 rfl rfl)
theorem dX2_order_77 : decode cX2_order 77 = .ok (.aload_n 0, 1) := dk_42 (dk_at dksX2_order_2 9 rfl rfl)
theorem dX2_order_78 : decode cX2_order 78 = .ok (.iload_n 1, 1) := dk_27 (dk_at dksX2_order_2 10 rfl rfl)
theorem dX2_order_79 : decode cX2_order 79 = .ok (.iconst 2, 1) := dk_5 (dk_at dksX2_order_2 11 rfl rfl)
theorem dX2_order_80 : decode cX2_order 80 = .ok (.invokevirtual 49, 3) := dk_182 0 49 (dk_at dksX2_order_2 12 rfl rfl)
theorem dX2_order_83 : decode cX2_order 83 = .ok (.ireturn, 1) := dk_172 (dk_at dksX2_order_2 15 rfl rfl)
theorem dX2_order_84 : decode cX2_order 84 = .ok (.aload_n 0, 1) := dk_42 (dk_at dksX2_order_2 16 rfl rfl)
theorem dX2_order_85 : decode cX2_order 85 = .ok (.iload_n 1, 1) := dk_27 (dk_at dksX2_order_2 17 rfl rfl)
theorem dX2_order_86 : decode cX2_order 86 = .ok (.bipush 6, 2) := dk_16 6 (dk_at dksX2_order_2 18 rfl rfl)
theorem dX2_order_88 : decode cX2_order 88 = .ok (.invokevirtual 49, 3) := dk_182 0 49 (dk_at dksX2_order_2 20 rfl rfl)
theorem dX2_order_91 : decode cX2_order 91 = .ok (.ireturn, 1) := dk_172 (dk_at dksX2_order_2 23 rfl rfl)
theorem dX2_order_92 : decode cX2_order 92 = .ok (.aload_n 0, 1) := dk_42 (dk_at dksX2_order_3 0 rfl rfl)
theorem dX2_order_93 : decode cX2_order 93 = .ok (.iload_n 1, 1) := dk_27 (dk_at dksX2_order_3 1 rfl rfl)
theorem dX2_order_94 : decode cX2_order 94 = .ok (.invokevirtual 57, 3) := dk_182 0 57 (dk_at dksX2_order_3 2 rfl rfl)
theorem dX2_order_97 : decode cX2_order 97 = .ok (.ifCond .eq 14, 3) := dk_153 0 14 (dk_at dksX2_order_3 5 rfl rfl)
theorem dX2_order_100 : decode cX2_order 100 = .ok (.aload_n 0, 1) := dk_42 (dk_at dksX2_order_3 8 rfl rfl)
theorem dX2_order_101 : decode cX2_order 101 = .ok (.iload_n 3, 1) := dk_29 (dk_at dksX2_order_3 9 rfl rfl)
theorem dX2_order_102 : decode cX2_order 102 = .ok (.iload_n 1, 1) := dk_27 (dk_at dksX2_order_3 10 rfl rfl)
theorem dX2_order_103 : decode cX2_order 103 = .ok (.iconst 1, 1) := dk_4 (dk_at dksX2_order_3 11 rfl rfl)
theorem dX2_order_104 : decode cX2_order 104 = .ok (.iadd, 1) := dk_96 (dk_at dksX2_order_3 12 rfl rfl)
theorem dX2_order_105 : decode cX2_order 105 = .ok (.invokevirtual 152, 3) := dk_182 0 152 (dk_at dksX2_order_3 13 rfl rfl)
theorem dX2_order_108 : decode cX2_order 108 = .ok (.goto 5, 3) := dk_167 0 5 (dk_at dksX2_order_3 16 rfl rfl)
theorem dX2_order_111 : decode cX2_order 111 = .ok (.bipush (-5), 2) := dk_16 251 (dk_at dksX2_order_3 19 rfl rfl)
theorem dX2_order_113 : decode cX2_order 113 = .ok (.ireturn, 1) := dk_172 (dk_at dksX2_order_3 21 rfl rfl)
theorem dX2_order_114 : decode cX2_order 114 = .ok (.aload_n 0, 1) := dk_42 (dk_at dksX2_order_3 22 rfl rfl)
theorem dX2_order_115 : decode cX2_order 115 = .ok (.iload_n 1, 1) := dk_27 (dk_at dksX2_order_3 23 rfl rfl)
theorem dX2_order_116 : decode cX2_order 116 = .ok (.invokevirtual 57, 3) := dk_182 0 57 (dk_at dksX2_order_4 0 rfl rfl)
theorem dX2_order_119 : decode cX2_order 119 = .ok (.ifCond .eq 19, 3) := dk_153 0 19 (dk_at dksX2_order_4 3 rfl rfl)
theorem dX2_order_122 : decode cX2_order 122 = .ok (.aload_n 0, 1) := dk_42 (dk_at dksX2_order_4 6 rfl rfl)
theorem dX2_order_123 : decode cX2_order 123 = .ok (.iload_n 3, 1) := dk_29 (dk_at dksX2_order_4 7 rfl rfl)
theorem dX2_order_124 : decode cX2_order 124 = .ok (.iconst 0, 1) := dk_3 (dk_at dksX2_order_4 8 rfl rfl)
theorem dX2_order_125 : decode cX2_order 125 = .ok (.invokevirtual 152, 3) := dk_182 0 152 (dk_at dksX2_order_4 9 rfl rfl)
theorem dX2_order_128 : decode cX2_order 128 = .ok (.aload_n 0, 1) := dk_42 (dk_at dksX2_order_4 12 rfl rfl)
theorem dX2_order_129 : decode cX2_order 129 = .ok (.iload_n 3, 1) := dk_29 (dk_at dksX2_order_4 13 rfl rfl)
theorem dX2_order_130 : decode cX2_order 130 = .ok (.iload_n 1, 1) := dk_27 (dk_at dksX2_order_4 14 rfl rfl)
theorem dX2_order_131 : decode cX2_order 131 = .ok (.invokevirtual 152, 3) := dk_182 0 152 (dk_at dksX2_order_4 15 rfl rfl)
theorem dX2_order_134 : decode cX2_order 134 = .ok (.isub, 1) := dk_100 (dk_at dksX2_order_4 18 rfl rfl)
theorem dX2_order_135 : decode cX2_order 135 = .ok (.goto 5, 3) := dk_167 0 5 (dk_at dksX2_order_4 19 rfl rfl)
theorem dX2_order_138 : decode cX2_order 138 = .ok (.bipush (-5), 2) := dk_16 251 (dk_at dksX2_order_4 22 rfl rfl)
theorem dX2_order_140 : decode cX2_order 140 = .ok (.ireturn, 1) := dk_172 (dk_at dksX2_order_5 0 rfl rfl)
theorem dX2_order_141 : decode cX2_order 141 = .ok (.aload_n 0, 1) := dk_42 (dk_at dksX2_order_5 1 rfl rfl)
theorem dX2_order_142 : decode cX2_order 142 = .ok (.iload_n 1, 1) := dk_27 (dk_at dksX2_order_5 2 rfl rfl)
theorem dX2_order_143 : decode cX2_order 143 = .ok (.invokevirtual 160, 3) := dk_182 0 160 (dk_at dksX2_order_5 3 rfl rfl)
theorem dX2_order_146 : decode cX2_order 146 = .ok (.ireturn, 1) := dk_172 (dk_at dksX2_order_5 6 rfl rfl)
theorem dX2_order_147 : decode cX2_order 147 = .ok (.aload_n 0, 1) := dk_42 (dk_at dksX2_order_5 7 rfl rfl)
theorem dX2_order_148 : decode cX2_order 148 = .ok (.iload_n 3, 1) := dk_29 (dk_at dksX2_order_5 8 rfl rfl)
theorem dX2_order_149 : decode cX2_order 149 = .ok (.invokevirtual 74, 3) := dk_182 0 74 (dk_at dksX2_order_5 9 rfl rfl)
theorem dX2_order_152 : decode cX2_order 152 = .ok (.iload_n 1, 1) := dk_27 (dk_at dksX2_order_5 12 rfl rfl)
theorem dX2_order_153 : decode cX2_order 153 = .ok (.if_icmp .ne 7, 3) := dk_160 0 7 (dk_at dksX2_order_5 13 rfl rfl)
theorem dX2_order_156 : decode cX2_order 156 = .ok (.iconst 1, 1) := dk_4 (dk_at dksX2_order_5 16 rfl rfl)
theorem dX2_order_157 : decode cX2_order 157 = .ok (.goto 4, 3) := dk_167 0 4 (dk_at dksX2_order_5 17 rfl rfl)
theorem dX2_order_160 : decode cX2_order 160 = .ok (.iconst 0, 1) := dk_3 (dk_at dksX2_order_5 20 rfl rfl)
theorem dX2_order_161 : decode cX2_order 161 = .ok (.ireturn, 1) := dk_172 (dk_at dksX2_order_5 21 rfl rfl)
theorem dX2_order_162 : decode cX2_order 162 = .ok (.bipush (-2), 2) := dk_16 254 (dk_at dksX2_order_5 22 rfl rfl)
theorem dX2_order_164 : decode cX2_order 164 = .ok (.ireturn, 1) := dk_172 (dk_at dksX2_order_6 0 rfl rfl)
abbrev cX2_real : ByteArray := prog_9_method_63_code
def yX2_real : MethodName := ⟨RX2, "real", "(II)F"⟩
def dkwX2_real_2 : List UInt8 := [182, 0, 77, 167, 0, 9, 42, 27, 8, 182, 0, 77, 174]
abbrev dktX2_real_2 : List UInt8 := dkwX2_real_2 ++ []
def dkwX2_real_1 : List UInt8 := [167, 0, 36, 28, 154, 0, 12, 42, 27, 7, 182, 0, 77, 167, 0, 23, 28, 4, 160, 0, 12, 42, 27, 6]
abbrev dktX2_real_1 : List UInt8 := dkwX2_real_1 ++ dktX2_real_2
def dkwX2_real_0 : List UInt8 := [42, 3, 181, 0, 39, 42, 27, 182, 0, 149, 153, 0, 12, 28, 3, 5, 184, 0, 53, 154, 0, 8, 18, 204]
abbrev dktX2_real_0 : List UInt8 := dkwX2_real_0 ++ dktX2_real_1
theorem dksX2_real_0 : cX2_real.data.toList.drop 0 = dktX2_real_0 := by decide +kernel
theorem dksX2_real_1 : cX2_real.data.toList.drop 24 = dktX2_real_1 := dk_seg dksX2_real_0 24 rfl rfl
theorem dksX2_real_2 : cX2_real.data.toList.drop 48 = dktX2_real_2 := dk_seg dksX2_real_1 24 rfl rfl
theorem dX2_real_0 : decode cX2_real 0 = .ok (.aload_n 0, 1) := dk_42 (dk_at dksX2_real_0 0 rfl rfl)
theorem dX2_real_1 : decode cX2_real 1 = .ok (.iconst 0, 1) := dk_3 (dk_at dksX2_real_0 1 rfl rfl)
theorem dX2_real_2 : decode cX2_real 2 = .ok (.putfield 39, 3) := dk_181 0 39 (dk_at dksX2_real_0 2 rfl rfl)
theorem dX2_real_5 : decode cX2_real 5 = .ok (.aload_n 0, 1) := dk_42 (dk_at dksX2_real_0 5 rfl rfl)
theorem dX2_real_6 : decode cX2_real 6 = .ok (.iload_n 1, 1) := dk_27 (dk_at dksX2_real_0 6 rfl rfl)
theorem dX2_real_7 : decode cX2_real 7 = .ok (.invokevirtual 149, 3) := dk_182 0 149 (dk_at dksX2_real_0 7 rfl rfl)
theorem dX2_real_10 : decode cX2_real 10 = .ok (.ifCond .eq 12, 3) := dk_153 0 12 (dk_at dksX2_real_0 10 rfl rfl)
theorem dX2_real_13 : decode cX2_real 13 = .ok (.iload_n 2, 1) := dk_28 (dk_at dksX2_real_0 13 rfl rfl)
theorem dX2_real_14 : decode cX2_real 14 = .ok (.iconst 0, 1) := dk_3 (dk_at dksX2_real_0 14 rfl rfl)
theorem dX2_real_15 : decode cX2_real 15 = .ok (.iconst 2, 1) := dk_5 (dk_at dksX2_real_0 15 rfl rfl)
theorem dX2_real_16 : decode cX2_real 16 = .ok (.invokestatic 53, 3) := dk_184 0 53 (dk_at dksX2_real_0 16 rfl rfl)
theorem dX2_real_19 : decode cX2_real 19 = .ok (.ifCond .ne 8, 3) := dk_154 0 8 (dk_at dksX2_real_0 19 rfl rfl)
theorem dX2_real_22 : decode cX2_real 22 = .ok (.ldc 204, 2) := dk_18 204 (dk_at dksX2_real_0 22 rfl rfl)
theorem dX2_real_24 : decode cX2_real 24 = .ok (.goto 36, 3) := dk_167 0 36 (dk_at dksX2_real_1 0 rfl rfl)
theorem dX2_real_27 : decode cX2_real 27 = .ok (.iload_n 2, 1) := dk_28 (dk_at dksX2_real_1 3 rfl rfl)
theorem dX2_real_28 : decode cX2_real 28 = .ok (.ifCond .ne 12, 3) := dk_154 0 12 (dk_at dksX2_real_1 4 rfl rfl)
theorem dX2_real_31 : decode cX2_real 31 = .ok (.aload_n 0, 1) := dk_42 (dk_at dksX2_real_1 7 rfl rfl)
theorem dX2_real_32 : decode cX2_real 32 = .ok (.iload_n 1, 1) := dk_27 (dk_at dksX2_real_1 8 rfl rfl)
theorem dX2_real_33 : decode cX2_real 33 = .ok (.iconst 4, 1) := dk_7 (dk_at dksX2_real_1 9 rfl rfl)
theorem dX2_real_34 : decode cX2_real 34 = .ok (.invokevirtual 77, 3) := dk_182 0 77 (dk_at dksX2_real_1 10 rfl rfl)
theorem dX2_real_37 : decode cX2_real 37 = .ok (.goto 23, 3) := dk_167 0 23 (dk_at dksX2_real_1 13 rfl rfl)
theorem dX2_real_40 : decode cX2_real 40 = .ok (.iload_n 2, 1) := dk_28 (dk_at dksX2_real_1 16 rfl rfl)
theorem dX2_real_41 : decode cX2_real 41 = .ok (.iconst 1, 1) := dk_4 (dk_at dksX2_real_1 17 rfl rfl)
theorem dX2_real_42 : decode cX2_real 42 = .ok (.if_icmp .ne 12, 3) := dk_160 0 12 (dk_at dksX2_real_1 18 rfl rfl)
theorem dX2_real_45 : decode cX2_real 45 = .ok (.aload_n 0, 1) := dk_42 (dk_at dksX2_real_1 21 rfl rfl)
theorem dX2_real_46 : decode cX2_real 46 = .ok (.iload_n 1, 1) := dk_27 (dk_at dksX2_real_1 22 rfl rfl)
theorem dX2_real_47 : decode cX2_real 47 = .ok (.iconst 3, 1) := dk_6 (dk_at dksX2_real_1 23 rfl rfl)
theorem dX2_real_48 : decode cX2_real 48 = .ok (.invokevirtual 77, 3) := dk_182 0 77 (dk_at dksX2_real_2 0 rfl rfl)
theorem dX2_real_51 : decode cX2_real 51 = .ok (.goto 9, 3) := dk_167 0 9 (dk_at dksX2_real_2 3 rfl rfl)
theorem dX2_real_54 : decode cX2_real 54 = .ok (.aload_n 0, 1) := dk_42 (dk_at dksX2_real_2 6 rfl rfl)
theorem dX2_real_55 : decode cX2_real 55 = .ok (.iload_n 1, 1) := dk_27 (dk_at dksX2_real_2 7 rfl rfl)
theorem dX2_real_56 : decode cX2_real 56 = .ok (.iconst 5, 1) := dk_8 (dk_at dksX2_real_2 8 rfl rfl)
theorem dX2_real_57 : decode cX2_real 57 = .ok (.invokevirtual 77, 3) := dk_182 0 77 (dk_at dksX2_real_2 9 rfl rfl)
theorem dX2_real_60 : decode cX2_real 60 = .ok (.freturn, 1) := dk_174 (dk_at dksX2_real_2 12 rfl rfl)
abbrev cX2_reason : ByteArray := prog_9_method_64_code
def yX2_reason : MethodName := ⟨RX2, "reason", "(II)I"⟩
def dkwX2_reason_3 : List UInt8 := [182, 0, 74, 62, 132, 4, 1, 167, 255, 214, 29, 172]
abbrev dktX2_reason_3 : List UInt8 := dkwX2_reason_3 ++ []
def dkwX2_reason_2 : List UInt8 := [42, 29, 5, 182, 0, 49, 16, 251, 160, 0, 8, 16, 251, 167, 0, 13, 42, 42, 29, 5, 182, 0, 49]
abbrev dktX2_reason_2 : List UInt8 := dkwX2_reason_2 ++ dktX2_reason_3
def dkwX2_reason_1 : List UInt8 := [16, 254, 172, 42, 27, 182, 0, 74, 62, 3, 54, 4, 21, 4, 28, 162, 0, 42, 29, 16, 251, 159, 0, 36]
abbrev dktX2_reason_1 : List UInt8 := dkwX2_reason_1 ++ dktX2_reason_2
def dkwX2_reason_0 : List UInt8 := [42, 3, 181, 0, 39, 27, 184, 0, 125, 154, 0, 5, 2, 172, 28, 3, 16, 16, 184, 0, 53, 154, 0, 6]
abbrev dktX2_reason_0 : List UInt8 := dkwX2_reason_0 ++ dktX2_reason_1
theorem dksX2_reason_0 : cX2_reason.data.toList.drop 0 = dktX2_reason_0 := by decide +kernel
theorem dksX2_reason_1 : cX2_reason.data.toList.drop 24 = dktX2_reason_1 := dk_seg dksX2_reason_0 24 rfl rfl
theorem dksX2_reason_2 : cX2_reason.data.toList.drop 48 = dktX2_reason_2 := dk_seg dksX2_reason_1 24 rfl rfl
theorem dksX2_reason_3 : cX2_reason.data.toList.drop 71 = dktX2_reason_3 := dk_seg dksX2_reason_2 23 rfl rfl
theorem dX2_reason_0 : decode cX2_reason 0 = .ok (.aload_n 0, 1) := dk_42 (dk_at dksX2_reason_0 0 rfl rfl)
theorem dX2_reason_1 : decode cX2_reason 1 = .ok (.iconst 0, 1) := dk_3 (dk_at dksX2_reason_0 1 rfl rfl)
theorem dX2_reason_2 : decode cX2_reason 2 = .ok (.putfield 39, 3) := dk_181 0 39 (dk_at dksX2_reason_0 2 rfl rfl)
theorem dX2_reason_5 : decode cX2_reason 5 = .ok (.iload_n 1, 1) := dk_27 (dk_at dksX2_reason_0 5 rfl rfl)
theorem dX2_reason_6 : decode cX2_reason 6 = .ok (.invokestatic 125, 3) := dk_184 0 125 (dk_at dksX2_reason_0 6 rfl rfl)
theorem dX2_reason_9 : decode cX2_reason 9 = .ok (.ifCond .ne 5, 3) := dk_154 0 5 (dk_at dksX2_reason_0 9 rfl rfl)
theorem dX2_reason_12 : decode cX2_reason 12 = .ok (.iconst (-1), 1) := dk_2 (dk_at dksX2_reason_0 12 rfl rfl)
theorem dX2_reason_13 : decode cX2_reason 13 = .ok (.ireturn, 1) := dk_172 (dk_at dksX2_reason_0 13 rfl rfl)
theorem dX2_reason_14 : decode cX2_reason 14 = .ok (.iload_n 2, 1) := dk_28 (dk_at dksX2_reason_0 14 rfl rfl)
theorem dX2_reason_15 : decode cX2_reason 15 = .ok (.iconst 0, 1) := dk_3 (dk_at dksX2_reason_0 15 rfl rfl)
theorem dX2_reason_16 : decode cX2_reason 16 = .ok (.bipush 16, 2) := dk_16 16 (dk_at dksX2_reason_0 16 rfl rfl)
theorem dX2_reason_18 : decode cX2_reason 18 = .ok (.invokestatic 53, 3) := dk_184 0 53 (dk_at dksX2_reason_0 18 rfl rfl)
theorem dX2_reason_21 : decode cX2_reason 21 = .ok (.ifCond .ne 6, 3) := dk_154 0 6 (dk_at dksX2_reason_0 21 rfl rfl)
theorem dX2_reason_24 : decode cX2_reason 24 = .ok (.bipush (-2), 2) := dk_16 254 (dk_at dksX2_reason_1 0 rfl rfl)
theorem dX2_reason_26 : decode cX2_reason 26 = .ok (.ireturn, 1) := dk_172 (dk_at dksX2_reason_1 2 rfl rfl)
theorem dX2_reason_27 : decode cX2_reason 27 = .ok (.aload_n 0, 1) := dk_42 (dk_at dksX2_reason_1 3 rfl rfl)
theorem dX2_reason_28 : decode cX2_reason 28 = .ok (.iload_n 1, 1) := dk_27 (dk_at dksX2_reason_1 4 rfl rfl)
theorem dX2_reason_29 : decode cX2_reason 29 = .ok (.invokevirtual 74, 3) := dk_182 0 74 (dk_at dksX2_reason_1 5 rfl rfl)
theorem dX2_reason_32 : decode cX2_reason 32 = .ok (.istore_n 3, 1) := dk_62 (dk_at dksX2_reason_1 8 rfl rfl)
theorem dX2_reason_33 : decode cX2_reason 33 = .ok (.iconst 0, 1) := dk_3 (dk_at dksX2_reason_1 9 rfl rfl)
theorem dX2_reason_34 : decode cX2_reason 34 = .ok (.istore 4, 2) := dk_54 4 (dk_at dksX2_reason_1 10 rfl rfl)
theorem dX2_reason_36 : decode cX2_reason 36 = .ok (.iload 4, 2) := dk_21 4 (dk_at dksX2_reason_1 12 rfl rfl)
theorem dX2_reason_38 : decode cX2_reason 38 = .ok (.iload_n 2, 1) := dk_28 (dk_at dksX2_reason_1 14 rfl rfl)
theorem dX2_reason_39 : decode cX2_reason 39 = .ok (.if_icmp .ge 42, 3) := dk_162 0 42 (dk_at dksX2_reason_1 15 rfl rfl)
theorem dX2_reason_42 : decode cX2_reason 42 = .ok (.iload_n 3, 1) := dk_29 (dk_at dksX2_reason_1 18 rfl rfl)
theorem dX2_reason_43 : decode cX2_reason 43 = .ok (.bipush (-5), 2) := dk_16 251 (dk_at dksX2_reason_1 19 rfl rfl)
theorem dX2_reason_45 : decode cX2_reason 45 = .ok (.if_icmp .eq 36, 3) := dk_159 0 36 (dk_at dksX2_reason_1 21 rfl rfl)
theorem dX2_reason_48 : decode cX2_reason 48 = .ok (.aload_n 0, 1) := dk_42 (dk_at dksX2_reason_2 0 rfl rfl)
theorem dX2_reason_49 : decode cX2_reason 49 = .ok (.iload_n 3, 1) := dk_29 (dk_at dksX2_reason_2 1 rfl rfl)
theorem dX2_reason_50 : decode cX2_reason 50 = .ok (.iconst 2, 1) := dk_5 (dk_at dksX2_reason_2 2 rfl rfl)
theorem dX2_reason_51 : decode cX2_reason 51 = .ok (.invokevirtual 49, 3) := dk_182 0 49 (dk_at dksX2_reason_2 3 rfl rfl)
theorem dX2_reason_54 : decode cX2_reason 54 = .ok (.bipush (-5), 2) := dk_16 251 (dk_at dksX2_reason_2 6 rfl rfl)
theorem dX2_reason_56 : decode cX2_reason 56 = .ok (.if_icmp .ne 8, 3) := dk_160 0 8 (dk_at dksX2_reason_2 8 rfl rfl)
theorem dX2_reason_59 : decode cX2_reason 59 = .ok (.bipush (-5), 2) := dk_16 251 (dk_at dksX2_reason_2 11 rfl rfl)
theorem dX2_reason_61 : decode cX2_reason 61 = .ok (.goto 13, 3) := dk_167 0 13 (dk_at dksX2_reason_2 13 rfl rfl)
theorem dX2_reason_64 : decode cX2_reason 64 = .ok (.aload_n 0, 1) := dk_42 (dk_at dksX2_reason_2 16 rfl rfl)
theorem dX2_reason_65 : decode cX2_reason 65 = .ok (.aload_n 0, 1) := dk_42 (dk_at dksX2_reason_2 17 rfl rfl)
theorem dX2_reason_66 : decode cX2_reason 66 = .ok (.iload_n 3, 1) := dk_29 (dk_at dksX2_reason_2 18 rfl rfl)
theorem dX2_reason_67 : decode cX2_reason 67 = .ok (.iconst 2, 1) := dk_5 (dk_at dksX2_reason_2 19 rfl rfl)
theorem dX2_reason_68 : decode cX2_reason 68 = .ok (.invokevirtual 49, 3) := dk_182 0 49 (dk_at dksX2_reason_2 20 rfl rfl)
theorem dX2_reason_71 : decode cX2_reason 71 = .ok (.invokevirtual 74, 3) := dk_182 0 74 (dk_at dksX2_reason_3 0 rfl rfl)
theorem dX2_reason_74 : decode cX2_reason 74 = .ok (.istore_n 3, 1) := dk_62 (dk_at dksX2_reason_3 3 rfl rfl)
theorem dX2_reason_75 : decode cX2_reason 75 = .ok (.iinc 4 1, 3) := dk_132 4 1 (dk_at dksX2_reason_3 4 rfl rfl)
theorem dX2_reason_78 : decode cX2_reason 78 = .ok (.goto (-42), 3) := dk_167 255 214 (dk_at dksX2_reason_3 7 rfl rfl)
theorem dX2_reason_81 : decode cX2_reason 81 = .ok (.iload_n 3, 1) := dk_29 (dk_at dksX2_reason_3 10 rfl rfl)
theorem dX2_reason_82 : decode cX2_reason 82 = .ok (.ireturn, 1) := dk_172 (dk_at dksX2_reason_3 11 rfl rfl)
abbrev cX2_changesWithout : ByteArray := prog_9_method_65_code
def yX2_changesWithout : MethodName := ⟨RX2, "changesWithout", "(I)I"⟩
def dkwX2_changesWithout_6 : List UInt8 := [27, 104, 96, 16, 6, 96, 4, 79, 28, 172]
abbrev dktX2_changesWithout_6 : List UInt8 := dkwX2_changesWithout_6 ++ []
def dkwX2_changesWithout_5 : List UInt8 := [153, 0, 7, 4, 167, 0, 4, 3, 96, 61, 132, 3, 1, 167, 255, 207, 42, 180, 0, 7, 16, 12, 16, 7]
abbrev dktX2_changesWithout_5 : List UInt8 := dkwX2_changesWithout_5 ++ dktX2_changesWithout_6
def dkwX2_changesWithout_4 : List UInt8 := [28, 42, 42, 180, 0, 31, 29, 51, 42, 180, 0, 35, 29, 48, 42, 180, 0, 83, 23, 4, 182, 0, 103]
abbrev dktX2_changesWithout_4 : List UInt8 := dkwX2_changesWithout_4 ++ dktX2_changesWithout_5
def dkwX2_changesWithout_3 : List UInt8 := [104, 96, 16, 6, 96, 3, 79, 3, 61, 3, 62, 29, 16, 16, 162, 0, 49, 42, 29, 182, 0, 94, 56, 4]
abbrev dktX2_changesWithout_3 : List UInt8 := dkwX2_changesWithout_3 ++ dktX2_changesWithout_4
def dkwX2_changesWithout_2 : List UInt8 := [180, 0, 31, 28, 42, 180, 0, 83, 84, 132, 2, 1, 167, 255, 226, 42, 180, 0, 7, 16, 12, 16, 7, 27]
abbrev dktX2_changesWithout_2 : List UInt8 := dkwX2_changesWithout_2 ++ dktX2_changesWithout_3
def dkwX2_changesWithout_1 : List UInt8 := [16, 251, 172, 3, 61, 28, 16, 16, 162, 0, 30, 42, 180, 0, 35, 28, 42, 28, 182, 0, 94, 81, 42]
abbrev dktX2_changesWithout_1 : List UInt8 := dkwX2_changesWithout_1 ++ dktX2_changesWithout_2
def dkwX2_changesWithout_0 : List UInt8 := [42, 3, 181, 0, 39, 42, 27, 182, 0, 149, 154, 0, 5, 2, 172, 42, 27, 182, 0, 57, 154, 0, 6]
abbrev dktX2_changesWithout_0 : List UInt8 := dkwX2_changesWithout_0 ++ dktX2_changesWithout_1
theorem dksX2_changesWithout_0 : cX2_changesWithout.data.toList.drop 0 = dktX2_changesWithout_0 := by decide +kernel
theorem dksX2_changesWithout_1 : cX2_changesWithout.data.toList.drop 23 = dktX2_changesWithout_1 := dk_seg dksX2_changesWithout_0 23 rfl rfl
theorem dksX2_changesWithout_2 : cX2_changesWithout.data.toList.drop 46 = dktX2_changesWithout_2 := dk_seg dksX2_changesWithout_1 23 rfl rfl
theorem dksX2_changesWithout_3 : cX2_changesWithout.data.toList.drop 70 = dktX2_changesWithout_3 := dk_seg dksX2_changesWithout_2 24 rfl rfl
theorem dksX2_changesWithout_4 : cX2_changesWithout.data.toList.drop 94 = dktX2_changesWithout_4 := dk_seg dksX2_changesWithout_3 24 rfl rfl
theorem dksX2_changesWithout_5 : cX2_changesWithout.data.toList.drop 117 = dktX2_changesWithout_5 := dk_seg dksX2_changesWithout_4 23 rfl rfl
theorem dksX2_changesWithout_6 : cX2_changesWithout.data.toList.drop 141 = dktX2_changesWithout_6 := dk_seg dksX2_changesWithout_5 24 rfl rfl
theorem dX2_changesWithout_0 : decode cX2_changesWithout 0 = .ok (.aload_n 0, 1) := dk_42 (dk_at dksX2_changesWithout_0 0 rfl rfl)
theorem dX2_changesWithout_1 : decode cX2_changesWithout 1 = .ok (.iconst 0, 1) := dk_3 (dk_at dksX2_changesWithout_0 1 rfl rfl)
theorem dX2_changesWithout_2 : decode cX2_changesWithout 2 = .ok (.putfield 39, 3) := dk_181 0 39 (dk_at dksX2_changesWithout_0 2 rfl rfl)
theorem dX2_changesWithout_5 : decode cX2_changesWithout 5 = .ok (.aload_n 0, 1) := dk_42 (dk_at dksX2_changesWithout_0 5 rfl rfl)
theorem dX2_changesWithout_6 : decode cX2_changesWithout 6 = .ok (.iload_n 1, 1) := dk_27 (dk_at dksX2_changesWithout_0 6 rfl rfl)
theorem dX2_changesWithout_7 : decode cX2_changesWithout 7 = .ok (.invokevirtual 149, 3) := dk_182 0 149 (dk_at dksX2_changesWithout_0 7 rfl rfl)
theorem dX2_changesWithout_10 : decode cX2_changesWithout 10 = .ok (.ifCond .ne 5, 3) := dk_154 0 5 (dk_at dksX2_changesWithout_0 10 rfl rfl)
theorem dX2_changesWithout_13 : decode cX2_changesWithout 13 = .ok (.iconst (-1), 1) := dk_2 (dk_at dksX2_changesWithout_0 13 rfl rfl)
theorem dX2_changesWithout_14 : decode cX2_changesWithout 14 = .ok (.ireturn, 1) := dk_172 (dk_at dksX2_changesWithout_0 14 rfl rfl)
theorem dX2_changesWithout_15 : decode cX2_changesWithout 15 = .ok (.aload_n 0, 1) := dk_42 (dk_at dksX2_changesWithout_0 15 rfl rfl)
theorem dX2_changesWithout_16 : decode cX2_changesWithout 16 = .ok (.iload_n 1, 1) := dk_27 (dk_at dksX2_changesWithout_0 16 rfl rfl)
theorem dX2_changesWithout_17 : decode cX2_changesWithout 17 = .ok (.invokevirtual 57, 3) := dk_182 0 57 (dk_at dksX2_changesWithout_0 17 rfl rfl)
theorem dX2_changesWithout_20 : decode cX2_changesWithout 20 = .ok (.ifCond .ne 6, 3) := dk_154 0 6 (dk_at dksX2_changesWithout_0 20 rfl rfl)
theorem dX2_changesWithout_23 : decode cX2_changesWithout 23 = .ok (.bipush (-5), 2) := dk_16 251 (dk_at dksX2_changesWithout_1 0 rfl rfl)
theorem dX2_changesWithout_25 : decode cX2_changesWithout 25 = .ok (.ireturn, 1) := dk_172 (dk_at dksX2_changesWithout_1 2 rfl rfl)
theorem dX2_changesWithout_26 : decode cX2_changesWithout 26 = .ok (.iconst 0, 1) := dk_3 (dk_at dksX2_changesWithout_1 3 rfl rfl)
theorem dX2_changesWithout_27 : decode cX2_changesWithout 27 = .ok (.istore_n 2, 1) := dk_61 (dk_at dksX2_changesWithout_1 4 rfl rfl)
theorem dX2_changesWithout_28 : decode cX2_changesWithout 28 = .ok (.iload_n 2, 1) := dk_28 (dk_at dksX2_changesWithout_1 5 rfl rfl)
theorem dX2_changesWithout_29 : decode cX2_changesWithout 29 = .ok (.bipush 16, 2) := dk_16 16 (dk_at dksX2_changesWithout_1 6 rfl rfl)
theorem dX2_changesWithout_31 : decode cX2_changesWithout 31 = .ok (.if_icmp .ge 30, 3) := dk_162 0 30 (dk_at dksX2_changesWithout_1 8 rfl rfl)
theorem dX2_changesWithout_34 : decode cX2_changesWithout 34 = .ok (.aload_n 0, 1) := dk_42 (dk_at dksX2_changesWithout_1 11 rfl rfl)
theorem dX2_changesWithout_35 : decode cX2_changesWithout 35 = .ok (.getfield 35, 3) := dk_180 0 35 (dk_at dksX2_changesWithout_1 12 rfl rfl)
theorem dX2_changesWithout_38 : decode cX2_changesWithout 38 = .ok (.iload_n 2, 1) := dk_28 (dk_at dksX2_changesWithout_1 15 rfl rfl)
theorem dX2_changesWithout_39 : decode cX2_changesWithout 39 = .ok (.aload_n 0, 1) := dk_42 (dk_at dksX2_changesWithout_1 16 rfl rfl)
theorem dX2_changesWithout_40 : decode cX2_changesWithout 40 = .ok (.iload_n 2, 1) := dk_28 (dk_at dksX2_changesWithout_1 17 rfl rfl)
theorem dX2_changesWithout_41 : decode cX2_changesWithout 41 = .ok (.invokevirtual 94, 3) := dk_182 0 94 (dk_at dksX2_changesWithout_1 18 rfl rfl)
theorem dX2_changesWithout_44 : decode cX2_changesWithout 44 = .ok (.fastore, 1) := dk_81 (dk_at dksX2_changesWithout_1 21 rfl rfl)
theorem dX2_changesWithout_45 : decode cX2_changesWithout 45 = .ok (.aload_n 0, 1) := dk_42 (dk_at dksX2_changesWithout_1 22 rfl rfl)
theorem dX2_changesWithout_46 : decode cX2_changesWithout 46 = .ok (.getfield 31, 3) := dk_180 0 31 (dk_at dksX2_changesWithout_2 0 rfl rfl)
theorem dX2_changesWithout_49 : decode cX2_changesWithout 49 = .ok (.iload_n 2, 1) := dk_28 (dk_at dksX2_changesWithout_2 3 rfl rfl)
theorem dX2_changesWithout_50 : decode cX2_changesWithout 50 = .ok (.aload_n 0, 1) := dk_42 (dk_at dksX2_changesWithout_2 4 rfl rfl)
theorem dX2_changesWithout_51 : decode cX2_changesWithout 51 = .ok (.getfield 83, 3) := dk_180 0 83 (dk_at dksX2_changesWithout_2 5 rfl rfl)
theorem dX2_changesWithout_54 : decode cX2_changesWithout 54 = .ok (.bastore, 1) := dk_84 (dk_at dksX2_changesWithout_2 8 rfl rfl)
theorem dX2_changesWithout_55 : decode cX2_changesWithout 55 = .ok (.iinc 2 1, 3) := dk_132 2 1 (dk_at dksX2_changesWithout_2 9 rfl rfl)
theorem dX2_changesWithout_58 : decode cX2_changesWithout 58 = .ok (.goto (-30), 3) := dk_167 255 226 (dk_at dksX2_changesWithout_2 12 rfl rfl)
theorem dX2_changesWithout_61 : decode cX2_changesWithout 61 = .ok (.aload_n 0, 1) := dk_42 (dk_at dksX2_changesWithout_2 15 rfl rfl)
theorem dX2_changesWithout_62 : decode cX2_changesWithout 62 = .ok (.getfield 7, 3) := dk_180 0 7 (dk_at dksX2_changesWithout_2 16 rfl rfl)
theorem dX2_changesWithout_65 : decode cX2_changesWithout 65 = .ok (.bipush 12, 2) := dk_16 12 (dk_at dksX2_changesWithout_2 19 rfl rfl)
theorem dX2_changesWithout_67 : decode cX2_changesWithout 67 = .ok (.bipush 7, 2) := dk_16 7 (dk_at dksX2_changesWithout_2 21 rfl rfl)
theorem dX2_changesWithout_69 : decode cX2_changesWithout 69 = .ok (.iload_n 1, 1) := dk_27 (dk_at dksX2_changesWithout_2 23 rfl rfl)
theorem dX2_changesWithout_70 : decode cX2_changesWithout 70 = .ok (.imul, 1) := dk_104 (dk_at dksX2_changesWithout_3 0 rfl rfl)
theorem dX2_changesWithout_71 : decode cX2_changesWithout 71 = .ok (.iadd, 1) := dk_96 (dk_at dksX2_changesWithout_3 1 rfl rfl)
theorem dX2_changesWithout_72 : decode cX2_changesWithout 72 = .ok (.bipush 6, 2) := dk_16 6 (dk_at dksX2_changesWithout_3 2 rfl rfl)
theorem dX2_changesWithout_74 : decode cX2_changesWithout 74 = .ok (.iadd, 1) := dk_96 (dk_at dksX2_changesWithout_3 4 rfl rfl)
theorem dX2_changesWithout_75 : decode cX2_changesWithout 75 = .ok (.iconst 0, 1) := dk_3 (dk_at dksX2_changesWithout_3 5 rfl rfl)
theorem dX2_changesWithout_76 : decode cX2_changesWithout 76 = .ok (.iastore, 1) := dk_79 (dk_at dksX2_changesWithout_3 6 rfl rfl)
theorem dX2_changesWithout_77 : decode cX2_changesWithout 77 = .ok (.iconst 0, 1) := dk_3 (dk_at dksX2_changesWithout_3 7 rfl rfl)
theorem dX2_changesWithout_78 : decode cX2_changesWithout 78 = .ok (.istore_n 2, 1) := dk_61 (dk_at dksX2_changesWithout_3 8 rfl rfl)
theorem dX2_changesWithout_79 : decode cX2_changesWithout 79 = .ok (.iconst 0, 1) := dk_3 (dk_at dksX2_changesWithout_3 9 rfl rfl)
theorem dX2_changesWithout_80 : decode cX2_changesWithout 80 = .ok (.istore_n 3, 1) := dk_62 (dk_at dksX2_changesWithout_3 10 rfl rfl)
theorem dX2_changesWithout_81 : decode cX2_changesWithout 81 = .ok (.iload_n 3, 1) := dk_29 (dk_at dksX2_changesWithout_3 11 rfl rfl)
theorem dX2_changesWithout_82 : decode cX2_changesWithout 82 = .ok (.bipush 16, 2) := dk_16 16 (dk_at dksX2_changesWithout_3 12 rfl rfl)
theorem dX2_changesWithout_84 : decode cX2_changesWithout 84 = .ok (.if_icmp .ge 49, 3) := dk_162 0 49 (dk_at dksX2_changesWithout_3 14 rfl rfl)
theorem dX2_changesWithout_87 : decode cX2_changesWithout 87 = .ok (.aload_n 0, 1) := dk_42 (dk_at dksX2_changesWithout_3 17 rfl rfl)
theorem dX2_changesWithout_88 : decode cX2_changesWithout 88 = .ok (.iload_n 3, 1) := dk_29 (dk_at dksX2_changesWithout_3 18 rfl rfl)
theorem dX2_changesWithout_89 : decode cX2_changesWithout 89 = .ok (.invokevirtual 94, 3) := dk_182 0 94 (dk_at dksX2_changesWithout_3 19 rfl rfl)
theorem dX2_changesWithout_92 : decode cX2_changesWithout 92 = .ok (.fstore 4, 2) := dk_56 4 (dk_at dksX2_changesWithout_3 22 rfl rfl)
theorem dX2_changesWithout_94 : decode cX2_changesWithout 94 = .ok (.iload_n 2, 1) := dk_28 (dk_at dksX2_changesWithout_4 0 rfl rfl)
theorem dX2_changesWithout_95 : decode cX2_changesWithout 95 = .ok (.aload_n 0, 1) := dk_42 (dk_at dksX2_changesWithout_4 1 rfl rfl)
theorem dX2_changesWithout_96 : decode cX2_changesWithout 96 = .ok (.aload_n 0, 1) := dk_42 (dk_at dksX2_changesWithout_4 2 rfl rfl)
theorem dX2_changesWithout_97 : decode cX2_changesWithout 97 = .ok (.getfield 31, 3) := dk_180 0 31 (dk_at dksX2_changesWithout_4 3 rfl rfl)
theorem dX2_changesWithout_100 : decode cX2_changesWithout 100 = .ok (.iload_n 3, 1) := dk_29 (dk_at dksX2_changesWithout_4 6 rfl rfl)
theorem dX2_changesWithout_101 : decode cX2_changesWithout 101 = .ok (.baload, 1) := dk_51 (dk_at dksX2_changesWithout_4 7 rfl rfl)
theorem dX2_changesWithout_102 : decode cX2_changesWithout 102 = .ok (.aload_n 0, 1) := dk_42 (dk_at dksX2_changesWithout_4 8 rfl rfl)
theorem dX2_changesWithout_103 : decode cX2_changesWithout 103 = .ok (.getfield 35, 3) := dk_180 0 35 (dk_at dksX2_changesWithout_4 9 rfl rfl)
theorem dX2_changesWithout_106 : decode cX2_changesWithout 106 = .ok (.iload_n 3, 1) := dk_29 (dk_at dksX2_changesWithout_4 12 rfl rfl)
theorem dX2_changesWithout_107 : decode cX2_changesWithout 107 = .ok (.faload, 1) := dk_48 (dk_at dksX2_changesWithout_4 13 rfl rfl)
theorem dX2_changesWithout_108 : decode cX2_changesWithout 108 = .ok (.aload_n 0, 1) := dk_42 (dk_at dksX2_changesWithout_4 14 rfl rfl)
theorem dX2_changesWithout_109 : decode cX2_changesWithout 109 = .ok (.getfield 83, 3) := dk_180 0 83 (dk_at dksX2_changesWithout_4 15 rfl rfl)
theorem dX2_changesWithout_112 : decode cX2_changesWithout 112 = .ok (.fload 4, 2) := dk_23 4 (dk_at dksX2_changesWithout_4 18 rfl rfl)
theorem dX2_changesWithout_114 : decode cX2_changesWithout 114 = .ok (.invokevirtual 103, 3) := dk_182 0 103 (dk_at dksX2_changesWithout_4 20 rfl rfl)
theorem dX2_changesWithout_117 : decode cX2_changesWithout 117 = .ok (.ifCond .eq 7, 3) := dk_153 0 7 (dk_at dksX2_changesWithout_5 0 rfl rfl)
theorem dX2_changesWithout_120 : decode cX2_changesWithout 120 = .ok (.iconst 1, 1) := dk_4 (dk_at dksX2_changesWithout_5 3 rfl rfl)
theorem dX2_changesWithout_121 : decode cX2_changesWithout 121 = .ok (.goto 4, 3) := dk_167 0 4 (dk_at dksX2_changesWithout_5 4 rfl rfl)
theorem dX2_changesWithout_124 : decode cX2_changesWithout 124 = .ok (.iconst 0, 1) := dk_3 (dk_at dksX2_changesWithout_5 7 rfl rfl)
theorem dX2_changesWithout_125 : decode cX2_changesWithout 125 = .ok (.iadd, 1) := dk_96 (dk_at dksX2_changesWithout_5 8 rfl rfl)
theorem dX2_changesWithout_126 : decode cX2_changesWithout 126 = .ok (.istore_n 2, 1) := dk_61 (dk_at dksX2_changesWithout_5 9 rfl rfl)
theorem dX2_changesWithout_127 : decode cX2_changesWithout 127 = .ok (.iinc 3 1, 3) := dk_132 3 1 (dk_at dksX2_changesWithout_5 10 rfl rfl)
theorem dX2_changesWithout_130 : decode cX2_changesWithout 130 = .ok (.goto (-49), 3) := dk_167 255 207 (dk_at dksX2_changesWithout_5 13 rfl rfl)
theorem dX2_changesWithout_133 : decode cX2_changesWithout 133 = .ok (.aload_n 0, 1) := dk_42 (dk_at dksX2_changesWithout_5 16 rfl rfl)
theorem dX2_changesWithout_134 : decode cX2_changesWithout 134 = .ok (.getfield 7, 3) := dk_180 0 7 (dk_at dksX2_changesWithout_5 17 rfl rfl)
theorem dX2_changesWithout_137 : decode cX2_changesWithout 137 = .ok (.bipush 12, 2) := dk_16 12 (dk_at dksX2_changesWithout_5 20 rfl rfl)
theorem dX2_changesWithout_139 : decode cX2_changesWithout 139 = .ok (.bipush 7, 2) := dk_16 7 (dk_at dksX2_changesWithout_5 22 rfl rfl)
theorem dX2_changesWithout_141 : decode cX2_changesWithout 141 = .ok (.iload_n 1, 1) := dk_27 (dk_at dksX2_changesWithout_6 0 rfl rfl)
theorem dX2_changesWithout_142 : decode cX2_changesWithout 142 = .ok (.imul, 1) := dk_104 (dk_at dksX2_changesWithout_6 1 rfl rfl)
theorem dX2_changesWithout_143 : decode cX2_changesWithout 143 = .ok (.iadd, 1) := dk_96 (dk_at dksX2_changesWithout_6 2 rfl rfl)
theorem dX2_changesWithout_144 : decode cX2_changesWithout 144 = .ok (.bipush 6, 2) := dk_16 6 (dk_at dksX2_changesWithout_6 3 rfl rfl)
theorem dX2_changesWithout_146 : decode cX2_changesWithout 146 = .ok (.iadd, 1) := dk_96 (dk_at dksX2_changesWithout_6 5 rfl rfl)
theorem dX2_changesWithout_147 : decode cX2_changesWithout 147 = .ok (.iconst 1, 1) := dk_4 (dk_at dksX2_changesWithout_6 6 rfl rfl)
theorem dX2_changesWithout_148 : decode cX2_changesWithout 148 = .ok (.iastore, 1) := dk_79 (dk_at dksX2_changesWithout_6 7 rfl rfl)
theorem dX2_changesWithout_149 : decode cX2_changesWithout 149 = .ok (.iload_n 2, 1) := dk_28 (dk_at dksX2_changesWithout_6 8 rfl rfl)
theorem dX2_changesWithout_150 : decode cX2_changesWithout 150 = .ok (.ireturn, 1) := dk_172 (dk_at dksX2_changesWithout_6 9 rfl rfl)
abbrev cX2_stormsLeft : ByteArray := prog_9_method_66_code
def yX2_stormsLeft : MethodName := ⟨RX2, "stormsLeft", "(II)I"⟩
def dkwX2_stormsLeft_4 : List UInt8 := [167, 0, 5, 16, 251, 172]
abbrev dktX2_stormsLeft_4 : List UInt8 := dkwX2_stormsLeft_4 ++ []
def dkwX2_stormsLeft_3 : List UInt8 := [182, 0, 57, 154, 0, 7, 4, 167, 0, 4, 3, 54, 4, 42, 182, 0, 198, 21, 4, 153, 0, 7, 29]
abbrev dktX2_stormsLeft_3 : List UInt8 := dkwX2_stormsLeft_3 ++ dktX2_stormsLeft_4
def dkwX2_stormsLeft_2 : List UInt8 := [182, 0, 57, 153, 0, 18, 42, 28, 184, 0, 43, 182, 0, 163, 87, 132, 3, 1, 167, 255, 229, 42, 27]
abbrev dktX2_stormsLeft_2 : List UInt8 := dkwX2_stormsLeft_2 ++ dktX2_stormsLeft_3
def dkwX2_stormsLeft_1 : List UInt8 := [42, 27, 182, 0, 57, 154, 0, 6, 16, 251, 172, 3, 62, 29, 17, 0, 200, 162, 0, 26, 42, 27]
abbrev dktX2_stormsLeft_1 : List UInt8 := dkwX2_stormsLeft_1 ++ dktX2_stormsLeft_2
def dkwX2_stormsLeft_0 : List UInt8 := [42, 182, 0, 107, 42, 27, 182, 0, 149, 154, 0, 5, 2, 172, 28, 184, 0, 131, 154, 0, 6, 16, 254, 172]
abbrev dktX2_stormsLeft_0 : List UInt8 := dkwX2_stormsLeft_0 ++ dktX2_stormsLeft_1
theorem dksX2_stormsLeft_0 : cX2_stormsLeft.data.toList.drop 0 = dktX2_stormsLeft_0 := by decide +kernel
theorem dksX2_stormsLeft_1 : cX2_stormsLeft.data.toList.drop 24 = dktX2_stormsLeft_1 := dk_seg dksX2_stormsLeft_0 24 rfl rfl
theorem dksX2_stormsLeft_2 : cX2_stormsLeft.data.toList.drop 46 = dktX2_stormsLeft_2 := dk_seg dksX2_stormsLeft_1 22 rfl rfl
theorem dksX2_stormsLeft_3 : cX2_stormsLeft.data.toList.drop 69 = dktX2_stormsLeft_3 := dk_seg dksX2_stormsLeft_2 23 rfl rfl
theorem dksX2_stormsLeft_4 : cX2_stormsLeft.data.toList.drop 92 = dktX2_stormsLeft_4 := dk_seg dksX2_stormsLeft_3 23 rfl rfl
theorem dX2_stormsLeft_0 : decode cX2_stormsLeft 0 = .ok (.aload_n 0, 1) := dk_42 (dk_at dksX2_stormsLeft_0 0 rfl rfl)
theorem dX2_stormsLeft_1 : decode cX2_stormsLeft 1 = .ok (.invokevirtual 107, 3) := dk_182 0 107 (dk_at dksX2_stormsLeft_0 1 rfl rfl)
theorem dX2_stormsLeft_4 : decode cX2_stormsLeft 4 = .ok (.aload_n 0, 1) := dk_42 (dk_at dksX2_stormsLeft_0 4 rfl rfl)
theorem dX2_stormsLeft_5 : decode cX2_stormsLeft 5 = .ok (.iload_n 1, 1) := dk_27 (dk_at dksX2_stormsLeft_0 5 rfl rfl)
theorem dX2_stormsLeft_6 : decode cX2_stormsLeft 6 = .ok (.invokevirtual 149, 3) := dk_182 0 149 (dk_at dksX2_stormsLeft_0 6 rfl rfl)
theorem dX2_stormsLeft_9 : decode cX2_stormsLeft 9 = .ok (.ifCond .ne 5, 3) := dk_154 0 5 (dk_at dksX2_stormsLeft_0 9 rfl rfl)
theorem dX2_stormsLeft_12 : decode cX2_stormsLeft 12 = .ok (.iconst (-1), 1) := dk_2 (dk_at dksX2_stormsLeft_0 12 rfl rfl)
theorem dX2_stormsLeft_13 : decode cX2_stormsLeft 13 = .ok (.ireturn, 1) := dk_172 (dk_at dksX2_stormsLeft_0 13 rfl rfl)
theorem dX2_stormsLeft_14 : decode cX2_stormsLeft 14 = .ok (.iload_n 2, 1) := dk_28 (dk_at dksX2_stormsLeft_0 14 rfl rfl)
theorem dX2_stormsLeft_15 : decode cX2_stormsLeft 15 = .ok (.invokestatic 131, 3) := dk_184 0 131 (dk_at dksX2_stormsLeft_0 15 rfl rfl)
theorem dX2_stormsLeft_18 : decode cX2_stormsLeft 18 = .ok (.ifCond .ne 6, 3) := dk_154 0 6 (dk_at dksX2_stormsLeft_0 18 rfl rfl)
theorem dX2_stormsLeft_21 : decode cX2_stormsLeft 21 = .ok (.bipush (-2), 2) := dk_16 254 (dk_at dksX2_stormsLeft_0 21 rfl rfl)
theorem dX2_stormsLeft_23 : decode cX2_stormsLeft 23 = .ok (.ireturn, 1) := dk_172 (dk_at dksX2_stormsLeft_0 23 rfl rfl)
theorem dX2_stormsLeft_24 : decode cX2_stormsLeft 24 = .ok (.aload_n 0, 1) := dk_42 (dk_at dksX2_stormsLeft_1 0 rfl rfl)
theorem dX2_stormsLeft_25 : decode cX2_stormsLeft 25 = .ok (.iload_n 1, 1) := dk_27 (dk_at dksX2_stormsLeft_1 1 rfl rfl)
theorem dX2_stormsLeft_26 : decode cX2_stormsLeft 26 = .ok (.invokevirtual 57, 3) := dk_182 0 57 (dk_at dksX2_stormsLeft_1 2 rfl rfl)
theorem dX2_stormsLeft_29 : decode cX2_stormsLeft 29 = .ok (.ifCond .ne 6, 3) := dk_154 0 6 (dk_at dksX2_stormsLeft_1 5 rfl rfl)
theorem dX2_stormsLeft_32 : decode cX2_stormsLeft 32 = .ok (.bipush (-5), 2) := dk_16 251 (dk_at dksX2_stormsLeft_1 8 rfl rfl)
theorem dX2_stormsLeft_34 : decode cX2_stormsLeft 34 = .ok (.ireturn, 1) := dk_172 (dk_at dksX2_stormsLeft_1 10 rfl rfl)
theorem dX2_stormsLeft_35 : decode cX2_stormsLeft 35 = .ok (.iconst 0, 1) := dk_3 (dk_at dksX2_stormsLeft_1 11 rfl rfl)
theorem dX2_stormsLeft_36 : decode cX2_stormsLeft 36 = .ok (.istore_n 3, 1) := dk_62 (dk_at dksX2_stormsLeft_1 12 rfl rfl)
theorem dX2_stormsLeft_37 : decode cX2_stormsLeft 37 = .ok (.iload_n 3, 1) := dk_29 (dk_at dksX2_stormsLeft_1 13 rfl rfl)
theorem dX2_stormsLeft_38 : decode cX2_stormsLeft 38 = .ok (.sipush 200, 3) := dk_17 0 200 (dk_at dksX2_stormsLeft_1 14 rfl rfl)
theorem dX2_stormsLeft_41 : decode cX2_stormsLeft 41 = .ok (.if_icmp .ge 26, 3) := dk_162 0 26 (dk_at dksX2_stormsLeft_1 17 rfl rfl)
theorem dX2_stormsLeft_44 : decode cX2_stormsLeft 44 = .ok (.aload_n 0, 1) := dk_42 (dk_at dksX2_stormsLeft_1 20 rfl rfl)
theorem dX2_stormsLeft_45 : decode cX2_stormsLeft 45 = .ok (.iload_n 1, 1) := dk_27 (dk_at dksX2_stormsLeft_1 21 rfl rfl)
theorem dX2_stormsLeft_46 : decode cX2_stormsLeft 46 = .ok (.invokevirtual 57, 3) := dk_182 0 57 (dk_at dksX2_stormsLeft_2 0 rfl rfl)
theorem dX2_stormsLeft_49 : decode cX2_stormsLeft 49 = .ok (.ifCond .eq 18, 3) := dk_153 0 18 (dk_at dksX2_stormsLeft_2 3 rfl rfl)
theorem dX2_stormsLeft_52 : decode cX2_stormsLeft 52 = .ok (.aload_n 0, 1) := dk_42 (dk_at dksX2_stormsLeft_2 6 rfl rfl)
theorem dX2_stormsLeft_53 : decode cX2_stormsLeft 53 = .ok (.iload_n 2, 1) := dk_28 (dk_at dksX2_stormsLeft_2 7 rfl rfl)
theorem dX2_stormsLeft_54 : decode cX2_stormsLeft 54 = .ok (.invokestatic 43, 3) := dk_184 0 43 (dk_at dksX2_stormsLeft_2 8 rfl rfl)
theorem dX2_stormsLeft_57 : decode cX2_stormsLeft 57 = .ok (.invokevirtual 163, 3) := dk_182 0 163 (dk_at dksX2_stormsLeft_2 11 rfl rfl)
theorem dX2_stormsLeft_60 : decode cX2_stormsLeft 60 = .ok (.pop, 1) := dk_87 (dk_at dksX2_stormsLeft_2 14 rfl rfl)
theorem dX2_stormsLeft_61 : decode cX2_stormsLeft 61 = .ok (.iinc 3 1, 3) := dk_132 3 1 (dk_at dksX2_stormsLeft_2 15 rfl rfl)
theorem dX2_stormsLeft_64 : decode cX2_stormsLeft 64 = .ok (.goto (-27), 3) := dk_167 255 229 (dk_at dksX2_stormsLeft_2 18 rfl rfl)
theorem dX2_stormsLeft_67 : decode cX2_stormsLeft 67 = .ok (.aload_n 0, 1) := dk_42 (dk_at dksX2_stormsLeft_2 21 rfl rfl)
theorem dX2_stormsLeft_68 : decode cX2_stormsLeft 68 = .ok (.iload_n 1, 1) := dk_27 (dk_at dksX2_stormsLeft_2 22 rfl rfl)
theorem dX2_stormsLeft_69 : decode cX2_stormsLeft 69 = .ok (.invokevirtual 57, 3) := dk_182 0 57 (dk_at dksX2_stormsLeft_3 0 rfl rfl)
theorem dX2_stormsLeft_72 : decode cX2_stormsLeft 72 = .ok (.ifCond .ne 7, 3) := dk_154 0 7 (dk_at dksX2_stormsLeft_3 3 rfl rfl)
theorem dX2_stormsLeft_75 : decode cX2_stormsLeft 75 = .ok (.iconst 1, 1) := dk_4 (dk_at dksX2_stormsLeft_3 6 rfl rfl)
theorem dX2_stormsLeft_76 : decode cX2_stormsLeft 76 = .ok (.goto 4, 3) := dk_167 0 4 (dk_at dksX2_stormsLeft_3 7 rfl rfl)
theorem dX2_stormsLeft_79 : decode cX2_stormsLeft 79 = .ok (.iconst 0, 1) := dk_3 (dk_at dksX2_stormsLeft_3 10 rfl rfl)
theorem dX2_stormsLeft_80 : decode cX2_stormsLeft 80 = .ok (.istore 4, 2) := dk_54 4 (dk_at dksX2_stormsLeft_3 11 rfl rfl)
theorem dX2_stormsLeft_82 : decode cX2_stormsLeft 82 = .ok (.aload_n 0, 1) := dk_42 (dk_at dksX2_stormsLeft_3 13 rfl rfl)
theorem dX2_stormsLeft_83 : decode cX2_stormsLeft 83 = .ok (.invokevirtual 198, 3) := dk_182 0 198 (dk_at dksX2_stormsLeft_3 14 rfl rfl)
theorem dX2_stormsLeft_86 : decode cX2_stormsLeft 86 = .ok (.iload 4, 2) := dk_21 4 (dk_at dksX2_stormsLeft_3 17 rfl rfl)
theorem dX2_stormsLeft_88 : decode cX2_stormsLeft 88 = .ok (.ifCond .eq 7, 3) := dk_153 0 7 (dk_at dksX2_stormsLeft_3 19 rfl rfl)
theorem dX2_stormsLeft_91 : decode cX2_stormsLeft 91 = .ok (.iload_n 3, 1) := dk_29 (dk_at dksX2_stormsLeft_3 22 rfl rfl)
theorem dX2_stormsLeft_92 : decode cX2_stormsLeft 92 = .ok (.goto 5, 3) := dk_167 0 5 (dk_at dksX2_stormsLeft_4 0 rfl rfl)
theorem dX2_stormsLeft_95 : decode cX2_stormsLeft 95 = .ok (.bipush (-5), 2) := dk_16 251 (dk_at dksX2_stormsLeft_4 3 rfl rfl)
theorem dX2_stormsLeft_97 : decode cX2_stormsLeft 97 = .ok (.ireturn, 1) := dk_172 (dk_at dksX2_stormsLeft_4 5 rfl rfl)
abbrev cX2_person : ByteArray := prog_9_method_69_code
def yX2_person : MethodName := ⟨RX2, "person", "(II)I"⟩
def dkwX2_person_2 : List UInt8 := [160, 0, 11, 42, 27, 182, 0, 220, 167, 0, 9, 42, 27, 28, 182, 0, 223, 172]
abbrev dktX2_person_2 : List UInt8 := dkwX2_person_2 ++ []
def dkwX2_person_1 : List UInt8 := [16, 254, 167, 0, 38, 28, 154, 0, 15, 42, 180, 0, 7, 16, 6, 27, 96, 46, 167, 0, 22, 28, 7]
abbrev dktX2_person_1 : List UInt8 := dkwX2_person_1 ++ dktX2_person_2
def dkwX2_person_0 : List UInt8 := [42, 3, 181, 0, 39, 42, 27, 182, 0, 113, 154, 0, 5, 2, 172, 28, 3, 7, 184, 0, 53, 154, 0, 8]
abbrev dktX2_person_0 : List UInt8 := dkwX2_person_0 ++ dktX2_person_1
theorem dksX2_person_0 : cX2_person.data.toList.drop 0 = dktX2_person_0 := by decide +kernel
theorem dksX2_person_1 : cX2_person.data.toList.drop 24 = dktX2_person_1 := dk_seg dksX2_person_0 24 rfl rfl
theorem dksX2_person_2 : cX2_person.data.toList.drop 47 = dktX2_person_2 := dk_seg dksX2_person_1 23 rfl rfl
theorem dX2_person_0 : decode cX2_person 0 = .ok (.aload_n 0, 1) := dk_42 (dk_at dksX2_person_0 0 rfl rfl)
theorem dX2_person_1 : decode cX2_person 1 = .ok (.iconst 0, 1) := dk_3 (dk_at dksX2_person_0 1 rfl rfl)
theorem dX2_person_2 : decode cX2_person 2 = .ok (.putfield 39, 3) := dk_181 0 39 (dk_at dksX2_person_0 2 rfl rfl)
theorem dX2_person_5 : decode cX2_person 5 = .ok (.aload_n 0, 1) := dk_42 (dk_at dksX2_person_0 5 rfl rfl)
theorem dX2_person_6 : decode cX2_person 6 = .ok (.iload_n 1, 1) := dk_27 (dk_at dksX2_person_0 6 rfl rfl)
theorem dX2_person_7 : decode cX2_person 7 = .ok (.invokevirtual 113, 3) := dk_182 0 113 (dk_at dksX2_person_0 7 rfl rfl)
theorem dX2_person_10 : decode cX2_person 10 = .ok (.ifCond .ne 5, 3) := dk_154 0 5 (dk_at dksX2_person_0 10 rfl rfl)
theorem dX2_person_13 : decode cX2_person 13 = .ok (.iconst (-1), 1) := dk_2 (dk_at dksX2_person_0 13 rfl rfl)
theorem dX2_person_14 : decode cX2_person 14 = .ok (.ireturn, 1) := dk_172 (dk_at dksX2_person_0 14 rfl rfl)
theorem dX2_person_15 : decode cX2_person 15 = .ok (.iload_n 2, 1) := dk_28 (dk_at dksX2_person_0 15 rfl rfl)
theorem dX2_person_16 : decode cX2_person 16 = .ok (.iconst 0, 1) := dk_3 (dk_at dksX2_person_0 16 rfl rfl)
theorem dX2_person_17 : decode cX2_person 17 = .ok (.iconst 4, 1) := dk_7 (dk_at dksX2_person_0 17 rfl rfl)
theorem dX2_person_18 : decode cX2_person 18 = .ok (.invokestatic 53, 3) := dk_184 0 53 (dk_at dksX2_person_0 18 rfl rfl)
theorem dX2_person_21 : decode cX2_person 21 = .ok (.ifCond .ne 8, 3) := dk_154 0 8 (dk_at dksX2_person_0 21 rfl rfl)
theorem dX2_person_24 : decode cX2_person 24 = .ok (.bipush (-2), 2) := dk_16 254 (dk_at dksX2_person_1 0 rfl rfl)
theorem dX2_person_26 : decode cX2_person 26 = .ok (.goto 38, 3) := dk_167 0 38 (dk_at dksX2_person_1 2 rfl rfl)
theorem dX2_person_29 : decode cX2_person 29 = .ok (.iload_n 2, 1) := dk_28 (dk_at dksX2_person_1 5 rfl rfl)
theorem dX2_person_30 : decode cX2_person 30 = .ok (.ifCond .ne 15, 3) := dk_154 0 15 (dk_at dksX2_person_1 6 rfl rfl)
theorem dX2_person_33 : decode cX2_person 33 = .ok (.aload_n 0, 1) := dk_42 (dk_at dksX2_person_1 9 rfl rfl)
theorem dX2_person_34 : decode cX2_person 34 = .ok (.getfield 7, 3) := dk_180 0 7 (dk_at dksX2_person_1 10 rfl rfl)
theorem dX2_person_37 : decode cX2_person 37 = .ok (.bipush 6, 2) := dk_16 6 (dk_at dksX2_person_1 13 rfl rfl)
theorem dX2_person_39 : decode cX2_person 39 = .ok (.iload_n 1, 1) := dk_27 (dk_at dksX2_person_1 15 rfl rfl)
theorem dX2_person_40 : decode cX2_person 40 = .ok (.iadd, 1) := dk_96 (dk_at dksX2_person_1 16 rfl rfl)
theorem dX2_person_41 : decode cX2_person 41 = .ok (.iaload, 1) := dk_46 (dk_at dksX2_person_1 17 rfl rfl)
theorem dX2_person_42 : decode cX2_person 42 = .ok (.goto 22, 3) := dk_167 0 22 (dk_at dksX2_person_1 18 rfl rfl)
theorem dX2_person_45 : decode cX2_person 45 = .ok (.iload_n 2, 1) := dk_28 (dk_at dksX2_person_1 21 rfl rfl)
theorem dX2_person_46 : decode cX2_person 46 = .ok (.iconst 4, 1) := dk_7 (dk_at dksX2_person_1 22 rfl rfl)
theorem dX2_person_47 : decode cX2_person 47 = .ok (.if_icmp .ne 11, 3) := dk_160 0 11 (dk_at dksX2_person_2 0 rfl rfl)
theorem dX2_person_50 : decode cX2_person 50 = .ok (.aload_n 0, 1) := dk_42 (dk_at dksX2_person_2 3 rfl rfl)
theorem dX2_person_51 : decode cX2_person 51 = .ok (.iload_n 1, 1) := dk_27 (dk_at dksX2_person_2 4 rfl rfl)
theorem dX2_person_52 : decode cX2_person 52 = .ok (.invokevirtual 220, 3) := dk_182 0 220 (dk_at dksX2_person_2 5 rfl rfl)
theorem dX2_person_55 : decode cX2_person 55 = .ok (.goto 9, 3) := dk_167 0 9 (dk_at dksX2_person_2 8 rfl rfl)
theorem dX2_person_58 : decode cX2_person 58 = .ok (.aload_n 0, 1) := dk_42 (dk_at dksX2_person_2 11 rfl rfl)
theorem dX2_person_59 : decode cX2_person 59 = .ok (.iload_n 1, 1) := dk_27 (dk_at dksX2_person_2 12 rfl rfl)
theorem dX2_person_60 : decode cX2_person 60 = .ok (.iload_n 2, 1) := dk_28 (dk_at dksX2_person_2 13 rfl rfl)
theorem dX2_person_61 : decode cX2_person 61 = .ok (.invokevirtual 223, 3) := dk_182 0 223 (dk_at dksX2_person_2 14 rfl rfl)
theorem dX2_person_64 : decode cX2_person 64 = .ok (.ireturn, 1) := dk_172 (dk_at dksX2_person_2 17 rfl rfl)
abbrev cX2_wordsOf : ByteArray := prog_9_method_68_code
def yX2_wordsOf : MethodName := ⟨RX2, "wordsOf", "(I)I"⟩
def dkwX2_wordsOf_2 : List UInt8 := [132, 3, 1, 167, 255, 210, 28, 172]
abbrev dktX2_wordsOf_2 : List UInt8 := dkwX2_wordsOf_2 ++ []
def dkwX2_wordsOf_1 : List UInt8 := [29, 3, 182, 0, 49, 27, 160, 0, 14, 4, 42, 29, 4, 182, 0, 49, 120, 167, 0, 4, 3, 128, 61]
abbrev dktX2_wordsOf_1 : List UInt8 := dkwX2_wordsOf_1 ++ dktX2_wordsOf_2
def dkwX2_wordsOf_0 : List UInt8 := [3, 61, 3, 62, 29, 42, 180, 0, 7, 4, 46, 162, 0, 42, 28, 42, 29, 182, 0, 57, 153, 0, 24, 42]
abbrev dktX2_wordsOf_0 : List UInt8 := dkwX2_wordsOf_0 ++ dktX2_wordsOf_1
theorem dksX2_wordsOf_0 : cX2_wordsOf.data.toList.drop 0 = dktX2_wordsOf_0 := by decide +kernel
theorem dksX2_wordsOf_1 : cX2_wordsOf.data.toList.drop 24 = dktX2_wordsOf_1 := dk_seg dksX2_wordsOf_0 24 rfl rfl
theorem dksX2_wordsOf_2 : cX2_wordsOf.data.toList.drop 47 = dktX2_wordsOf_2 := dk_seg dksX2_wordsOf_1 23 rfl rfl
theorem dX2_wordsOf_0 : decode cX2_wordsOf 0 = .ok (.iconst 0, 1) := dk_3 (dk_at dksX2_wordsOf_0 0 rfl rfl)
theorem dX2_wordsOf_1 : decode cX2_wordsOf 1 = .ok (.istore_n 2, 1) := dk_61 (dk_at dksX2_wordsOf_0 1 rfl rfl)
theorem dX2_wordsOf_2 : decode cX2_wordsOf 2 = .ok (.iconst 0, 1) := dk_3 (dk_at dksX2_wordsOf_0 2 rfl rfl)
theorem dX2_wordsOf_3 : decode cX2_wordsOf 3 = .ok (.istore_n 3, 1) := dk_62 (dk_at dksX2_wordsOf_0 3 rfl rfl)
theorem dX2_wordsOf_4 : decode cX2_wordsOf 4 = .ok (.iload_n 3, 1) := dk_29 (dk_at dksX2_wordsOf_0 4 rfl rfl)
theorem dX2_wordsOf_5 : decode cX2_wordsOf 5 = .ok (.aload_n 0, 1) := dk_42 (dk_at dksX2_wordsOf_0 5 rfl rfl)
theorem dX2_wordsOf_6 : decode cX2_wordsOf 6 = .ok (.getfield 7, 3) := dk_180 0 7 (dk_at dksX2_wordsOf_0 6 rfl rfl)
theorem dX2_wordsOf_9 : decode cX2_wordsOf 9 = .ok (.iconst 1, 1) := dk_4 (dk_at dksX2_wordsOf_0 9 rfl rfl)
theorem dX2_wordsOf_10 : decode cX2_wordsOf 10 = .ok (.iaload, 1) := dk_46 (dk_at dksX2_wordsOf_0 10 rfl rfl)
theorem dX2_wordsOf_11 : decode cX2_wordsOf 11 = .ok (.if_icmp .ge 42, 3) := dk_162 0 42 (dk_at dksX2_wordsOf_0 11 rfl rfl)
theorem dX2_wordsOf_14 : decode cX2_wordsOf 14 = .ok (.iload_n 2, 1) := dk_28 (dk_at dksX2_wordsOf_0 14 rfl rfl)
theorem dX2_wordsOf_15 : decode cX2_wordsOf 15 = .ok (.aload_n 0, 1) := dk_42 (dk_at dksX2_wordsOf_0 15 rfl rfl)
theorem dX2_wordsOf_16 : decode cX2_wordsOf 16 = .ok (.iload_n 3, 1) := dk_29 (dk_at dksX2_wordsOf_0 16 rfl rfl)
theorem dX2_wordsOf_17 : decode cX2_wordsOf 17 = .ok (.invokevirtual 57, 3) := dk_182 0 57 (dk_at dksX2_wordsOf_0 17 rfl rfl)
theorem dX2_wordsOf_20 : decode cX2_wordsOf 20 = .ok (.ifCond .eq 24, 3) := dk_153 0 24 (dk_at dksX2_wordsOf_0 20 rfl rfl)
theorem dX2_wordsOf_23 : decode cX2_wordsOf 23 = .ok (.aload_n 0, 1) := dk_42 (dk_at dksX2_wordsOf_0 23 rfl rfl)
theorem dX2_wordsOf_24 : decode cX2_wordsOf 24 = .ok (.iload_n 3, 1) := dk_29 (dk_at dksX2_wordsOf_1 0 rfl rfl)
theorem dX2_wordsOf_25 : decode cX2_wordsOf 25 = .ok (.iconst 0, 1) := dk_3 (dk_at dksX2_wordsOf_1 1 rfl rfl)
theorem dX2_wordsOf_26 : decode cX2_wordsOf 26 = .ok (.invokevirtual 49, 3) := dk_182 0 49 (dk_at dksX2_wordsOf_1 2 rfl rfl)
theorem dX2_wordsOf_29 : decode cX2_wordsOf 29 = .ok (.iload_n 1, 1) := dk_27 (dk_at dksX2_wordsOf_1 5 rfl rfl)
theorem dX2_wordsOf_30 : decode cX2_wordsOf 30 = .ok (.if_icmp .ne 14, 3) := dk_160 0 14 (dk_at dksX2_wordsOf_1 6 rfl rfl)
theorem dX2_wordsOf_33 : decode cX2_wordsOf 33 = .ok (.iconst 1, 1) := dk_4 (dk_at dksX2_wordsOf_1 9 rfl rfl)
theorem dX2_wordsOf_34 : decode cX2_wordsOf 34 = .ok (.aload_n 0, 1) := dk_42 (dk_at dksX2_wordsOf_1 10 rfl rfl)
theorem dX2_wordsOf_35 : decode cX2_wordsOf 35 = .ok (.iload_n 3, 1) := dk_29 (dk_at dksX2_wordsOf_1 11 rfl rfl)
theorem dX2_wordsOf_36 : decode cX2_wordsOf 36 = .ok (.iconst 1, 1) := dk_4 (dk_at dksX2_wordsOf_1 12 rfl rfl)
theorem dX2_wordsOf_37 : decode cX2_wordsOf 37 = .ok (.invokevirtual 49, 3) := dk_182 0 49 (dk_at dksX2_wordsOf_1 13 rfl rfl)
theorem dX2_wordsOf_40 : decode cX2_wordsOf 40 = .ok (.ishl, 1) := dk_120 (dk_at dksX2_wordsOf_1 16 rfl rfl)
theorem dX2_wordsOf_41 : decode cX2_wordsOf 41 = .ok (.goto 4, 3) := dk_167 0 4 (dk_at dksX2_wordsOf_1 17 rfl rfl)
theorem dX2_wordsOf_44 : decode cX2_wordsOf 44 = .ok (.iconst 0, 1) := dk_3 (dk_at dksX2_wordsOf_1 20 rfl rfl)
theorem dX2_wordsOf_45 : decode cX2_wordsOf 45 = .ok (.ior, 1) := dk_128 (dk_at dksX2_wordsOf_1 21 rfl rfl)
theorem dX2_wordsOf_46 : decode cX2_wordsOf 46 = .ok (.istore_n 2, 1) := dk_61 (dk_at dksX2_wordsOf_1 22 rfl rfl)
theorem dX2_wordsOf_47 : decode cX2_wordsOf 47 = .ok (.iinc 3 1, 3) := dk_132 3 1 (dk_at dksX2_wordsOf_2 0 rfl rfl)
theorem dX2_wordsOf_50 : decode cX2_wordsOf 50 = .ok (.goto (-46), 3) := dk_167 255 210 (dk_at dksX2_wordsOf_2 3 rfl rfl)
theorem dX2_wordsOf_53 : decode cX2_wordsOf 53 = .ok (.iload_n 2, 1) := dk_28 (dk_at dksX2_wordsOf_2 6 rfl rfl)
theorem dX2_wordsOf_54 : decode cX2_wordsOf 54 = .ok (.ireturn, 1) := dk_172 (dk_at dksX2_wordsOf_2 7 rfl rfl)
abbrev cX2_ordersOf : ByteArray := prog_9_method_67_code
def yX2_ordersOf : MethodName := ⟨RX2, "ordersOf", "(II)I"⟩
def dkwX2_ordersOf_3 : List UInt8 := [160, 0, 12, 21, 5, 153, 0, 7, 4, 167, 0, 4, 3, 96, 62, 132, 4, 1, 167, 255, 173, 29, 172]
abbrev dktX2_ordersOf_3 : List UInt8 := dkwX2_ordersOf_3 ++ []
def dkwX2_ordersOf_2 : List UInt8 := [182, 0, 74, 21, 4, 160, 0, 7, 4, 167, 0, 4, 3, 54, 5, 29, 42, 21, 4, 3, 182, 0, 49, 27]
abbrev dktX2_ordersOf_2 : List UInt8 := dkwX2_ordersOf_2 ++ dktX2_ordersOf_3
def dkwX2_ordersOf_1 : List UInt8 := [160, 0, 15, 42, 21, 4, 182, 0, 57, 153, 0, 26, 167, 0, 19, 42, 42, 21, 4, 4, 182, 0, 49]
abbrev dktX2_ordersOf_1 : List UInt8 := dkwX2_ordersOf_1 ++ dktX2_ordersOf_2
def dkwX2_ordersOf_0 : List UInt8 := [3, 62, 3, 54, 4, 21, 4, 42, 180, 0, 7, 4, 46, 162, 0, 78, 28, 4, 159, 0, 36, 28, 5]
abbrev dktX2_ordersOf_0 : List UInt8 := dkwX2_ordersOf_0 ++ dktX2_ordersOf_1
theorem dksX2_ordersOf_0 : cX2_ordersOf.data.toList.drop 0 = dktX2_ordersOf_0 := by decide +kernel
theorem dksX2_ordersOf_1 : cX2_ordersOf.data.toList.drop 23 = dktX2_ordersOf_1 := dk_seg dksX2_ordersOf_0 23 rfl rfl
theorem dksX2_ordersOf_2 : cX2_ordersOf.data.toList.drop 46 = dktX2_ordersOf_2 := dk_seg dksX2_ordersOf_1 23 rfl rfl
theorem dksX2_ordersOf_3 : cX2_ordersOf.data.toList.drop 70 = dktX2_ordersOf_3 := dk_seg dksX2_ordersOf_2 24 rfl rfl
theorem dX2_ordersOf_0 : decode cX2_ordersOf 0 = .ok (.iconst 0, 1) := dk_3 (dk_at dksX2_ordersOf_0 0 rfl rfl)
theorem dX2_ordersOf_1 : decode cX2_ordersOf 1 = .ok (.istore_n 3, 1) := dk_62 (dk_at dksX2_ordersOf_0 1 rfl rfl)
theorem dX2_ordersOf_2 : decode cX2_ordersOf 2 = .ok (.iconst 0, 1) := dk_3 (dk_at dksX2_ordersOf_0 2 rfl rfl)
theorem dX2_ordersOf_3 : decode cX2_ordersOf 3 = .ok (.istore 4, 2) := dk_54 4 (dk_at dksX2_ordersOf_0 3 rfl rfl)
theorem dX2_ordersOf_5 : decode cX2_ordersOf 5 = .ok (.iload 4, 2) := dk_21 4 (dk_at dksX2_ordersOf_0 5 rfl rfl)
theorem dX2_ordersOf_7 : decode cX2_ordersOf 7 = .ok (.aload_n 0, 1) := dk_42 (dk_at dksX2_ordersOf_0 7 rfl rfl)
theorem dX2_ordersOf_8 : decode cX2_ordersOf 8 = .ok (.getfield 7, 3) := dk_180 0 7 (dk_at dksX2_ordersOf_0 8 rfl rfl)
theorem dX2_ordersOf_11 : decode cX2_ordersOf 11 = .ok (.iconst 1, 1) := dk_4 (dk_at dksX2_ordersOf_0 11 rfl rfl)
theorem dX2_ordersOf_12 : decode cX2_ordersOf 12 = .ok (.iaload, 1) := dk_46 (dk_at dksX2_ordersOf_0 12 rfl rfl)
theorem dX2_ordersOf_13 : decode cX2_ordersOf 13 = .ok (.if_icmp .ge 78, 3) := dk_162 0 78 (dk_at dksX2_ordersOf_0 13 rfl rfl)
theorem dX2_ordersOf_16 : decode cX2_ordersOf 16 = .ok (.iload_n 2, 1) := dk_28 (dk_at dksX2_ordersOf_0 16 rfl rfl)
theorem dX2_ordersOf_17 : decode cX2_ordersOf 17 = .ok (.iconst 1, 1) := dk_4 (dk_at dksX2_ordersOf_0 17 rfl rfl)
theorem dX2_ordersOf_18 : decode cX2_ordersOf 18 = .ok (.if_icmp .eq 36, 3) := dk_159 0 36 (dk_at dksX2_ordersOf_0 18 rfl rfl)
theorem dX2_ordersOf_21 : decode cX2_ordersOf 21 = .ok (.iload_n 2, 1) := dk_28 (dk_at dksX2_ordersOf_0 21 rfl rfl)
theorem dX2_ordersOf_22 : decode cX2_ordersOf 22 = .ok (.iconst 2, 1) := dk_5 (dk_at dksX2_ordersOf_0 22 rfl rfl)
theorem dX2_ordersOf_23 : decode cX2_ordersOf 23 = .ok (.if_icmp .ne 15, 3) := dk_160 0 15 (dk_at dksX2_ordersOf_1 0 rfl rfl)
theorem dX2_ordersOf_26 : decode cX2_ordersOf 26 = .ok (.aload_n 0, 1) := dk_42 (dk_at dksX2_ordersOf_1 3 rfl rfl)
theorem dX2_ordersOf_27 : decode cX2_ordersOf 27 = .ok (.iload 4, 2) := dk_21 4 (dk_at dksX2_ordersOf_1 4 rfl rfl)
theorem dX2_ordersOf_29 : decode cX2_ordersOf 29 = .ok (.invokevirtual 57, 3) := dk_182 0 57 (dk_at dksX2_ordersOf_1 6 rfl rfl)
theorem dX2_ordersOf_32 : decode cX2_ordersOf 32 = .ok (.ifCond .eq 26, 3) := dk_153 0 26 (dk_at dksX2_ordersOf_1 9 rfl rfl)
theorem dX2_ordersOf_35 : decode cX2_ordersOf 35 = .ok (.goto 19, 3) := dk_167 0 19 (dk_at dksX2_ordersOf_1 12 rfl rfl)
theorem dX2_ordersOf_38 : decode cX2_ordersOf 38 = .ok (.aload_n 0, 1) := dk_42 (dk_at dksX2_ordersOf_1 15 rfl rfl)
theorem dX2_ordersOf_39 : decode cX2_ordersOf 39 = .ok (.aload_n 0, 1) := dk_42 (dk_at dksX2_ordersOf_1 16 rfl rfl)
theorem dX2_ordersOf_40 : decode cX2_ordersOf 40 = .ok (.iload 4, 2) := dk_21 4 (dk_at dksX2_ordersOf_1 17 rfl rfl)
theorem dX2_ordersOf_42 : decode cX2_ordersOf 42 = .ok (.iconst 1, 1) := dk_4 (dk_at dksX2_ordersOf_1 19 rfl rfl)
theorem dX2_ordersOf_43 : decode cX2_ordersOf 43 = .ok (.invokevirtual 49, 3) := dk_182 0 49 (dk_at dksX2_ordersOf_1 20 rfl rfl)
theorem dX2_ordersOf_46 : decode cX2_ordersOf 46 = .ok (.invokevirtual 74, 3) := dk_182 0 74 (dk_at dksX2_ordersOf_2 0 rfl rfl)
theorem dX2_ordersOf_49 : decode cX2_ordersOf 49 = .ok (.iload 4, 2) := dk_21 4 (dk_at dksX2_ordersOf_2 3 rfl rfl)
theorem dX2_ordersOf_51 : decode cX2_ordersOf 51 = .ok (.if_icmp .ne 7, 3) := dk_160 0 7 (dk_at dksX2_ordersOf_2 5 rfl rfl)
theorem dX2_ordersOf_54 : decode cX2_ordersOf 54 = .ok (.iconst 1, 1) := dk_4 (dk_at dksX2_ordersOf_2 8 rfl rfl)
theorem dX2_ordersOf_55 : decode cX2_ordersOf 55 = .ok (.goto 4, 3) := dk_167 0 4 (dk_at dksX2_ordersOf_2 9 rfl rfl)
theorem dX2_ordersOf_58 : decode cX2_ordersOf 58 = .ok (.iconst 0, 1) := dk_3 (dk_at dksX2_ordersOf_2 12 rfl rfl)
theorem dX2_ordersOf_59 : decode cX2_ordersOf 59 = .ok (.istore 5, 2) := dk_54 5 (dk_at dksX2_ordersOf_2 13 rfl rfl)
theorem dX2_ordersOf_61 : decode cX2_ordersOf 61 = .ok (.iload_n 3, 1) := dk_29 (dk_at dksX2_ordersOf_2 15 rfl rfl)
theorem dX2_ordersOf_62 : decode cX2_ordersOf 62 = .ok (.aload_n 0, 1) := dk_42 (dk_at dksX2_ordersOf_2 16 rfl rfl)
theorem dX2_ordersOf_63 : decode cX2_ordersOf 63 = .ok (.iload 4, 2) := dk_21 4 (dk_at dksX2_ordersOf_2 17 rfl rfl)
theorem dX2_ordersOf_65 : decode cX2_ordersOf 65 = .ok (.iconst 0, 1) := dk_3 (dk_at dksX2_ordersOf_2 19 rfl rfl)
theorem dX2_ordersOf_66 : decode cX2_ordersOf 66 = .ok (.invokevirtual 49, 3) := dk_182 0 49 (dk_at dksX2_ordersOf_2 20 rfl rfl)
theorem dX2_ordersOf_69 : decode cX2_ordersOf 69 = .ok (.iload_n 1, 1) := dk_27 (dk_at dksX2_ordersOf_2 23 rfl rfl)
theorem dX2_ordersOf_70 : decode cX2_ordersOf 70 = .ok (.if_icmp .ne 12, 3) := dk_160 0 12 (dk_at dksX2_ordersOf_3 0 rfl rfl)
theorem dX2_ordersOf_73 : decode cX2_ordersOf 73 = .ok (.iload 5, 2) := dk_21 5 (dk_at dksX2_ordersOf_3 3 rfl rfl)
theorem dX2_ordersOf_75 : decode cX2_ordersOf 75 = .ok (.ifCond .eq 7, 3) := dk_153 0 7 (dk_at dksX2_ordersOf_3 5 rfl rfl)
theorem dX2_ordersOf_78 : decode cX2_ordersOf 78 = .ok (.iconst 1, 1) := dk_4 (dk_at dksX2_ordersOf_3 8 rfl rfl)
theorem dX2_ordersOf_79 : decode cX2_ordersOf 79 = .ok (.goto 4, 3) := dk_167 0 4 (dk_at dksX2_ordersOf_3 9 rfl rfl)
theorem dX2_ordersOf_82 : decode cX2_ordersOf 82 = .ok (.iconst 0, 1) := dk_3 (dk_at dksX2_ordersOf_3 12 rfl rfl)
theorem dX2_ordersOf_83 : decode cX2_ordersOf 83 = .ok (.iadd, 1) := dk_96 (dk_at dksX2_ordersOf_3 13 rfl rfl)
theorem dX2_ordersOf_84 : decode cX2_ordersOf 84 = .ok (.istore_n 3, 1) := dk_62 (dk_at dksX2_ordersOf_3 14 rfl rfl)
theorem dX2_ordersOf_85 : decode cX2_ordersOf 85 = .ok (.iinc 4 1, 3) := dk_132 4 1 (dk_at dksX2_ordersOf_3 15 rfl rfl)
theorem dX2_ordersOf_88 : decode cX2_ordersOf 88 = .ok (.goto (-83), 3) := dk_167 255 173 (dk_at dksX2_ordersOf_3 18 rfl rfl)
theorem dX2_ordersOf_91 : decode cX2_ordersOf 91 = .ok (.iload_n 3, 1) := dk_29 (dk_at dksX2_ordersOf_3 21 rfl rfl)
theorem dX2_ordersOf_92 : decode cX2_ordersOf 92 = .ok (.ireturn, 1) := dk_172 (dk_at dksX2_ordersOf_3 22 rfl rfl)
abbrev cX2_count : ByteArray := prog_9_method_71_code
def yX2_count : MethodName := ⟨RX2, "count", "(I)I"⟩
def dkwX2_count_4 : List UInt8 := [180, 0, 7, 8, 46, 172, 42, 180, 0, 63, 172, 42, 180, 0, 166, 172, 16, 254, 172]
abbrev dktX2_count_4 : List UInt8 := dkwX2_count_4 ++ []
def dkwX2_count_3 : List UInt8 := [46, 172, 42, 180, 0, 7, 6, 46, 172, 42, 27, 182, 0, 226, 172, 42, 180, 0, 7, 7, 46, 172, 42]
abbrev dktX2_count_3 : List UInt8 := dkwX2_count_3 ++ dktX2_count_4
def dkwX2_count_2 : List UInt8 := [42, 180, 0, 7, 3, 46, 172, 42, 180, 0, 7, 4, 46, 172, 42, 182, 0, 134, 172, 42, 180, 0, 7, 5]
abbrev dktX2_count_2 : List UInt8 := dkwX2_count_2 ++ dktX2_count_3
def dkwX2_count_1 : List UInt8 := [170, 0, 0, 0, 0, 129, 0, 0, 0, 0, 0, 0, 0, 12, 0, 0, 0, 66, 0, 0, 0, 73, 0, 0, 0, 80, 0, 0, 0, 85, 0, 0, 0, 92, 0, 0, 0, 99, 0, 0, 0, 99, 0, 0, 0, 99, 0, 0, 0, 99, 0, 0, 0, 105, 0, 0, 0, 112, 0, 0, 0, 119, 0, 0, 0, 124]
abbrev dktX2_count_1 : List UInt8 := dkwX2_count_1 ++ dktX2_count_2
def dkwX2_count_0 : List UInt8 := [42, 3, 181, 0, 39, 27]
abbrev dktX2_count_0 : List UInt8 := dkwX2_count_0 ++ dktX2_count_1
theorem dksX2_count_0 : cX2_count.data.toList.drop 0 = dktX2_count_0 := by decide +kernel
theorem dksX2_count_1 : cX2_count.data.toList.drop 6 = dktX2_count_1 := dk_seg dksX2_count_0 6 rfl rfl
theorem dksX2_count_2 : cX2_count.data.toList.drop 72 = dktX2_count_2 := dk_seg dksX2_count_1 66 rfl rfl
theorem dksX2_count_3 : cX2_count.data.toList.drop 96 = dktX2_count_3 := dk_seg dksX2_count_2 24 rfl rfl
theorem dksX2_count_4 : cX2_count.data.toList.drop 119 = dktX2_count_4 := dk_seg dksX2_count_3 23 rfl rfl
theorem dX2_count_0 : decode cX2_count 0 = .ok (.aload_n 0, 1) := dk_42 (dk_at dksX2_count_0 0 rfl rfl)
theorem dX2_count_1 : decode cX2_count 1 = .ok (.iconst 0, 1) := dk_3 (dk_at dksX2_count_0 1 rfl rfl)
theorem dX2_count_2 : decode cX2_count 2 = .ok (.putfield 39, 3) := dk_181 0 39 (dk_at dksX2_count_0 2 rfl rfl)
theorem dX2_count_5 : decode cX2_count 5 = .ok (.iload_n 1, 1) := dk_27 (dk_at dksX2_count_0 5 rfl rfl)
theorem dX2_count_6 : decode cX2_count 6 = .ok (.tableswitch 129 0 12 #[66, 73, 80, 85, 92, 99, 99, 99, 99, 105, 112, 119, 124], 66) := by decide +kernel
theorem dX2_count_72 : decode cX2_count 72 = .ok (.aload_n 0, 1) := dk_42 (dk_at dksX2_count_2 0 rfl rfl)
theorem dX2_count_73 : decode cX2_count 73 = .ok (.getfield 7, 3) := dk_180 0 7 (dk_at dksX2_count_2 1 rfl rfl)
theorem dX2_count_76 : decode cX2_count 76 = .ok (.iconst 0, 1) := dk_3 (dk_at dksX2_count_2 4 rfl rfl)
theorem dX2_count_77 : decode cX2_count 77 = .ok (.iaload, 1) := dk_46 (dk_at dksX2_count_2 5 rfl rfl)
theorem dX2_count_78 : decode cX2_count 78 = .ok (.ireturn, 1) := dk_172 (dk_at dksX2_count_2 6 rfl rfl)
theorem dX2_count_79 : decode cX2_count 79 = .ok (.aload_n 0, 1) := dk_42 (dk_at dksX2_count_2 7 rfl rfl)
theorem dX2_count_80 : decode cX2_count 80 = .ok (.getfield 7, 3) := dk_180 0 7 (dk_at dksX2_count_2 8 rfl rfl)
theorem dX2_count_83 : decode cX2_count 83 = .ok (.iconst 1, 1) := dk_4 (dk_at dksX2_count_2 11 rfl rfl)
theorem dX2_count_84 : decode cX2_count 84 = .ok (.iaload, 1) := dk_46 (dk_at dksX2_count_2 12 rfl rfl)
theorem dX2_count_85 : decode cX2_count 85 = .ok (.ireturn, 1) := dk_172 (dk_at dksX2_count_2 13 rfl rfl)
theorem dX2_count_86 : decode cX2_count 86 = .ok (.aload_n 0, 1) := dk_42 (dk_at dksX2_count_2 14 rfl rfl)
theorem dX2_count_87 : decode cX2_count 87 = .ok (.invokevirtual 134, 3) := dk_182 0 134 (dk_at dksX2_count_2 15 rfl rfl)
theorem dX2_count_90 : decode cX2_count 90 = .ok (.ireturn, 1) := dk_172 (dk_at dksX2_count_2 18 rfl rfl)
theorem dX2_count_91 : decode cX2_count 91 = .ok (.aload_n 0, 1) := dk_42 (dk_at dksX2_count_2 19 rfl rfl)
theorem dX2_count_92 : decode cX2_count 92 = .ok (.getfield 7, 3) := dk_180 0 7 (dk_at dksX2_count_2 20 rfl rfl)
theorem dX2_count_95 : decode cX2_count 95 = .ok (.iconst 2, 1) := dk_5 (dk_at dksX2_count_2 23 rfl rfl)
theorem dX2_count_96 : decode cX2_count 96 = .ok (.iaload, 1) := dk_46 (dk_at dksX2_count_3 0 rfl rfl)
theorem dX2_count_97 : decode cX2_count 97 = .ok (.ireturn, 1) := dk_172 (dk_at dksX2_count_3 1 rfl rfl)
theorem dX2_count_98 : decode cX2_count 98 = .ok (.aload_n 0, 1) := dk_42 (dk_at dksX2_count_3 2 rfl rfl)
theorem dX2_count_99 : decode cX2_count 99 = .ok (.getfield 7, 3) := dk_180 0 7 (dk_at dksX2_count_3 3 rfl rfl)
theorem dX2_count_102 : decode cX2_count 102 = .ok (.iconst 3, 1) := dk_6 (dk_at dksX2_count_3 6 rfl rfl)
theorem dX2_count_103 : decode cX2_count 103 = .ok (.iaload, 1) := dk_46 (dk_at dksX2_count_3 7 rfl rfl)
theorem dX2_count_104 : decode cX2_count 104 = .ok (.ireturn, 1) := dk_172 (dk_at dksX2_count_3 8 rfl rfl)
theorem dX2_count_105 : decode cX2_count 105 = .ok (.aload_n 0, 1) := dk_42 (dk_at dksX2_count_3 9 rfl rfl)
theorem dX2_count_106 : decode cX2_count 106 = .ok (.iload_n 1, 1) := dk_27 (dk_at dksX2_count_3 10 rfl rfl)
theorem dX2_count_107 : decode cX2_count 107 = .ok (.invokevirtual 226, 3) := dk_182 0 226 (dk_at dksX2_count_3 11 rfl rfl)
theorem dX2_count_110 : decode cX2_count 110 = .ok (.ireturn, 1) := dk_172 (dk_at dksX2_count_3 14 rfl rfl)
theorem dX2_count_111 : decode cX2_count 111 = .ok (.aload_n 0, 1) := dk_42 (dk_at dksX2_count_3 15 rfl rfl)
theorem dX2_count_112 : decode cX2_count 112 = .ok (.getfield 7, 3) := dk_180 0 7 (dk_at dksX2_count_3 16 rfl rfl)
theorem dX2_count_115 : decode cX2_count 115 = .ok (.iconst 4, 1) := dk_7 (dk_at dksX2_count_3 19 rfl rfl)
theorem dX2_count_116 : decode cX2_count 116 = .ok (.iaload, 1) := dk_46 (dk_at dksX2_count_3 20 rfl rfl)
theorem dX2_count_117 : decode cX2_count 117 = .ok (.ireturn, 1) := dk_172 (dk_at dksX2_count_3 21 rfl rfl)
theorem dX2_count_118 : decode cX2_count 118 = .ok (.aload_n 0, 1) := dk_42 (dk_at dksX2_count_3 22 rfl rfl)
theorem dX2_count_119 : decode cX2_count 119 = .ok (.getfield 7, 3) := dk_180 0 7 (dk_at dksX2_count_4 0 rfl rfl)
theorem dX2_count_122 : decode cX2_count 122 = .ok (.iconst 5, 1) := dk_8 (dk_at dksX2_count_4 3 rfl rfl)
theorem dX2_count_123 : decode cX2_count 123 = .ok (.iaload, 1) := dk_46 (dk_at dksX2_count_4 4 rfl rfl)
theorem dX2_count_124 : decode cX2_count 124 = .ok (.ireturn, 1) := dk_172 (dk_at dksX2_count_4 5 rfl rfl)
theorem dX2_count_125 : decode cX2_count 125 = .ok (.aload_n 0, 1) := dk_42 (dk_at dksX2_count_4 6 rfl rfl)
theorem dX2_count_126 : decode cX2_count 126 = .ok (.getfield 63, 3) := dk_180 0 63 (dk_at dksX2_count_4 7 rfl rfl)
theorem dX2_count_129 : decode cX2_count 129 = .ok (.ireturn, 1) := dk_172 (dk_at dksX2_count_4 10 rfl rfl)
theorem dX2_count_130 : decode cX2_count 130 = .ok (.aload_n 0, 1) := dk_42 (dk_at dksX2_count_4 11 rfl rfl)
theorem dX2_count_131 : decode cX2_count 131 = .ok (.getfield 166, 3) := dk_180 0 166 (dk_at dksX2_count_4 12 rfl rfl)
theorem dX2_count_134 : decode cX2_count 134 = .ok (.ireturn, 1) := dk_172 (dk_at dksX2_count_4 15 rfl rfl)
theorem dX2_count_135 : decode cX2_count 135 = .ok (.bipush (-2), 2) := dk_16 254 (dk_at dksX2_count_4 16 rfl rfl)
theorem dX2_count_137 : decode cX2_count 137 = .ok (.ireturn, 1) := dk_172 (dk_at dksX2_count_4 18 rfl rfl)
abbrev cX2_words : ByteArray := prog_9_method_70_code
def yX2_words : MethodName := ⟨RX2, "words", "(I)I"⟩
def dkwX2_words_4 : List UInt8 := [167, 0, 4, 3, 96, 61, 132, 3, 1, 167, 255, 157, 28, 172]
abbrev dktX2_words_4 : List UInt8 := dkwX2_words_4 ++ []
def dkwX2_words_3 : List UInt8 := [167, 0, 13, 3, 167, 0, 9, 42, 29, 29, 182, 0, 205, 54, 4, 28, 21, 4, 153, 0, 7, 4]
abbrev dktX2_words_3 : List UInt8 := dkwX2_words_3 ++ dktX2_words_4
def dkwX2_words_2 : List UInt8 := [167, 0, 37, 3, 167, 0, 33, 27, 16, 7, 160, 0, 21, 42, 29, 182, 0, 214, 16, 251, 159, 0, 7, 4]
abbrev dktX2_words_2 : List UInt8 := dkwX2_words_2 ++ dktX2_words_3
def dkwX2_words_1 : List UInt8 := [16, 6, 160, 0, 29, 42, 29, 182, 0, 208, 16, 251, 159, 0, 15, 42, 29, 182, 0, 211, 154, 0, 7, 4]
abbrev dktX2_words_1 : List UInt8 := dkwX2_words_1 ++ dktX2_words_2
def dkwX2_words_0 : List UInt8 := [3, 61, 3, 62, 29, 16, 16, 162, 0, 99, 27, 8, 160, 0, 11, 42, 29, 182, 0, 211, 167, 0, 65, 27]
abbrev dktX2_words_0 : List UInt8 := dkwX2_words_0 ++ dktX2_words_1
theorem dksX2_words_0 : cX2_words.data.toList.drop 0 = dktX2_words_0 := by decide +kernel
theorem dksX2_words_1 : cX2_words.data.toList.drop 24 = dktX2_words_1 := dk_seg dksX2_words_0 24 rfl rfl
theorem dksX2_words_2 : cX2_words.data.toList.drop 48 = dktX2_words_2 := dk_seg dksX2_words_1 24 rfl rfl
theorem dksX2_words_3 : cX2_words.data.toList.drop 72 = dktX2_words_3 := dk_seg dksX2_words_2 24 rfl rfl
theorem dksX2_words_4 : cX2_words.data.toList.drop 94 = dktX2_words_4 := dk_seg dksX2_words_3 22 rfl rfl
theorem dX2_words_0 : decode cX2_words 0 = .ok (.iconst 0, 1) := dk_3 (dk_at dksX2_words_0 0 rfl rfl)
theorem dX2_words_1 : decode cX2_words 1 = .ok (.istore_n 2, 1) := dk_61 (dk_at dksX2_words_0 1 rfl rfl)
theorem dX2_words_2 : decode cX2_words 2 = .ok (.iconst 0, 1) := dk_3 (dk_at dksX2_words_0 2 rfl rfl)
theorem dX2_words_3 : decode cX2_words 3 = .ok (.istore_n 3, 1) := dk_62 (dk_at dksX2_words_0 3 rfl rfl)
theorem dX2_words_4 : decode cX2_words 4 = .ok (.iload_n 3, 1) := dk_29 (dk_at dksX2_words_0 4 rfl rfl)
theorem dX2_words_5 : decode cX2_words 5 = .ok (.bipush 16, 2) := dk_16 16 (dk_at dksX2_words_0 5 rfl rfl)
theorem dX2_words_7 : decode cX2_words 7 = .ok (.if_icmp .ge 99, 3) := dk_162 0 99 (dk_at dksX2_words_0 7 rfl rfl)
theorem dX2_words_10 : decode cX2_words 10 = .ok (.iload_n 1, 1) := dk_27 (dk_at dksX2_words_0 10 rfl rfl)
theorem dX2_words_11 : decode cX2_words 11 = .ok (.iconst 5, 1) := dk_8 (dk_at dksX2_words_0 11 rfl rfl)
theorem dX2_words_12 : decode cX2_words 12 = .ok (.if_icmp .ne 11, 3) := dk_160 0 11 (dk_at dksX2_words_0 12 rfl rfl)
theorem dX2_words_15 : decode cX2_words 15 = .ok (.aload_n 0, 1) := dk_42 (dk_at dksX2_words_0 15 rfl rfl)
theorem dX2_words_16 : decode cX2_words 16 = .ok (.iload_n 3, 1) := dk_29 (dk_at dksX2_words_0 16 rfl rfl)
theorem dX2_words_17 : decode cX2_words 17 = .ok (.invokevirtual 211, 3) := dk_182 0 211 (dk_at dksX2_words_0 17 rfl rfl)
theorem dX2_words_20 : decode cX2_words 20 = .ok (.goto 65, 3) := dk_167 0 65 (dk_at dksX2_words_0 20 rfl rfl)
theorem dX2_words_23 : decode cX2_words 23 = .ok (.iload_n 1, 1) := dk_27 (dk_at dksX2_words_0 23 rfl rfl)
theorem dX2_words_24 : decode cX2_words 24 = .ok (.bipush 6, 2) := dk_16 6 (dk_at dksX2_words_1 0 rfl rfl)
theorem dX2_words_26 : decode cX2_words 26 = .ok (.if_icmp .ne 29, 3) := dk_160 0 29 (dk_at dksX2_words_1 2 rfl rfl)
theorem dX2_words_29 : decode cX2_words 29 = .ok (.aload_n 0, 1) := dk_42 (dk_at dksX2_words_1 5 rfl rfl)
theorem dX2_words_30 : decode cX2_words 30 = .ok (.iload_n 3, 1) := dk_29 (dk_at dksX2_words_1 6 rfl rfl)
theorem dX2_words_31 : decode cX2_words 31 = .ok (.invokevirtual 208, 3) := dk_182 0 208 (dk_at dksX2_words_1 7 rfl rfl)
theorem dX2_words_34 : decode cX2_words 34 = .ok (.bipush (-5), 2) := dk_16 251 (dk_at dksX2_words_1 10 rfl rfl)
theorem dX2_words_36 : decode cX2_words 36 = .ok (.if_icmp .eq 15, 3) := dk_159 0 15 (dk_at dksX2_words_1 12 rfl rfl)
theorem dX2_words_39 : decode cX2_words 39 = .ok (.aload_n 0, 1) := dk_42 (dk_at dksX2_words_1 15 rfl rfl)
theorem dX2_words_40 : decode cX2_words 40 = .ok (.iload_n 3, 1) := dk_29 (dk_at dksX2_words_1 16 rfl rfl)
theorem dX2_words_41 : decode cX2_words 41 = .ok (.invokevirtual 211, 3) := dk_182 0 211 (dk_at dksX2_words_1 17 rfl rfl)
theorem dX2_words_44 : decode cX2_words 44 = .ok (.ifCond .ne 7, 3) := dk_154 0 7 (dk_at dksX2_words_1 20 rfl rfl)
theorem dX2_words_47 : decode cX2_words 47 = .ok (.iconst 1, 1) := dk_4 (dk_at dksX2_words_1 23 rfl rfl)
theorem dX2_words_48 : decode cX2_words 48 = .ok (.goto 37, 3) := dk_167 0 37 (dk_at dksX2_words_2 0 rfl rfl)
theorem dX2_words_51 : decode cX2_words 51 = .ok (.iconst 0, 1) := dk_3 (dk_at dksX2_words_2 3 rfl rfl)
theorem dX2_words_52 : decode cX2_words 52 = .ok (.goto 33, 3) := dk_167 0 33 (dk_at dksX2_words_2 4 rfl rfl)
theorem dX2_words_55 : decode cX2_words 55 = .ok (.iload_n 1, 1) := dk_27 (dk_at dksX2_words_2 7 rfl rfl)
theorem dX2_words_56 : decode cX2_words 56 = .ok (.bipush 7, 2) := dk_16 7 (dk_at dksX2_words_2 8 rfl rfl)
theorem dX2_words_58 : decode cX2_words 58 = .ok (.if_icmp .ne 21, 3) := dk_160 0 21 (dk_at dksX2_words_2 10 rfl rfl)
theorem dX2_words_61 : decode cX2_words 61 = .ok (.aload_n 0, 1) := dk_42 (dk_at dksX2_words_2 13 rfl rfl)
theorem dX2_words_62 : decode cX2_words 62 = .ok (.iload_n 3, 1) := dk_29 (dk_at dksX2_words_2 14 rfl rfl)
theorem dX2_words_63 : decode cX2_words 63 = .ok (.invokevirtual 214, 3) := dk_182 0 214 (dk_at dksX2_words_2 15 rfl rfl)
theorem dX2_words_66 : decode cX2_words 66 = .ok (.bipush (-5), 2) := dk_16 251 (dk_at dksX2_words_2 18 rfl rfl)
theorem dX2_words_68 : decode cX2_words 68 = .ok (.if_icmp .eq 7, 3) := dk_159 0 7 (dk_at dksX2_words_2 20 rfl rfl)
theorem dX2_words_71 : decode cX2_words 71 = .ok (.iconst 1, 1) := dk_4 (dk_at dksX2_words_2 23 rfl rfl)
theorem dX2_words_72 : decode cX2_words 72 = .ok (.goto 13, 3) := dk_167 0 13 (dk_at dksX2_words_3 0 rfl rfl)
theorem dX2_words_75 : decode cX2_words 75 = .ok (.iconst 0, 1) := dk_3 (dk_at dksX2_words_3 3 rfl rfl)
theorem dX2_words_76 : decode cX2_words 76 = .ok (.goto 9, 3) := dk_167 0 9 (dk_at dksX2_words_3 4 rfl rfl)
theorem dX2_words_79 : decode cX2_words 79 = .ok (.aload_n 0, 1) := dk_42 (dk_at dksX2_words_3 7 rfl rfl)
theorem dX2_words_80 : decode cX2_words 80 = .ok (.iload_n 3, 1) := dk_29 (dk_at dksX2_words_3 8 rfl rfl)
theorem dX2_words_81 : decode cX2_words 81 = .ok (.iload_n 3, 1) := dk_29 (dk_at dksX2_words_3 9 rfl rfl)
theorem dX2_words_82 : decode cX2_words 82 = .ok (.invokevirtual 205, 3) := dk_182 0 205 (dk_at dksX2_words_3 10 rfl rfl)
theorem dX2_words_85 : decode cX2_words 85 = .ok (.istore 4, 2) := dk_54 4 (dk_at dksX2_words_3 13 rfl rfl)
theorem dX2_words_87 : decode cX2_words 87 = .ok (.iload_n 2, 1) := dk_28 (dk_at dksX2_words_3 15 rfl rfl)
theorem dX2_words_88 : decode cX2_words 88 = .ok (.iload 4, 2) := dk_21 4 (dk_at dksX2_words_3 16 rfl rfl)
theorem dX2_words_90 : decode cX2_words 90 = .ok (.ifCond .eq 7, 3) := dk_153 0 7 (dk_at dksX2_words_3 18 rfl rfl)
theorem dX2_words_93 : decode cX2_words 93 = .ok (.iconst 1, 1) := dk_4 (dk_at dksX2_words_3 21 rfl rfl)
theorem dX2_words_94 : decode cX2_words 94 = .ok (.goto 4, 3) := dk_167 0 4 (dk_at dksX2_words_4 0 rfl rfl)
theorem dX2_words_97 : decode cX2_words 97 = .ok (.iconst 0, 1) := dk_3 (dk_at dksX2_words_4 3 rfl rfl)
theorem dX2_words_98 : decode cX2_words 98 = .ok (.iadd, 1) := dk_96 (dk_at dksX2_words_4 4 rfl rfl)
theorem dX2_words_99 : decode cX2_words 99 = .ok (.istore_n 2, 1) := dk_61 (dk_at dksX2_words_4 5 rfl rfl)
theorem dX2_words_100 : decode cX2_words 100 = .ok (.iinc 3 1, 3) := dk_132 3 1 (dk_at dksX2_words_4 6 rfl rfl)
theorem dX2_words_103 : decode cX2_words 103 = .ok (.goto (-99), 3) := dk_167 255 157 (dk_at dksX2_words_4 9 rfl rfl)
theorem dX2_words_106 : decode cX2_words 106 = .ok (.iload_n 2, 1) := dk_28 (dk_at dksX2_words_4 12 rfl rfl)
theorem dX2_words_107 : decode cX2_words 107 = .ok (.ireturn, 1) := dk_172 (dk_at dksX2_words_4 13 rfl rfl)
theorem q73 : (Jvm.Cond.initialized "NailedOrdersModel") ∈ lw_all := lw_g (lw_at lw_m1 14 rfl) rfl
theorem q171 : (Jvm.Cond.selects "NailedOrdersModel" ({ cls := "java/lang/Object", name := "getClass", desc := "()Ljava/lang/Class;" } : Jvm.MethodName) ({ cls := "java/lang/Object", name := "getClass", desc := "()Ljava/lang/Class;" } : Jvm.MethodName)) ∈ lw_all := lw_g (lw_at lw_m1 112 rfl) rfl
theorem q527 : (Jvm.Cond.selects "NailedOrdersModel" ({ cls := "java/lang/Object", name := "equals", desc := "(Ljava/lang/Object;)Z" } : Jvm.MethodName) ({ cls := "java/lang/Object", name := "equals", desc := "(Ljava/lang/Object;)Z" } : Jvm.MethodName)) ∈ lw_all := lw_g (lw_at lw_m2 228 rfl) rfl
theorem q1034 : (Jvm.Cond.instantiable "NailedOrdersModel" (16 : Nat)) ∈ lw_all := lw_g (lw_at lw_m5 15 rfl) rfl
theorem q1036 : (Jvm.Cond.instanceMethod ({ cls := "NailedOrdersModel", name := "<init>", desc := "()V" } : Jvm.MethodName)) ∈ lw_all := lw_g (lw_at lw_m5 17 rfl) rfl
theorem q1037 : (Jvm.Cond.code ({ cls := "NailedOrdersModel", name := "<init>", desc := "()V" } : Jvm.MethodName) prog_9_method_1_code (1 : Nat) (Option.none : Option Jvm.ClassFile.FieldType)) ∈ lw_all := lw_g (lw_at lw_m5 18 rfl) rfl
theorem q1038 : (Jvm.Cond.methodLink "NailedOrdersModel" (1 : Nat) ({ cls := "java/lang/Object", name := "<init>", desc := "()V" } : Jvm.MethodName)) ∈ lw_all := lw_g (lw_at lw_m5 19 rfl) rfl
theorem q1039 : (Jvm.Cond.fieldLink "NailedOrdersModel" (39 : Nat) "NailedOrdersModel" "thrown" "I") ∈ lw_all := lw_g (lw_at lw_m5 20 rfl) rfl
theorem q1040 : (Jvm.Cond.fieldLink "NailedOrdersModel" (7 : Nat) "NailedOrdersModel" "now" "[I") ∈ lw_all := lw_g (lw_at lw_m5 21 rfl) rfl
theorem q1041 : (Jvm.Cond.fieldLink "NailedOrdersModel" (13 : Nat) "NailedOrdersModel" "put" "[I") ∈ lw_all := lw_g (lw_at lw_m5 22 rfl) rfl
theorem q1042 : (Jvm.Cond.fieldLink "NailedOrdersModel" (16 : Nat) "NailedOrdersModel" "kept" "[I") ∈ lw_all := lw_g (lw_at lw_m5 23 rfl) rfl
theorem q1043 : (Jvm.Cond.fieldLink "NailedOrdersModel" (201 : Nat) "NailedOrdersModel" "isKept" "Z") ∈ lw_all := lw_g (lw_at lw_m5 24 rfl) rfl
theorem q1044 : (Jvm.Cond.fieldLink "NailedOrdersModel" (19 : Nat) "NailedOrdersModel" "was" "[I") ∈ lw_all := lw_g (lw_at lw_m5 25 rfl) rfl
theorem q1045 : (Jvm.Cond.fieldLink "NailedOrdersModel" (63 : Nat) "NailedOrdersModel" "acts" "I") ∈ lw_all := lw_g (lw_at lw_m5 26 rfl) rfl
theorem q1046 : (Jvm.Cond.fieldLink "NailedOrdersModel" (22 : Nat) "NailedOrdersModel" "text" "[I") ∈ lw_all := lw_g (lw_at lw_m5 27 rfl) rfl
theorem q1047 : (Jvm.Cond.fieldLink "NailedOrdersModel" (166 : Nat) "NailedOrdersModel" "typed" "I") ∈ lw_all := lw_g (lw_at lw_m5 28 rfl) rfl
theorem q1048 : (Jvm.Cond.fieldLink "NailedOrdersModel" (25 : Nat) "NailedOrdersModel" "way" "[I") ∈ lw_all := lw_g (lw_at lw_m5 29 rfl) rfl
theorem q1049 : (Jvm.Cond.fieldLink "NailedOrdersModel" (83 : Nat) "NailedOrdersModel" "has" "Z") ∈ lw_all := lw_g (lw_at lw_m5 30 rfl) rfl
theorem q1050 : (Jvm.Cond.fieldLink "NailedOrdersModel" (169 : Nat) "NailedOrdersModel" "at" "I") ∈ lw_all := lw_g (lw_at lw_m5 31 rfl) rfl
theorem q1051 : (Jvm.Cond.fieldLink "NailedOrdersModel" (172 : Nat) "NailedOrdersModel" "isWrong" "Z") ∈ lw_all := lw_g (lw_at lw_m5 32 rfl) rfl
theorem q1052 : (Jvm.Cond.fieldLink "NailedOrdersModel" (28 : Nat) "NailedOrdersModel" "told" "[I") ∈ lw_all := lw_g (lw_at lw_m5 33 rfl) rfl
theorem q1053 : (Jvm.Cond.fieldLink "NailedOrdersModel" (31 : Nat) "NailedOrdersModel" "hadValue" "[Z") ∈ lw_all := lw_g (lw_at lw_m5 34 rfl) rfl
theorem q1054 : (Jvm.Cond.fieldLink "NailedOrdersModel" (35 : Nat) "NailedOrdersModel" "hadThat" "[F") ∈ lw_all := lw_g (lw_at lw_m5 35 rfl) rfl
theorem q1055 : (Jvm.Cond.lays "NailedOrdersModel" "NailedOrdersModel" "thrown" "I") ∈ lw_all := lw_g (lw_at lw_m5 36 rfl) rfl
theorem q1056 : (Jvm.Cond.soleField "NailedOrdersModel" "thrown") ∈ lw_all := lw_g (lw_at lw_m5 37 rfl) rfl
theorem q1057 : (Jvm.Cond.laysFinal "NailedOrdersModel" "NailedOrdersModel" "now" "[I") ∈ lw_all := lw_g (lw_at lw_m5 38 rfl) rfl
theorem q1058 : (Jvm.Cond.soleField "NailedOrdersModel" "now") ∈ lw_all := lw_g (lw_at lw_m5 39 rfl) rfl
theorem q1059 : (Jvm.Cond.laysFinal "NailedOrdersModel" "NailedOrdersModel" "put" "[I") ∈ lw_all := lw_g (lw_at lw_m5 40 rfl) rfl
theorem q1060 : (Jvm.Cond.soleField "NailedOrdersModel" "put") ∈ lw_all := lw_g (lw_at lw_m5 41 rfl) rfl
theorem q1061 : (Jvm.Cond.laysFinal "NailedOrdersModel" "NailedOrdersModel" "kept" "[I") ∈ lw_all := lw_g (lw_at lw_m5 42 rfl) rfl
theorem q1062 : (Jvm.Cond.soleField "NailedOrdersModel" "kept") ∈ lw_all := lw_g (lw_at lw_m5 43 rfl) rfl
theorem q1063 : (Jvm.Cond.lays "NailedOrdersModel" "NailedOrdersModel" "isKept" "Z") ∈ lw_all := lw_g (lw_at lw_m5 44 rfl) rfl
theorem q1064 : (Jvm.Cond.soleField "NailedOrdersModel" "isKept") ∈ lw_all := lw_g (lw_at lw_m5 45 rfl) rfl
theorem q1065 : (Jvm.Cond.laysFinal "NailedOrdersModel" "NailedOrdersModel" "was" "[I") ∈ lw_all := lw_g (lw_at lw_m5 46 rfl) rfl
theorem q1066 : (Jvm.Cond.soleField "NailedOrdersModel" "was") ∈ lw_all := lw_g (lw_at lw_m5 47 rfl) rfl
theorem q1067 : (Jvm.Cond.lays "NailedOrdersModel" "NailedOrdersModel" "acts" "I") ∈ lw_all := lw_g (lw_at lw_m5 48 rfl) rfl
theorem q1068 : (Jvm.Cond.soleField "NailedOrdersModel" "acts") ∈ lw_all := lw_g (lw_at lw_m5 49 rfl) rfl
theorem q1069 : (Jvm.Cond.laysFinal "NailedOrdersModel" "NailedOrdersModel" "text" "[I") ∈ lw_all := lw_g (lw_at lw_m5 50 rfl) rfl
theorem q1070 : (Jvm.Cond.soleField "NailedOrdersModel" "text") ∈ lw_all := lw_g (lw_at lw_m5 51 rfl) rfl
theorem q1071 : (Jvm.Cond.lays "NailedOrdersModel" "NailedOrdersModel" "typed" "I") ∈ lw_all := lw_g (lw_at lw_m5 52 rfl) rfl
theorem q1072 : (Jvm.Cond.soleField "NailedOrdersModel" "typed") ∈ lw_all := lw_g (lw_at lw_m5 53 rfl) rfl
theorem q1073 : (Jvm.Cond.laysFinal "NailedOrdersModel" "NailedOrdersModel" "way" "[I") ∈ lw_all := lw_g (lw_at lw_m5 54 rfl) rfl
theorem q1074 : (Jvm.Cond.soleField "NailedOrdersModel" "way") ∈ lw_all := lw_g (lw_at lw_m5 55 rfl) rfl
theorem q1075 : (Jvm.Cond.lays "NailedOrdersModel" "NailedOrdersModel" "has" "Z") ∈ lw_all := lw_g (lw_at lw_m5 56 rfl) rfl
theorem q1076 : (Jvm.Cond.soleField "NailedOrdersModel" "has") ∈ lw_all := lw_g (lw_at lw_m5 57 rfl) rfl
theorem q1077 : (Jvm.Cond.lays "NailedOrdersModel" "NailedOrdersModel" "at" "I") ∈ lw_all := lw_g (lw_at lw_m5 58 rfl) rfl
theorem q1078 : (Jvm.Cond.soleField "NailedOrdersModel" "at") ∈ lw_all := lw_g (lw_at lw_m5 59 rfl) rfl
theorem q1079 : (Jvm.Cond.lays "NailedOrdersModel" "NailedOrdersModel" "isWrong" "Z") ∈ lw_all := lw_g (lw_at lw_m5 60 rfl) rfl
theorem q1080 : (Jvm.Cond.soleField "NailedOrdersModel" "isWrong") ∈ lw_all := lw_g (lw_at lw_m5 61 rfl) rfl
theorem q1081 : (Jvm.Cond.laysFinal "NailedOrdersModel" "NailedOrdersModel" "told" "[I") ∈ lw_all := lw_g (lw_at lw_m5 62 rfl) rfl
theorem q1082 : (Jvm.Cond.soleField "NailedOrdersModel" "told") ∈ lw_all := lw_g (lw_at lw_m5 63 rfl) rfl
theorem q1083 : (Jvm.Cond.laysFinal "NailedOrdersModel" "NailedOrdersModel" "hadValue" "[Z") ∈ lw_all := lw_g (lw_at lw_m5 64 rfl) rfl
theorem q1084 : (Jvm.Cond.soleField "NailedOrdersModel" "hadValue") ∈ lw_all := lw_g (lw_at lw_m5 65 rfl) rfl
theorem q1085 : (Jvm.Cond.laysFinal "NailedOrdersModel" "NailedOrdersModel" "hadThat" "[F") ∈ lw_all := lw_g (lw_at lw_m5 66 rfl) rfl
theorem q1086 : (Jvm.Cond.soleField "NailedOrdersModel" "hadThat") ∈ lw_all := lw_g (lw_at lw_m5 67 rfl) rfl
theorem q1087 : (Jvm.Cond.superclass "NailedOrdersModel" "java/lang/Object") ∈ lw_all := lw_g (lw_at lw_m5 68 rfl) rfl
theorem q1091 : (Jvm.Cond.instanceMethod ({ cls := "NailedOrdersModel", name := "addPerson", desc := "(I)I" } : Jvm.MethodName)) ∈ lw_all := lw_g (lw_at lw_m5 72 rfl) rfl
theorem q1092 : (Jvm.Cond.selects "NailedOrdersModel" ({ cls := "NailedOrdersModel", name := "addPerson", desc := "(I)I" } : Jvm.MethodName) ({ cls := "NailedOrdersModel", name := "addPerson", desc := "(I)I" } : Jvm.MethodName)) ∈ lw_all := lw_g (lw_at lw_m5 73 rfl) rfl
theorem q1093 : (Jvm.Cond.code ({ cls := "NailedOrdersModel", name := "addPerson", desc := "(I)I" } : Jvm.MethodName) prog_9_method_27_code (2 : Nat) (Option.some Jvm.ClassFile.FieldType.int)) ∈ lw_all := lw_g (lw_at lw_m5 74 rfl) rfl
theorem q1094 : (Jvm.Cond.methodLink "NailedOrdersModel" (107 : Nat) ({ cls := "NailedOrdersModel", name := "aside", desc := "()V" } : Jvm.MethodName)) ∈ lw_all := lw_g (lw_at lw_m5 75 rfl) rfl
theorem q1095 : (Jvm.Cond.privateMethod ({ cls := "NailedOrdersModel", name := "aside", desc := "()V" } : Jvm.MethodName)) ∈ lw_tbl := lw_at lw_m5 76 rfl
theorem q1096 : (Jvm.Cond.instanceMethod ({ cls := "NailedOrdersModel", name := "aside", desc := "()V" } : Jvm.MethodName)) ∈ lw_all := lw_g (lw_at lw_m5 77 rfl) rfl
theorem q1097 : (Jvm.Cond.code ({ cls := "NailedOrdersModel", name := "aside", desc := "()V" } : Jvm.MethodName) prog_9_method_14_code (2 : Nat) (Option.none : Option Jvm.ClassFile.FieldType)) ∈ lw_all := lw_g (lw_at lw_m5 78 rfl) rfl
theorem q1098 : (Jvm.Cond.methodLink "NailedOrdersModel" (53 : Nat) ({ cls := "NailedOrdersModel", name := "in", desc := "(III)Z" } : Jvm.MethodName)) ∈ lw_all := lw_g (lw_at lw_m5 79 rfl) rfl
theorem q1099 : (Jvm.Cond.static ({ cls := "NailedOrdersModel", name := "in", desc := "(III)Z" } : Jvm.MethodName)) ∈ lw_all := lw_g (lw_at lw_m5 80 rfl) rfl
theorem q1100 : (Jvm.Cond.code ({ cls := "NailedOrdersModel", name := "in", desc := "(III)Z" } : Jvm.MethodName) prog_9_method_3_code (3 : Nat) (Option.some Jvm.ClassFile.FieldType.boolean)) ∈ lw_all := lw_g (lw_at lw_m5 81 rfl) rfl
theorem q1101 : (Jvm.Cond.methodLink "NailedOrdersModel" (110 : Nat) ({ cls := "NailedOrdersModel", name := "acted", desc := "(I)I" } : Jvm.MethodName)) ∈ lw_all := lw_g (lw_at lw_m5 82 rfl) rfl
theorem q1102 : (Jvm.Cond.privateMethod ({ cls := "NailedOrdersModel", name := "acted", desc := "(I)I" } : Jvm.MethodName)) ∈ lw_tbl := lw_at lw_m5 83 rfl
theorem q1103 : (Jvm.Cond.instanceMethod ({ cls := "NailedOrdersModel", name := "acted", desc := "(I)I" } : Jvm.MethodName)) ∈ lw_all := lw_g (lw_at lw_m5 84 rfl) rfl
theorem q1104 : (Jvm.Cond.code ({ cls := "NailedOrdersModel", name := "acted", desc := "(I)I" } : Jvm.MethodName) prog_9_method_16_code (3 : Nat) (Option.some Jvm.ClassFile.FieldType.int)) ∈ lw_all := lw_g (lw_at lw_m5 85 rfl) rfl
theorem q1106 : (Jvm.Cond.instanceMethod ({ cls := "NailedOrdersModel", name := "setRank", desc := "(II)I" } : Jvm.MethodName)) ∈ lw_all := lw_g (lw_at lw_m5 87 rfl) rfl
theorem q1107 : (Jvm.Cond.selects "NailedOrdersModel" ({ cls := "NailedOrdersModel", name := "setRank", desc := "(II)I" } : Jvm.MethodName) ({ cls := "NailedOrdersModel", name := "setRank", desc := "(II)I" } : Jvm.MethodName)) ∈ lw_all := lw_g (lw_at lw_m5 88 rfl) rfl
theorem q1108 : (Jvm.Cond.code ({ cls := "NailedOrdersModel", name := "setRank", desc := "(II)I" } : Jvm.MethodName) prog_9_method_28_code (4 : Nat) (Option.some Jvm.ClassFile.FieldType.int)) ∈ lw_all := lw_g (lw_at lw_m5 89 rfl) rfl
theorem q1109 : (Jvm.Cond.methodLink "NailedOrdersModel" (113 : Nat) ({ cls := "NailedOrdersModel", name := "isPerson", desc := "(I)Z" } : Jvm.MethodName)) ∈ lw_all := lw_g (lw_at lw_m5 90 rfl) rfl
theorem q1110 : (Jvm.Cond.privateMethod ({ cls := "NailedOrdersModel", name := "isPerson", desc := "(I)Z" } : Jvm.MethodName)) ∈ lw_tbl := lw_at lw_m5 91 rfl
theorem q1111 : (Jvm.Cond.instanceMethod ({ cls := "NailedOrdersModel", name := "isPerson", desc := "(I)Z" } : Jvm.MethodName)) ∈ lw_all := lw_g (lw_at lw_m5 92 rfl) rfl
theorem q1112 : (Jvm.Cond.code ({ cls := "NailedOrdersModel", name := "isPerson", desc := "(I)Z" } : Jvm.MethodName) prog_9_method_8_code (2 : Nat) (Option.some Jvm.ClassFile.FieldType.boolean)) ∈ lw_all := lw_g (lw_at lw_m5 93 rfl) rfl
theorem q1114 : (Jvm.Cond.instanceMethod ({ cls := "NailedOrdersModel", name := "setTolerance", desc := "(I)I" } : Jvm.MethodName)) ∈ lw_all := lw_g (lw_at lw_m5 95 rfl) rfl
theorem q1115 : (Jvm.Cond.selects "NailedOrdersModel" ({ cls := "NailedOrdersModel", name := "setTolerance", desc := "(I)I" } : Jvm.MethodName) ({ cls := "NailedOrdersModel", name := "setTolerance", desc := "(I)I" } : Jvm.MethodName)) ∈ lw_all := lw_g (lw_at lw_m5 96 rfl) rfl
theorem q1116 : (Jvm.Cond.code ({ cls := "NailedOrdersModel", name := "setTolerance", desc := "(I)I" } : Jvm.MethodName) prog_9_method_29_code (2 : Nat) (Option.some Jvm.ClassFile.FieldType.int)) ∈ lw_all := lw_g (lw_at lw_m5 97 rfl) rfl
theorem q1117 : (Jvm.Cond.constantFloat "NailedOrdersModel" (116 : Nat) (1120403456 : UInt32)) ∈ lw_all := lw_g (lw_at lw_m5 98 rfl) rfl
theorem q1118 : (Jvm.Cond.methodLink "NailedOrdersModel" (117 : Nat) ({ cls := "NailedOrdersModel", name := "isFrom", desc := "(IFF)Z" } : Jvm.MethodName)) ∈ lw_all := lw_g (lw_at lw_m5 99 rfl) rfl
theorem q1119 : (Jvm.Cond.static ({ cls := "NailedOrdersModel", name := "isFrom", desc := "(IFF)Z" } : Jvm.MethodName)) ∈ lw_all := lw_g (lw_at lw_m5 100 rfl) rfl
theorem q1120 : (Jvm.Cond.code ({ cls := "NailedOrdersModel", name := "isFrom", desc := "(IFF)Z" } : Jvm.MethodName) prog_9_method_13_code (4 : Nat) (Option.some Jvm.ClassFile.FieldType.boolean)) ∈ lw_all := lw_g (lw_at lw_m5 101 rfl) rfl
theorem q1121 : (Jvm.Cond.constant "NailedOrdersModel" (61 : Nat) (2147483647 : Int32)) ∈ lw_all := lw_g (lw_at lw_m5 102 rfl) rfl
theorem q1122 : (Jvm.Cond.constant "NailedOrdersModel" (62 : Nat) (2139095040 : Int32)) ∈ lw_all := lw_g (lw_at lw_m5 103 rfl) rfl
theorem q1123 : (Jvm.Cond.methodLink "NailedOrdersModel" (43 : Nat) ({ cls := "java/lang/Float", name := "intBitsToFloat", desc := "(I)F" } : Jvm.MethodName)) ∈ lw_all := lw_g (lw_at lw_m5 104 rfl) rfl
theorem q1125 : (Jvm.Cond.instanceMethod ({ cls := "NailedOrdersModel", name := "nail", desc := "(IIII)I" } : Jvm.MethodName)) ∈ lw_all := lw_g (lw_at lw_m5 106 rfl) rfl
theorem q1126 : (Jvm.Cond.selects "NailedOrdersModel" ({ cls := "NailedOrdersModel", name := "nail", desc := "(IIII)I" } : Jvm.MethodName) ({ cls := "NailedOrdersModel", name := "nail", desc := "(IIII)I" } : Jvm.MethodName)) ∈ lw_all := lw_g (lw_at lw_m5 107 rfl) rfl
theorem q1127 : (Jvm.Cond.code ({ cls := "NailedOrdersModel", name := "nail", desc := "(IIII)I" } : Jvm.MethodName) prog_9_method_34_code (6 : Nat) (Option.some Jvm.ClassFile.FieldType.int)) ∈ lw_all := lw_g (lw_at lw_m5 108 rfl) rfl
theorem q1128 : (Jvm.Cond.methodLink "NailedOrdersModel" (142 : Nat) ({ cls := "NailedOrdersModel", name := "one", desc := "()I" } : Jvm.MethodName)) ∈ lw_all := lw_g (lw_at lw_m5 109 rfl) rfl
theorem q1129 : (Jvm.Cond.static ({ cls := "NailedOrdersModel", name := "one", desc := "()I" } : Jvm.MethodName)) ∈ lw_all := lw_g (lw_at lw_m5 110 rfl) rfl
theorem q1130 : (Jvm.Cond.code ({ cls := "NailedOrdersModel", name := "one", desc := "()I" } : Jvm.MethodName) prog_9_method_33_code (0 : Nat) (Option.some Jvm.ClassFile.FieldType.int)) ∈ lw_all := lw_g (lw_at lw_m5 111 rfl) rfl
theorem q1131 : (Jvm.Cond.methodLink "NailedOrdersModel" (138 : Nat) ({ cls := "java/lang/Float", name := "floatToRawIntBits", desc := "(F)I" } : Jvm.MethodName)) ∈ lw_all := lw_g (lw_at lw_m5 112 rfl) rfl
theorem q1132 : (Jvm.Cond.methodLink "NailedOrdersModel" (145 : Nat) ({ cls := "NailedOrdersModel", name := "nails", desc := "(IIIIII)I" } : Jvm.MethodName)) ∈ lw_all := lw_g (lw_at lw_m5 113 rfl) rfl
theorem q1133 : (Jvm.Cond.privateMethod ({ cls := "NailedOrdersModel", name := "nails", desc := "(IIIIII)I" } : Jvm.MethodName)) ∈ lw_tbl := lw_at lw_m5 114 rfl
theorem q1134 : (Jvm.Cond.instanceMethod ({ cls := "NailedOrdersModel", name := "nails", desc := "(IIIIII)I" } : Jvm.MethodName)) ∈ lw_all := lw_g (lw_at lw_m5 115 rfl) rfl
theorem q1135 : (Jvm.Cond.code ({ cls := "NailedOrdersModel", name := "nails", desc := "(IIIIII)I" } : Jvm.MethodName) prog_9_method_32_code (8 : Nat) (Option.some Jvm.ClassFile.FieldType.int)) ∈ lw_all := lw_g (lw_at lw_m5 116 rfl) rfl
theorem q1136 : (Jvm.Cond.methodLink "NailedOrdersModel" (125 : Nat) ({ cls := "NailedOrdersModel", name := "isWord", desc := "(I)Z" } : Jvm.MethodName)) ∈ lw_all := lw_g (lw_at lw_m5 117 rfl) rfl
theorem q1137 : (Jvm.Cond.static ({ cls := "NailedOrdersModel", name := "isWord", desc := "(I)Z" } : Jvm.MethodName)) ∈ lw_all := lw_g (lw_at lw_m5 118 rfl) rfl
theorem q1138 : (Jvm.Cond.code ({ cls := "NailedOrdersModel", name := "isWord", desc := "(I)Z" } : Jvm.MethodName) prog_9_method_7_code (1 : Nat) (Option.some Jvm.ClassFile.FieldType.boolean)) ∈ lw_all := lw_g (lw_at lw_m5 119 rfl) rfl
theorem q1139 : (Jvm.Cond.methodLink "NailedOrdersModel" (128 : Nat) ({ cls := "NailedOrdersModel", name := "isNumber", desc := "(I)Z" } : Jvm.MethodName)) ∈ lw_all := lw_g (lw_at lw_m5 120 rfl) rfl
theorem q1140 : (Jvm.Cond.static ({ cls := "NailedOrdersModel", name := "isNumber", desc := "(I)Z" } : Jvm.MethodName)) ∈ lw_all := lw_g (lw_at lw_m5 121 rfl) rfl
theorem q1141 : (Jvm.Cond.code ({ cls := "NailedOrdersModel", name := "isNumber", desc := "(I)Z" } : Jvm.MethodName) prog_9_method_30_code (1 : Nat) (Option.some Jvm.ClassFile.FieldType.boolean)) ∈ lw_all := lw_g (lw_at lw_m5 122 rfl) rfl
theorem q1142 : (Jvm.Cond.constantFloat "NailedOrdersModel" (121 : Nat) (3296329728 : UInt32)) ∈ lw_all := lw_g (lw_at lw_m5 123 rfl) rfl
theorem q1143 : (Jvm.Cond.constantFloat "NailedOrdersModel" (122 : Nat) (1148846080 : UInt32)) ∈ lw_all := lw_g (lw_at lw_m5 124 rfl) rfl
theorem q1144 : (Jvm.Cond.methodLink "NailedOrdersModel" (131 : Nat) ({ cls := "NailedOrdersModel", name := "isForce", desc := "(I)Z" } : Jvm.MethodName)) ∈ lw_all := lw_g (lw_at lw_m5 125 rfl) rfl
theorem q1145 : (Jvm.Cond.static ({ cls := "NailedOrdersModel", name := "isForce", desc := "(I)Z" } : Jvm.MethodName)) ∈ lw_all := lw_g (lw_at lw_m5 126 rfl) rfl
theorem q1146 : (Jvm.Cond.code ({ cls := "NailedOrdersModel", name := "isForce", desc := "(I)Z" } : Jvm.MethodName) prog_9_method_31_code (1 : Nat) (Option.some Jvm.ClassFile.FieldType.boolean)) ∈ lw_all := lw_g (lw_at lw_m5 127 rfl) rfl
theorem q1147 : (Jvm.Cond.constantFloat "NailedOrdersModel" (123 : Nat) (1036831949 : UInt32)) ∈ lw_all := lw_g (lw_at lw_m5 128 rfl) rfl
theorem q1148 : (Jvm.Cond.constantFloat "NailedOrdersModel" (124 : Nat) (1092616192 : UInt32)) ∈ lw_all := lw_g (lw_at lw_m5 129 rfl) rfl
theorem q1149 : (Jvm.Cond.methodLink "NailedOrdersModel" (134 : Nat) ({ cls := "NailedOrdersModel", name := "allHang", desc := "()I" } : Jvm.MethodName)) ∈ lw_all := lw_g (lw_at lw_m5 130 rfl) rfl
theorem q1150 : (Jvm.Cond.privateMethod ({ cls := "NailedOrdersModel", name := "allHang", desc := "()I" } : Jvm.MethodName)) ∈ lw_tbl := lw_at lw_m5 131 rfl
theorem q1151 : (Jvm.Cond.instanceMethod ({ cls := "NailedOrdersModel", name := "allHang", desc := "()I" } : Jvm.MethodName)) ∈ lw_all := lw_g (lw_at lw_m5 132 rfl) rfl
theorem q1152 : (Jvm.Cond.code ({ cls := "NailedOrdersModel", name := "allHang", desc := "()I" } : Jvm.MethodName) prog_9_method_18_code (3 : Nat) (Option.some Jvm.ClassFile.FieldType.int)) ∈ lw_all := lw_g (lw_at lw_m5 133 rfl) rfl
theorem q1153 : (Jvm.Cond.methodLink "NailedOrdersModel" (49 : Nat) ({ cls := "NailedOrdersModel", name := "of", desc := "(II)I" } : Jvm.MethodName)) ∈ lw_all := lw_g (lw_at lw_m5 134 rfl) rfl
theorem q1154 : (Jvm.Cond.privateMethod ({ cls := "NailedOrdersModel", name := "of", desc := "(II)I" } : Jvm.MethodName)) ∈ lw_tbl := lw_at lw_m5 135 rfl
theorem q1155 : (Jvm.Cond.instanceMethod ({ cls := "NailedOrdersModel", name := "of", desc := "(II)I" } : Jvm.MethodName)) ∈ lw_all := lw_g (lw_at lw_m5 136 rfl) rfl
theorem q1156 : (Jvm.Cond.code ({ cls := "NailedOrdersModel", name := "of", desc := "(II)I" } : Jvm.MethodName) prog_9_method_4_code (3 : Nat) (Option.some Jvm.ClassFile.FieldType.int)) ∈ lw_all := lw_g (lw_at lw_m5 137 rfl) rfl
theorem q1158 : (Jvm.Cond.instanceMethod ({ cls := "NailedOrdersModel", name := "nailLink", desc := "(IIIIII)I" } : Jvm.MethodName)) ∈ lw_all := lw_g (lw_at lw_m5 139 rfl) rfl
theorem q1159 : (Jvm.Cond.selects "NailedOrdersModel" ({ cls := "NailedOrdersModel", name := "nailLink", desc := "(IIIIII)I" } : Jvm.MethodName) ({ cls := "NailedOrdersModel", name := "nailLink", desc := "(IIIIII)I" } : Jvm.MethodName)) ∈ lw_all := lw_g (lw_at lw_m5 140 rfl) rfl
theorem q1160 : (Jvm.Cond.code ({ cls := "NailedOrdersModel", name := "nailLink", desc := "(IIIIII)I" } : Jvm.MethodName) prog_9_method_35_code (8 : Nat) (Option.some Jvm.ClassFile.FieldType.int)) ∈ lw_all := lw_g (lw_at lw_m5 141 rfl) rfl
theorem q1162 : (Jvm.Cond.instanceMethod ({ cls := "NailedOrdersModel", name := "tear", desc := "(I)I" } : Jvm.MethodName)) ∈ lw_all := lw_g (lw_at lw_m5 143 rfl) rfl
theorem q1163 : (Jvm.Cond.selects "NailedOrdersModel" ({ cls := "NailedOrdersModel", name := "tear", desc := "(I)I" } : Jvm.MethodName) ({ cls := "NailedOrdersModel", name := "tear", desc := "(I)I" } : Jvm.MethodName)) ∈ lw_all := lw_g (lw_at lw_m5 144 rfl) rfl
theorem q1164 : (Jvm.Cond.code ({ cls := "NailedOrdersModel", name := "tear", desc := "(I)I" } : Jvm.MethodName) prog_9_method_36_code (2 : Nat) (Option.some Jvm.ClassFile.FieldType.int)) ∈ lw_all := lw_g (lw_at lw_m5 145 rfl) rfl
theorem q1165 : (Jvm.Cond.methodLink "NailedOrdersModel" (149 : Nat) ({ cls := "NailedOrdersModel", name := "isOrder", desc := "(I)Z" } : Jvm.MethodName)) ∈ lw_all := lw_g (lw_at lw_m5 146 rfl) rfl
theorem q1166 : (Jvm.Cond.privateMethod ({ cls := "NailedOrdersModel", name := "isOrder", desc := "(I)Z" } : Jvm.MethodName)) ∈ lw_tbl := lw_at lw_m5 147 rfl
theorem q1167 : (Jvm.Cond.instanceMethod ({ cls := "NailedOrdersModel", name := "isOrder", desc := "(I)Z" } : Jvm.MethodName)) ∈ lw_all := lw_g (lw_at lw_m5 148 rfl) rfl
theorem q1168 : (Jvm.Cond.code ({ cls := "NailedOrdersModel", name := "isOrder", desc := "(I)Z" } : Jvm.MethodName) prog_9_method_9_code (2 : Nat) (Option.some Jvm.ClassFile.FieldType.boolean)) ∈ lw_all := lw_g (lw_at lw_m5 149 rfl) rfl
theorem q1169 : (Jvm.Cond.methodLink "NailedOrdersModel" (57 : Nat) ({ cls := "NailedOrdersModel", name := "hangs", desc := "(I)Z" } : Jvm.MethodName)) ∈ lw_all := lw_g (lw_at lw_m5 150 rfl) rfl
theorem q1170 : (Jvm.Cond.privateMethod ({ cls := "NailedOrdersModel", name := "hangs", desc := "(I)Z" } : Jvm.MethodName)) ∈ lw_tbl := lw_at lw_m5 151 rfl
theorem q1171 : (Jvm.Cond.instanceMethod ({ cls := "NailedOrdersModel", name := "hangs", desc := "(I)Z" } : Jvm.MethodName)) ∈ lw_all := lw_g (lw_at lw_m5 152 rfl) rfl
theorem q1172 : (Jvm.Cond.code ({ cls := "NailedOrdersModel", name := "hangs", desc := "(I)Z" } : Jvm.MethodName) prog_9_method_10_code (2 : Nat) (Option.some Jvm.ClassFile.FieldType.boolean)) ∈ lw_all := lw_g (lw_at lw_m5 153 rfl) rfl
theorem q1173 : (Jvm.Cond.methodLink "NailedOrdersModel" (152 : Nat) ({ cls := "NailedOrdersModel", name := "many", desc := "(II)I" } : Jvm.MethodName)) ∈ lw_all := lw_g (lw_at lw_m5 154 rfl) rfl
theorem q1174 : (Jvm.Cond.privateMethod ({ cls := "NailedOrdersModel", name := "many", desc := "(II)I" } : Jvm.MethodName)) ∈ lw_tbl := lw_at lw_m5 155 rfl
theorem q1175 : (Jvm.Cond.instanceMethod ({ cls := "NailedOrdersModel", name := "many", desc := "(II)I" } : Jvm.MethodName)) ∈ lw_all := lw_g (lw_at lw_m5 156 rfl) rfl
theorem q1176 : (Jvm.Cond.code ({ cls := "NailedOrdersModel", name := "many", desc := "(II)I" } : Jvm.MethodName) prog_9_method_17_code (5 : Nat) (Option.some Jvm.ClassFile.FieldType.int)) ∈ lw_all := lw_g (lw_at lw_m5 157 rfl) rfl
theorem q1177 : (Jvm.Cond.methodLink "NailedOrdersModel" (66 : Nat) ({ cls := "NailedOrdersModel", name := "hangsFor", desc := "(II)Z" } : Jvm.MethodName)) ∈ lw_all := lw_g (lw_at lw_m5 158 rfl) rfl
theorem q1178 : (Jvm.Cond.privateMethod ({ cls := "NailedOrdersModel", name := "hangsFor", desc := "(II)Z" } : Jvm.MethodName)) ∈ lw_tbl := lw_at lw_m5 159 rfl
theorem q1179 : (Jvm.Cond.instanceMethod ({ cls := "NailedOrdersModel", name := "hangsFor", desc := "(II)Z" } : Jvm.MethodName)) ∈ lw_all := lw_g (lw_at lw_m5 160 rfl) rfl
theorem q1180 : (Jvm.Cond.code ({ cls := "NailedOrdersModel", name := "hangsFor", desc := "(II)Z" } : Jvm.MethodName) prog_9_method_11_code (3 : Nat) (Option.some Jvm.ClassFile.FieldType.boolean)) ∈ lw_all := lw_g (lw_at lw_m5 161 rfl) rfl
theorem q1182 : (Jvm.Cond.instanceMethod ({ cls := "NailedOrdersModel", name := "hammer", desc := "(I)I" } : Jvm.MethodName)) ∈ lw_all := lw_g (lw_at lw_m5 163 rfl) rfl
theorem q1183 : (Jvm.Cond.selects "NailedOrdersModel" ({ cls := "NailedOrdersModel", name := "hammer", desc := "(I)I" } : Jvm.MethodName) ({ cls := "NailedOrdersModel", name := "hammer", desc := "(I)I" } : Jvm.MethodName)) ∈ lw_all := lw_g (lw_at lw_m5 164 rfl) rfl
theorem q1184 : (Jvm.Cond.code ({ cls := "NailedOrdersModel", name := "hammer", desc := "(I)I" } : Jvm.MethodName) prog_9_method_39_code (3 : Nat) (Option.some Jvm.ClassFile.FieldType.int)) ∈ lw_all := lw_g (lw_at lw_m5 165 rfl) rfl
theorem q1185 : (Jvm.Cond.methodLink "NailedOrdersModel" (77 : Nat) ({ cls := "NailedOrdersModel", name := "realOf", desc := "(II)F" } : Jvm.MethodName)) ∈ lw_all := lw_g (lw_at lw_m5 166 rfl) rfl
theorem q1186 : (Jvm.Cond.privateMethod ({ cls := "NailedOrdersModel", name := "realOf", desc := "(II)F" } : Jvm.MethodName)) ∈ lw_tbl := lw_at lw_m5 167 rfl
theorem q1187 : (Jvm.Cond.instanceMethod ({ cls := "NailedOrdersModel", name := "realOf", desc := "(II)F" } : Jvm.MethodName)) ∈ lw_all := lw_g (lw_at lw_m5 168 rfl) rfl
theorem q1188 : (Jvm.Cond.code ({ cls := "NailedOrdersModel", name := "realOf", desc := "(II)F" } : Jvm.MethodName) prog_9_method_6_code (3 : Nat) (Option.some Jvm.ClassFile.FieldType.float)) ∈ lw_all := lw_g (lw_at lw_m5 169 rfl) rfl
theorem q1189 : (Jvm.Cond.constantFloat "NailedOrdersModel" (155 : Nat) (1056964608 : UInt32)) ∈ lw_all := lw_g (lw_at lw_m5 170 rfl) rfl
theorem q1190 : (Jvm.Cond.methodLink "NailedOrdersModel" (156 : Nat) ({ cls := "NailedOrdersModel", name := "beStrong", desc := "(IF)V" } : Jvm.MethodName)) ∈ lw_all := lw_g (lw_at lw_m5 171 rfl) rfl
theorem q1191 : (Jvm.Cond.privateMethod ({ cls := "NailedOrdersModel", name := "beStrong", desc := "(IF)V" } : Jvm.MethodName)) ∈ lw_tbl := lw_at lw_m5 172 rfl
theorem q1192 : (Jvm.Cond.instanceMethod ({ cls := "NailedOrdersModel", name := "beStrong", desc := "(IF)V" } : Jvm.MethodName)) ∈ lw_all := lw_g (lw_at lw_m5 173 rfl) rfl
theorem q1193 : (Jvm.Cond.code ({ cls := "NailedOrdersModel", name := "beStrong", desc := "(IF)V" } : Jvm.MethodName) prog_9_method_38_code (3 : Nat) (Option.none : Option Jvm.ClassFile.FieldType)) ∈ lw_all := lw_g (lw_at lw_m5 174 rfl) rfl
theorem q1194 : (Jvm.Cond.methodLink "NailedOrdersModel" (160 : Nat) ({ cls := "NailedOrdersModel", name := "hundredths", desc := "(I)I" } : Jvm.MethodName)) ∈ lw_all := lw_g (lw_at lw_m5 175 rfl) rfl
theorem q1195 : (Jvm.Cond.privateMethod ({ cls := "NailedOrdersModel", name := "hundredths", desc := "(I)I" } : Jvm.MethodName)) ∈ lw_tbl := lw_at lw_m5 176 rfl
theorem q1196 : (Jvm.Cond.instanceMethod ({ cls := "NailedOrdersModel", name := "hundredths", desc := "(I)I" } : Jvm.MethodName)) ∈ lw_all := lw_g (lw_at lw_m5 177 rfl) rfl
theorem q1197 : (Jvm.Cond.code ({ cls := "NailedOrdersModel", name := "hundredths", desc := "(I)I" } : Jvm.MethodName) prog_9_method_37_code (2 : Nat) (Option.some Jvm.ClassFile.FieldType.int)) ∈ lw_all := lw_g (lw_at lw_m5 178 rfl) rfl
theorem q1199 : (Jvm.Cond.instanceMethod ({ cls := "NailedOrdersModel", name := "storm", desc := "(I)I" } : Jvm.MethodName)) ∈ lw_all := lw_g (lw_at lw_m5 180 rfl) rfl
theorem q1200 : (Jvm.Cond.selects "NailedOrdersModel" ({ cls := "NailedOrdersModel", name := "storm", desc := "(I)I" } : Jvm.MethodName) ({ cls := "NailedOrdersModel", name := "storm", desc := "(I)I" } : Jvm.MethodName)) ∈ lw_all := lw_g (lw_at lw_m5 181 rfl) rfl
theorem q1201 : (Jvm.Cond.code ({ cls := "NailedOrdersModel", name := "storm", desc := "(I)I" } : Jvm.MethodName) prog_9_method_41_code (2 : Nat) (Option.some Jvm.ClassFile.FieldType.int)) ∈ lw_all := lw_g (lw_at lw_m5 182 rfl) rfl
theorem q1202 : (Jvm.Cond.methodLink "NailedOrdersModel" (163 : Nat) ({ cls := "NailedOrdersModel", name := "storms", desc := "(F)I" } : Jvm.MethodName)) ∈ lw_all := lw_g (lw_at lw_m5 183 rfl) rfl
theorem q1203 : (Jvm.Cond.privateMethod ({ cls := "NailedOrdersModel", name := "storms", desc := "(F)I" } : Jvm.MethodName)) ∈ lw_tbl := lw_at lw_m5 184 rfl
theorem q1204 : (Jvm.Cond.instanceMethod ({ cls := "NailedOrdersModel", name := "storms", desc := "(F)I" } : Jvm.MethodName)) ∈ lw_all := lw_g (lw_at lw_m5 185 rfl) rfl
theorem q1205 : (Jvm.Cond.code ({ cls := "NailedOrdersModel", name := "storms", desc := "(F)I" } : Jvm.MethodName) prog_9_method_40_code (4 : Nat) (Option.some Jvm.ClassFile.FieldType.int)) ∈ lw_all := lw_g (lw_at lw_m5 186 rfl) rfl
theorem q1207 : (Jvm.Cond.instanceMethod ({ cls := "NailedOrdersModel", name := "type", desc := "(C)I" } : Jvm.MethodName)) ∈ lw_all := lw_g (lw_at lw_m5 188 rfl) rfl
theorem q1208 : (Jvm.Cond.selects "NailedOrdersModel" ({ cls := "NailedOrdersModel", name := "type", desc := "(C)I" } : Jvm.MethodName) ({ cls := "NailedOrdersModel", name := "type", desc := "(C)I" } : Jvm.MethodName)) ∈ lw_all := lw_g (lw_at lw_m5 189 rfl) rfl
theorem q1209 : (Jvm.Cond.code ({ cls := "NailedOrdersModel", name := "type", desc := "(C)I" } : Jvm.MethodName) prog_9_method_42_code (2 : Nat) (Option.some Jvm.ClassFile.FieldType.int)) ∈ lw_all := lw_g (lw_at lw_m5 190 rfl) rfl
theorem q1211 : (Jvm.Cond.instanceMethod ({ cls := "NailedOrdersModel", name := "clearText", desc := "()I" } : Jvm.MethodName)) ∈ lw_all := lw_g (lw_at lw_m5 192 rfl) rfl
theorem q1212 : (Jvm.Cond.selects "NailedOrdersModel" ({ cls := "NailedOrdersModel", name := "clearText", desc := "()I" } : Jvm.MethodName) ({ cls := "NailedOrdersModel", name := "clearText", desc := "()I" } : Jvm.MethodName)) ∈ lw_all := lw_g (lw_at lw_m5 193 rfl) rfl
theorem q1213 : (Jvm.Cond.code ({ cls := "NailedOrdersModel", name := "clearText", desc := "()I" } : Jvm.MethodName) prog_9_method_43_code (2 : Nat) (Option.some Jvm.ClassFile.FieldType.int)) ∈ lw_all := lw_g (lw_at lw_m5 194 rfl) rfl
theorem q1215 : (Jvm.Cond.instanceMethod ({ cls := "NailedOrdersModel", name := "readOrders", desc := "(II)I" } : Jvm.MethodName)) ∈ lw_all := lw_g (lw_at lw_m5 196 rfl) rfl
theorem q1216 : (Jvm.Cond.selects "NailedOrdersModel" ({ cls := "NailedOrdersModel", name := "readOrders", desc := "(II)I" } : Jvm.MethodName) ({ cls := "NailedOrdersModel", name := "readOrders", desc := "(II)I" } : Jvm.MethodName)) ∈ lw_all := lw_g (lw_at lw_m5 197 rfl) rfl
theorem q1217 : (Jvm.Cond.code ({ cls := "NailedOrdersModel", name := "readOrders", desc := "(II)I" } : Jvm.MethodName) prog_9_method_51_code (7 : Nat) (Option.some Jvm.ClassFile.FieldType.int)) ∈ lw_all := lw_g (lw_at lw_m5 198 rfl) rfl
theorem q1218 : (Jvm.Cond.methodLink "NailedOrdersModel" (191 : Nat) ({ cls := "NailedOrdersModel", name := "tell", desc := "(I)V" } : Jvm.MethodName)) ∈ lw_all := lw_g (lw_at lw_m5 199 rfl) rfl
theorem q1219 : (Jvm.Cond.privateMethod ({ cls := "NailedOrdersModel", name := "tell", desc := "(I)V" } : Jvm.MethodName)) ∈ lw_tbl := lw_at lw_m5 200 rfl
theorem q1220 : (Jvm.Cond.instanceMethod ({ cls := "NailedOrdersModel", name := "tell", desc := "(I)V" } : Jvm.MethodName)) ∈ lw_all := lw_g (lw_at lw_m5 201 rfl) rfl
theorem q1221 : (Jvm.Cond.code ({ cls := "NailedOrdersModel", name := "tell", desc := "(I)V" } : Jvm.MethodName) prog_9_method_49_code (2 : Nat) (Option.none : Option Jvm.ClassFile.FieldType)) ∈ lw_all := lw_g (lw_at lw_m5 202 rfl) rfl
theorem q1222 : (Jvm.Cond.methodLink "NailedOrdersModel" (185 : Nat) ({ cls := "NailedOrdersModel", name := "wordHere", desc := "()I" } : Jvm.MethodName)) ∈ lw_all := lw_g (lw_at lw_m5 203 rfl) rfl
theorem q1223 : (Jvm.Cond.privateMethod ({ cls := "NailedOrdersModel", name := "wordHere", desc := "()I" } : Jvm.MethodName)) ∈ lw_tbl := lw_at lw_m5 204 rfl
theorem q1224 : (Jvm.Cond.instanceMethod ({ cls := "NailedOrdersModel", name := "wordHere", desc := "()I" } : Jvm.MethodName)) ∈ lw_all := lw_g (lw_at lw_m5 205 rfl) rfl
theorem q1225 : (Jvm.Cond.code ({ cls := "NailedOrdersModel", name := "wordHere", desc := "()I" } : Jvm.MethodName) prog_9_method_48_code (1 : Nat) (Option.some Jvm.ClassFile.FieldType.int)) ∈ lw_all := lw_g (lw_at lw_m5 206 rfl) rfl
theorem q1226 : (Jvm.Cond.methodLink "NailedOrdersModel" (175 : Nat) ({ cls := "NailedOrdersModel", name := "look", desc := "()I" } : Jvm.MethodName)) ∈ lw_all := lw_g (lw_at lw_m5 207 rfl) rfl
theorem q1227 : (Jvm.Cond.privateMethod ({ cls := "NailedOrdersModel", name := "look", desc := "()I" } : Jvm.MethodName)) ∈ lw_tbl := lw_at lw_m5 208 rfl
theorem q1228 : (Jvm.Cond.instanceMethod ({ cls := "NailedOrdersModel", name := "look", desc := "()I" } : Jvm.MethodName)) ∈ lw_all := lw_g (lw_at lw_m5 209 rfl) rfl
theorem q1229 : (Jvm.Cond.code ({ cls := "NailedOrdersModel", name := "look", desc := "()I" } : Jvm.MethodName) prog_9_method_44_code (1 : Nat) (Option.some Jvm.ClassFile.FieldType.int)) ∈ lw_all := lw_g (lw_at lw_m5 210 rfl) rfl
theorem q1230 : (Jvm.Cond.methodLink "NailedOrdersModel" (178 : Nat) ({ cls := "NailedOrdersModel", name := "must", desc := "(Z)V" } : Jvm.MethodName)) ∈ lw_all := lw_g (lw_at lw_m5 211 rfl) rfl
theorem q1231 : (Jvm.Cond.privateMethod ({ cls := "NailedOrdersModel", name := "must", desc := "(Z)V" } : Jvm.MethodName)) ∈ lw_tbl := lw_at lw_m5 212 rfl
theorem q1232 : (Jvm.Cond.instanceMethod ({ cls := "NailedOrdersModel", name := "must", desc := "(Z)V" } : Jvm.MethodName)) ∈ lw_all := lw_g (lw_at lw_m5 213 rfl) rfl
theorem q1233 : (Jvm.Cond.code ({ cls := "NailedOrdersModel", name := "must", desc := "(Z)V" } : Jvm.MethodName) prog_9_method_45_code (2 : Nat) (Option.none : Option Jvm.ClassFile.FieldType)) ∈ lw_all := lw_g (lw_at lw_m5 214 rfl) rfl
theorem q1234 : (Jvm.Cond.methodLink "NailedOrdersModel" (182 : Nat) ({ cls := "NailedOrdersModel", name := "digits", desc := "(I)I" } : Jvm.MethodName)) ∈ lw_all := lw_g (lw_at lw_m5 215 rfl) rfl
theorem q1235 : (Jvm.Cond.privateMethod ({ cls := "NailedOrdersModel", name := "digits", desc := "(I)I" } : Jvm.MethodName)) ∈ lw_tbl := lw_at lw_m5 216 rfl
theorem q1236 : (Jvm.Cond.instanceMethod ({ cls := "NailedOrdersModel", name := "digits", desc := "(I)I" } : Jvm.MethodName)) ∈ lw_all := lw_g (lw_at lw_m5 217 rfl) rfl
theorem q1237 : (Jvm.Cond.code ({ cls := "NailedOrdersModel", name := "digits", desc := "(I)I" } : Jvm.MethodName) prog_9_method_46_code (4 : Nat) (Option.some Jvm.ClassFile.FieldType.int)) ∈ lw_all := lw_g (lw_at lw_m5 218 rfl) rfl
theorem q1238 : (Jvm.Cond.methodLink "NailedOrdersModel" (188 : Nat) ({ cls := "NailedOrdersModel", name := "tenths", desc := "()I" } : Jvm.MethodName)) ∈ lw_all := lw_g (lw_at lw_m5 219 rfl) rfl
theorem q1239 : (Jvm.Cond.privateMethod ({ cls := "NailedOrdersModel", name := "tenths", desc := "()I" } : Jvm.MethodName)) ∈ lw_tbl := lw_at lw_m5 220 rfl
theorem q1240 : (Jvm.Cond.instanceMethod ({ cls := "NailedOrdersModel", name := "tenths", desc := "()I" } : Jvm.MethodName)) ∈ lw_all := lw_g (lw_at lw_m5 221 rfl) rfl
theorem q1241 : (Jvm.Cond.code ({ cls := "NailedOrdersModel", name := "tenths", desc := "()I" } : Jvm.MethodName) prog_9_method_47_code (4 : Nat) (Option.some Jvm.ClassFile.FieldType.int)) ∈ lw_all := lw_g (lw_at lw_m5 222 rfl) rfl
theorem q1242 : (Jvm.Cond.methodLink "NailedOrdersModel" (195 : Nat) ({ cls := "NailedOrdersModel", name := "bitsOf", desc := "(I)I" } : Jvm.MethodName)) ∈ lw_all := lw_g (lw_at lw_m5 223 rfl) rfl
theorem q1243 : (Jvm.Cond.static ({ cls := "NailedOrdersModel", name := "bitsOf", desc := "(I)I" } : Jvm.MethodName)) ∈ lw_all := lw_g (lw_at lw_m5 224 rfl) rfl
theorem q1244 : (Jvm.Cond.code ({ cls := "NailedOrdersModel", name := "bitsOf", desc := "(I)I" } : Jvm.MethodName) prog_9_method_50_code (1 : Nat) (Option.some Jvm.ClassFile.FieldType.int)) ∈ lw_all := lw_g (lw_at lw_m5 225 rfl) rfl
theorem q1245 : (Jvm.Cond.methodLink "NailedOrdersModel" (198 : Nat) ({ cls := "NailedOrdersModel", name := "putBack", desc := "()V" } : Jvm.MethodName)) ∈ lw_all := lw_g (lw_at lw_m5 226 rfl) rfl
theorem q1246 : (Jvm.Cond.privateMethod ({ cls := "NailedOrdersModel", name := "putBack", desc := "()V" } : Jvm.MethodName)) ∈ lw_tbl := lw_at lw_m5 227 rfl
theorem q1247 : (Jvm.Cond.instanceMethod ({ cls := "NailedOrdersModel", name := "putBack", desc := "()V" } : Jvm.MethodName)) ∈ lw_all := lw_g (lw_at lw_m5 228 rfl) rfl
theorem q1248 : (Jvm.Cond.code ({ cls := "NailedOrdersModel", name := "putBack", desc := "()V" } : Jvm.MethodName) prog_9_method_15_code (2 : Nat) (Option.none : Option Jvm.ClassFile.FieldType)) ∈ lw_all := lw_g (lw_at lw_m5 229 rfl) rfl
theorem q1250 : (Jvm.Cond.instanceMethod ({ cls := "NailedOrdersModel", name := "undo", desc := "()I" } : Jvm.MethodName)) ∈ lw_all := lw_g (lw_at lw_m5 231 rfl) rfl
theorem q1251 : (Jvm.Cond.selects "NailedOrdersModel" ({ cls := "NailedOrdersModel", name := "undo", desc := "()I" } : Jvm.MethodName) ({ cls := "NailedOrdersModel", name := "undo", desc := "()I" } : Jvm.MethodName)) ∈ lw_all := lw_g (lw_at lw_m5 232 rfl) rfl
theorem q1252 : (Jvm.Cond.code ({ cls := "NailedOrdersModel", name := "undo", desc := "()I" } : Jvm.MethodName) prog_9_method_52_code (2 : Nat) (Option.some Jvm.ClassFile.FieldType.int)) ∈ lw_all := lw_g (lw_at lw_m5 233 rfl) rfl
theorem q1254 : (Jvm.Cond.instanceMethod ({ cls := "NailedOrdersModel", name := "keep", desc := "()I" } : Jvm.MethodName)) ∈ lw_all := lw_g (lw_at lw_m5 235 rfl) rfl
theorem q1255 : (Jvm.Cond.selects "NailedOrdersModel" ({ cls := "NailedOrdersModel", name := "keep", desc := "()I" } : Jvm.MethodName) ({ cls := "NailedOrdersModel", name := "keep", desc := "()I" } : Jvm.MethodName)) ∈ lw_all := lw_g (lw_at lw_m5 236 rfl) rfl
theorem q1256 : (Jvm.Cond.code ({ cls := "NailedOrdersModel", name := "keep", desc := "()I" } : Jvm.MethodName) prog_9_method_53_code (2 : Nat) (Option.some Jvm.ClassFile.FieldType.int)) ∈ lw_all := lw_g (lw_at lw_m5 237 rfl) rfl
theorem q1258 : (Jvm.Cond.instanceMethod ({ cls := "NailedOrdersModel", name := "restore", desc := "()I" } : Jvm.MethodName)) ∈ lw_all := lw_g (lw_at lw_m5 239 rfl) rfl
theorem q1259 : (Jvm.Cond.selects "NailedOrdersModel" ({ cls := "NailedOrdersModel", name := "restore", desc := "()I" } : Jvm.MethodName) ({ cls := "NailedOrdersModel", name := "restore", desc := "()I" } : Jvm.MethodName)) ∈ lw_all := lw_g (lw_at lw_m6 0 rfl) rfl
theorem q1260 : (Jvm.Cond.code ({ cls := "NailedOrdersModel", name := "restore", desc := "()I" } : Jvm.MethodName) prog_9_method_54_code (2 : Nat) (Option.some Jvm.ClassFile.FieldType.int)) ∈ lw_all := lw_g (lw_at lw_m6 1 rfl) rfl
theorem q1262 : (Jvm.Cond.instanceMethod ({ cls := "NailedOrdersModel", name := "value", desc := "(I)F" } : Jvm.MethodName)) ∈ lw_all := lw_g (lw_at lw_m6 3 rfl) rfl
theorem q1263 : (Jvm.Cond.selects "NailedOrdersModel" ({ cls := "NailedOrdersModel", name := "value", desc := "(I)F" } : Jvm.MethodName) ({ cls := "NailedOrdersModel", name := "value", desc := "(I)F" } : Jvm.MethodName)) ∈ lw_all := lw_g (lw_at lw_m6 4 rfl) rfl
theorem q1264 : (Jvm.Cond.code ({ cls := "NailedOrdersModel", name := "value", desc := "(I)F" } : Jvm.MethodName) prog_9_method_55_code (3 : Nat) (Option.some Jvm.ClassFile.FieldType.float)) ∈ lw_all := lw_g (lw_at lw_m6 5 rfl) rfl
theorem q1265 : (Jvm.Cond.constantFloat "NailedOrdersModel" (204 : Nat) (2143289344 : UInt32)) ∈ lw_all := lw_g (lw_at lw_m6 6 rfl) rfl
theorem q1266 : (Jvm.Cond.methodLink "NailedOrdersModel" (94 : Nat) ({ cls := "NailedOrdersModel", name := "valueBy", desc := "(I)F" } : Jvm.MethodName)) ∈ lw_all := lw_g (lw_at lw_m6 7 rfl) rfl
theorem q1267 : (Jvm.Cond.privateMethod ({ cls := "NailedOrdersModel", name := "valueBy", desc := "(I)F" } : Jvm.MethodName)) ∈ lw_tbl := lw_at lw_m6 8 rfl
theorem q1268 : (Jvm.Cond.instanceMethod ({ cls := "NailedOrdersModel", name := "valueBy", desc := "(I)F" } : Jvm.MethodName)) ∈ lw_all := lw_g (lw_at lw_m6 9 rfl) rfl
theorem q1269 : (Jvm.Cond.code ({ cls := "NailedOrdersModel", name := "valueBy", desc := "(I)F" } : Jvm.MethodName) prog_9_method_22_code (5 : Nat) (Option.some Jvm.ClassFile.FieldType.float)) ∈ lw_all := lw_g (lw_at lw_m6 10 rfl) rfl
theorem q1270 : (Jvm.Cond.methodLink "NailedOrdersModel" (87 : Nat) ({ cls := "NailedOrdersModel", name := "lays", desc := "(I)I" } : Jvm.MethodName)) ∈ lw_all := lw_g (lw_at lw_m6 11 rfl) rfl
theorem q1271 : (Jvm.Cond.privateMethod ({ cls := "NailedOrdersModel", name := "lays", desc := "(I)I" } : Jvm.MethodName)) ∈ lw_tbl := lw_at lw_m6 12 rfl
theorem q1272 : (Jvm.Cond.instanceMethod ({ cls := "NailedOrdersModel", name := "lays", desc := "(I)I" } : Jvm.MethodName)) ∈ lw_all := lw_g (lw_at lw_m6 13 rfl) rfl
theorem q1273 : (Jvm.Cond.code ({ cls := "NailedOrdersModel", name := "lays", desc := "(I)I" } : Jvm.MethodName) prog_9_method_20_code (4 : Nat) (Option.some Jvm.ClassFile.FieldType.int)) ∈ lw_all := lw_g (lw_at lw_m6 14 rfl) rfl
theorem q1274 : (Jvm.Cond.methodLink "NailedOrdersModel" (74 : Nat) ({ cls := "NailedOrdersModel", name := "ruling", desc := "(I)I" } : Jvm.MethodName)) ∈ lw_all := lw_g (lw_at lw_m6 15 rfl) rfl
theorem q1275 : (Jvm.Cond.privateMethod ({ cls := "NailedOrdersModel", name := "ruling", desc := "(I)I" } : Jvm.MethodName)) ∈ lw_tbl := lw_at lw_m6 16 rfl
theorem q1276 : (Jvm.Cond.instanceMethod ({ cls := "NailedOrdersModel", name := "ruling", desc := "(I)I" } : Jvm.MethodName)) ∈ lw_all := lw_g (lw_at lw_m6 17 rfl) rfl
theorem q1277 : (Jvm.Cond.code ({ cls := "NailedOrdersModel", name := "ruling", desc := "(I)I" } : Jvm.MethodName) prog_9_method_19_code (4 : Nat) (Option.some Jvm.ClassFile.FieldType.int)) ∈ lw_all := lw_g (lw_at lw_m6 18 rfl) rfl
theorem q1278 : (Jvm.Cond.methodLink "NailedOrdersModel" (70 : Nat) ({ cls := "NailedOrdersModel", name := "rankOf", desc := "(I)I" } : Jvm.MethodName)) ∈ lw_all := lw_g (lw_at lw_m6 19 rfl) rfl
theorem q1279 : (Jvm.Cond.privateMethod ({ cls := "NailedOrdersModel", name := "rankOf", desc := "(I)I" } : Jvm.MethodName)) ∈ lw_tbl := lw_at lw_m6 20 rfl
theorem q1280 : (Jvm.Cond.instanceMethod ({ cls := "NailedOrdersModel", name := "rankOf", desc := "(I)I" } : Jvm.MethodName)) ∈ lw_all := lw_g (lw_at lw_m6 21 rfl) rfl
theorem q1281 : (Jvm.Cond.code ({ cls := "NailedOrdersModel", name := "rankOf", desc := "(I)I" } : Jvm.MethodName) prog_9_method_12_code (2 : Nat) (Option.some Jvm.ClassFile.FieldType.int)) ∈ lw_all := lw_g (lw_at lw_m6 22 rfl) rfl
theorem q1282 : (Jvm.Cond.methodLink "NailedOrdersModel" (90 : Nat) ({ cls := "NailedOrdersModel", name := "by", desc := "(IF)F" } : Jvm.MethodName)) ∈ lw_all := lw_g (lw_at lw_m6 23 rfl) rfl
theorem q1283 : (Jvm.Cond.privateMethod ({ cls := "NailedOrdersModel", name := "by", desc := "(IF)F" } : Jvm.MethodName)) ∈ lw_tbl := lw_at lw_m6 24 rfl
theorem q1284 : (Jvm.Cond.instanceMethod ({ cls := "NailedOrdersModel", name := "by", desc := "(IF)F" } : Jvm.MethodName)) ∈ lw_all := lw_g (lw_at lw_m6 25 rfl) rfl
theorem q1285 : (Jvm.Cond.code ({ cls := "NailedOrdersModel", name := "by", desc := "(IF)F" } : Jvm.MethodName) prog_9_method_21_code (4 : Nat) (Option.some Jvm.ClassFile.FieldType.float)) ∈ lw_all := lw_g (lw_at lw_m6 26 rfl) rfl
theorem q1286 : (Jvm.Cond.constantFloat "NailedOrdersModel" (81 : Nat) (3463342888 : UInt32)) ∈ lw_all := lw_g (lw_at lw_m6 27 rfl) rfl
theorem q1287 : (Jvm.Cond.constantFloat "NailedOrdersModel" (82 : Nat) (1315859240 : UInt32)) ∈ lw_all := lw_g (lw_at lw_m6 28 rfl) rfl
theorem q1289 : (Jvm.Cond.instanceMethod ({ cls := "NailedOrdersModel", name := "valueOf", desc := "(I)F" } : Jvm.MethodName)) ∈ lw_all := lw_g (lw_at lw_m6 30 rfl) rfl
theorem q1290 : (Jvm.Cond.selects "NailedOrdersModel" ({ cls := "NailedOrdersModel", name := "valueOf", desc := "(I)F" } : Jvm.MethodName) ({ cls := "NailedOrdersModel", name := "valueOf", desc := "(I)F" } : Jvm.MethodName)) ∈ lw_all := lw_g (lw_at lw_m6 31 rfl) rfl
theorem q1291 : (Jvm.Cond.code ({ cls := "NailedOrdersModel", name := "valueOf", desc := "(I)F" } : Jvm.MethodName) prog_9_method_56_code (3 : Nat) (Option.some Jvm.ClassFile.FieldType.float)) ∈ lw_all := lw_g (lw_at lw_m6 32 rfl) rfl
theorem q1292 : (Jvm.Cond.methodLink "NailedOrdersModel" (100 : Nat) ({ cls := "NailedOrdersModel", name := "valueOfOrder", desc := "(I)F" } : Jvm.MethodName)) ∈ lw_all := lw_g (lw_at lw_m6 33 rfl) rfl
theorem q1293 : (Jvm.Cond.privateMethod ({ cls := "NailedOrdersModel", name := "valueOfOrder", desc := "(I)F" } : Jvm.MethodName)) ∈ lw_tbl := lw_at lw_m6 34 rfl
theorem q1294 : (Jvm.Cond.instanceMethod ({ cls := "NailedOrdersModel", name := "valueOfOrder", desc := "(I)F" } : Jvm.MethodName)) ∈ lw_all := lw_g (lw_at lw_m6 35 rfl) rfl
theorem q1295 : (Jvm.Cond.code ({ cls := "NailedOrdersModel", name := "valueOfOrder", desc := "(I)F" } : Jvm.MethodName) prog_9_method_23_code (3 : Nat) (Option.some Jvm.ClassFile.FieldType.float)) ∈ lw_all := lw_g (lw_at lw_m6 36 rfl) rfl
theorem q1297 : (Jvm.Cond.instanceMethod ({ cls := "NailedOrdersModel", name := "word", desc := "(II)I" } : Jvm.MethodName)) ∈ lw_all := lw_g (lw_at lw_m6 38 rfl) rfl
theorem q1298 : (Jvm.Cond.selects "NailedOrdersModel" ({ cls := "NailedOrdersModel", name := "word", desc := "(II)I" } : Jvm.MethodName) ({ cls := "NailedOrdersModel", name := "word", desc := "(II)I" } : Jvm.MethodName)) ∈ lw_all := lw_g (lw_at lw_m6 39 rfl) rfl
theorem q1299 : (Jvm.Cond.code ({ cls := "NailedOrdersModel", name := "word", desc := "(II)I" } : Jvm.MethodName) prog_9_method_60_code (3 : Nat) (Option.some Jvm.ClassFile.FieldType.int)) ∈ lw_all := lw_g (lw_at lw_m6 40 rfl) rfl
theorem q1300 : (Jvm.Cond.methodLink "NailedOrdersModel" (208 : Nat) ({ cls := "NailedOrdersModel", name := "top", desc := "(I)I" } : Jvm.MethodName)) ∈ lw_all := lw_g (lw_at lw_m6 41 rfl) rfl
theorem q1301 : (Jvm.Cond.privateMethod ({ cls := "NailedOrdersModel", name := "top", desc := "(I)I" } : Jvm.MethodName)) ∈ lw_tbl := lw_at lw_m6 42 rfl
theorem q1302 : (Jvm.Cond.instanceMethod ({ cls := "NailedOrdersModel", name := "top", desc := "(I)I" } : Jvm.MethodName)) ∈ lw_all := lw_g (lw_at lw_m6 43 rfl) rfl
theorem q1303 : (Jvm.Cond.code ({ cls := "NailedOrdersModel", name := "top", desc := "(I)I" } : Jvm.MethodName) prog_9_method_57_code (4 : Nat) (Option.some Jvm.ClassFile.FieldType.int)) ∈ lw_all := lw_g (lw_at lw_m6 44 rfl) rfl
theorem q1304 : (Jvm.Cond.methodLink "NailedOrdersModel" (211 : Nat) ({ cls := "NailedOrdersModel", name := "hasValue", desc := "(I)Z" } : Jvm.MethodName)) ∈ lw_all := lw_g (lw_at lw_m6 45 rfl) rfl
theorem q1305 : (Jvm.Cond.privateMethod ({ cls := "NailedOrdersModel", name := "hasValue", desc := "(I)Z" } : Jvm.MethodName)) ∈ lw_tbl := lw_at lw_m6 46 rfl
theorem q1306 : (Jvm.Cond.instanceMethod ({ cls := "NailedOrdersModel", name := "hasValue", desc := "(I)Z" } : Jvm.MethodName)) ∈ lw_all := lw_g (lw_at lw_m6 47 rfl) rfl
theorem q1307 : (Jvm.Cond.code ({ cls := "NailedOrdersModel", name := "hasValue", desc := "(I)Z" } : Jvm.MethodName) prog_9_method_58_code (2 : Nat) (Option.some Jvm.ClassFile.FieldType.boolean)) ∈ lw_all := lw_g (lw_at lw_m6 48 rfl) rfl
theorem q1308 : (Jvm.Cond.methodLink "NailedOrdersModel" (214 : Nat) ({ cls := "NailedOrdersModel", name := "conflict", desc := "(I)I" } : Jvm.MethodName)) ∈ lw_all := lw_g (lw_at lw_m6 49 rfl) rfl
theorem q1309 : (Jvm.Cond.privateMethod ({ cls := "NailedOrdersModel", name := "conflict", desc := "(I)I" } : Jvm.MethodName)) ∈ lw_tbl := lw_at lw_m6 50 rfl
theorem q1310 : (Jvm.Cond.instanceMethod ({ cls := "NailedOrdersModel", name := "conflict", desc := "(I)I" } : Jvm.MethodName)) ∈ lw_all := lw_g (lw_at lw_m6 51 rfl) rfl
theorem q1311 : (Jvm.Cond.code ({ cls := "NailedOrdersModel", name := "conflict", desc := "(I)I" } : Jvm.MethodName) prog_9_method_25_code (7 : Nat) (Option.some Jvm.ClassFile.FieldType.int)) ∈ lw_all := lw_g (lw_at lw_m6 52 rfl) rfl
theorem q1312 : (Jvm.Cond.methodLink "NailedOrdersModel" (103 : Nat) ({ cls := "NailedOrdersModel", name := "differ", desc := "(ZFZF)Z" } : Jvm.MethodName)) ∈ lw_all := lw_g (lw_at lw_m6 53 rfl) rfl
theorem q1313 : (Jvm.Cond.privateMethod ({ cls := "NailedOrdersModel", name := "differ", desc := "(ZFZF)Z" } : Jvm.MethodName)) ∈ lw_tbl := lw_at lw_m6 54 rfl
theorem q1314 : (Jvm.Cond.instanceMethod ({ cls := "NailedOrdersModel", name := "differ", desc := "(ZFZF)Z" } : Jvm.MethodName)) ∈ lw_all := lw_g (lw_at lw_m6 55 rfl) rfl
theorem q1315 : (Jvm.Cond.code ({ cls := "NailedOrdersModel", name := "differ", desc := "(ZFZF)Z" } : Jvm.MethodName) prog_9_method_24_code (6 : Nat) (Option.some Jvm.ClassFile.FieldType.boolean)) ∈ lw_all := lw_g (lw_at lw_m6 56 rfl) rfl
theorem q1316 : (Jvm.Cond.methodLink "NailedOrdersModel" (97 : Nat) ({ cls := "NailedOrdersModel", name := "amountAt", desc := "(I)F" } : Jvm.MethodName)) ∈ lw_all := lw_g (lw_at lw_m6 57 rfl) rfl
theorem q1317 : (Jvm.Cond.privateMethod ({ cls := "NailedOrdersModel", name := "amountAt", desc := "(I)F" } : Jvm.MethodName)) ∈ lw_tbl := lw_at lw_m6 58 rfl
theorem q1318 : (Jvm.Cond.instanceMethod ({ cls := "NailedOrdersModel", name := "amountAt", desc := "(I)F" } : Jvm.MethodName)) ∈ lw_all := lw_g (lw_at lw_m6 59 rfl) rfl
theorem q1319 : (Jvm.Cond.code ({ cls := "NailedOrdersModel", name := "amountAt", desc := "(I)F" } : Jvm.MethodName) prog_9_method_5_code (2 : Nat) (Option.some Jvm.ClassFile.FieldType.float)) ∈ lw_all := lw_g (lw_at lw_m6 60 rfl) rfl
theorem q1320 : (Jvm.Cond.methodLink "NailedOrdersModel" (217 : Nat) ({ cls := "NailedOrdersModel", name := "dependents", desc := "(I)I" } : Jvm.MethodName)) ∈ lw_all := lw_g (lw_at lw_m6 61 rfl) rfl
theorem q1321 : (Jvm.Cond.privateMethod ({ cls := "NailedOrdersModel", name := "dependents", desc := "(I)I" } : Jvm.MethodName)) ∈ lw_tbl := lw_at lw_m6 62 rfl
theorem q1322 : (Jvm.Cond.instanceMethod ({ cls := "NailedOrdersModel", name := "dependents", desc := "(I)I" } : Jvm.MethodName)) ∈ lw_all := lw_g (lw_at lw_m6 63 rfl) rfl
theorem q1323 : (Jvm.Cond.code ({ cls := "NailedOrdersModel", name := "dependents", desc := "(I)I" } : Jvm.MethodName) prog_9_method_59_code (4 : Nat) (Option.some Jvm.ClassFile.FieldType.int)) ∈ lw_all := lw_g (lw_at lw_m6 64 rfl) rfl
theorem q1324 : (Jvm.Cond.methodLink "NailedOrdersModel" (205 : Nat) ({ cls := "NailedOrdersModel", name := "comesTo", desc := "(II)Z" } : Jvm.MethodName)) ∈ lw_all := lw_g (lw_at lw_m6 65 rfl) rfl
theorem q1325 : (Jvm.Cond.privateMethod ({ cls := "NailedOrdersModel", name := "comesTo", desc := "(II)Z" } : Jvm.MethodName)) ∈ lw_tbl := lw_at lw_m6 66 rfl
theorem q1326 : (Jvm.Cond.instanceMethod ({ cls := "NailedOrdersModel", name := "comesTo", desc := "(II)Z" } : Jvm.MethodName)) ∈ lw_all := lw_g (lw_at lw_m6 67 rfl) rfl
theorem q1327 : (Jvm.Cond.code ({ cls := "NailedOrdersModel", name := "comesTo", desc := "(II)Z" } : Jvm.MethodName) prog_9_method_26_code (6 : Nat) (Option.some Jvm.ClassFile.FieldType.boolean)) ∈ lw_all := lw_g (lw_at lw_m6 68 rfl) rfl
theorem q1329 : (Jvm.Cond.instanceMethod ({ cls := "NailedOrdersModel", name := "hangsAt", desc := "(II)I" } : Jvm.MethodName)) ∈ lw_all := lw_g (lw_at lw_m6 70 rfl) rfl
theorem q1330 : (Jvm.Cond.selects "NailedOrdersModel" ({ cls := "NailedOrdersModel", name := "hangsAt", desc := "(II)I" } : Jvm.MethodName) ({ cls := "NailedOrdersModel", name := "hangsAt", desc := "(II)I" } : Jvm.MethodName)) ∈ lw_all := lw_g (lw_at lw_m6 71 rfl) rfl
theorem q1331 : (Jvm.Cond.code ({ cls := "NailedOrdersModel", name := "hangsAt", desc := "(II)I" } : Jvm.MethodName) prog_9_method_61_code (5 : Nat) (Option.some Jvm.ClassFile.FieldType.int)) ∈ lw_all := lw_g (lw_at lw_m6 72 rfl) rfl
theorem q1333 : (Jvm.Cond.instanceMethod ({ cls := "NailedOrdersModel", name := "order", desc := "(II)I" } : Jvm.MethodName)) ∈ lw_all := lw_g (lw_at lw_m6 74 rfl) rfl
theorem q1334 : (Jvm.Cond.selects "NailedOrdersModel" ({ cls := "NailedOrdersModel", name := "order", desc := "(II)I" } : Jvm.MethodName) ({ cls := "NailedOrdersModel", name := "order", desc := "(II)I" } : Jvm.MethodName)) ∈ lw_all := lw_g (lw_at lw_m6 75 rfl) rfl
theorem q1335 : (Jvm.Cond.code ({ cls := "NailedOrdersModel", name := "order", desc := "(II)I" } : Jvm.MethodName) prog_9_method_62_code (4 : Nat) (Option.some Jvm.ClassFile.FieldType.int)) ∈ lw_all := lw_g (lw_at lw_m6 76 rfl) rfl
theorem q1337 : (Jvm.Cond.instanceMethod ({ cls := "NailedOrdersModel", name := "real", desc := "(II)F" } : Jvm.MethodName)) ∈ lw_all := lw_g (lw_at lw_m6 78 rfl) rfl
theorem q1338 : (Jvm.Cond.selects "NailedOrdersModel" ({ cls := "NailedOrdersModel", name := "real", desc := "(II)F" } : Jvm.MethodName) ({ cls := "NailedOrdersModel", name := "real", desc := "(II)F" } : Jvm.MethodName)) ∈ lw_all := lw_g (lw_at lw_m6 79 rfl) rfl
theorem q1339 : (Jvm.Cond.code ({ cls := "NailedOrdersModel", name := "real", desc := "(II)F" } : Jvm.MethodName) prog_9_method_63_code (3 : Nat) (Option.some Jvm.ClassFile.FieldType.float)) ∈ lw_all := lw_g (lw_at lw_m6 80 rfl) rfl
theorem q1341 : (Jvm.Cond.instanceMethod ({ cls := "NailedOrdersModel", name := "reason", desc := "(II)I" } : Jvm.MethodName)) ∈ lw_all := lw_g (lw_at lw_m6 82 rfl) rfl
theorem q1342 : (Jvm.Cond.selects "NailedOrdersModel" ({ cls := "NailedOrdersModel", name := "reason", desc := "(II)I" } : Jvm.MethodName) ({ cls := "NailedOrdersModel", name := "reason", desc := "(II)I" } : Jvm.MethodName)) ∈ lw_all := lw_g (lw_at lw_m6 83 rfl) rfl
theorem q1343 : (Jvm.Cond.code ({ cls := "NailedOrdersModel", name := "reason", desc := "(II)I" } : Jvm.MethodName) prog_9_method_64_code (5 : Nat) (Option.some Jvm.ClassFile.FieldType.int)) ∈ lw_all := lw_g (lw_at lw_m6 84 rfl) rfl
theorem q1345 : (Jvm.Cond.instanceMethod ({ cls := "NailedOrdersModel", name := "changesWithout", desc := "(I)I" } : Jvm.MethodName)) ∈ lw_all := lw_g (lw_at lw_m6 86 rfl) rfl
theorem q1346 : (Jvm.Cond.selects "NailedOrdersModel" ({ cls := "NailedOrdersModel", name := "changesWithout", desc := "(I)I" } : Jvm.MethodName) ({ cls := "NailedOrdersModel", name := "changesWithout", desc := "(I)I" } : Jvm.MethodName)) ∈ lw_all := lw_g (lw_at lw_m6 87 rfl) rfl
theorem q1347 : (Jvm.Cond.code ({ cls := "NailedOrdersModel", name := "changesWithout", desc := "(I)I" } : Jvm.MethodName) prog_9_method_65_code (5 : Nat) (Option.some Jvm.ClassFile.FieldType.int)) ∈ lw_all := lw_g (lw_at lw_m6 88 rfl) rfl
theorem q1349 : (Jvm.Cond.instanceMethod ({ cls := "NailedOrdersModel", name := "stormsLeft", desc := "(II)I" } : Jvm.MethodName)) ∈ lw_all := lw_g (lw_at lw_m6 90 rfl) rfl
theorem q1350 : (Jvm.Cond.selects "NailedOrdersModel" ({ cls := "NailedOrdersModel", name := "stormsLeft", desc := "(II)I" } : Jvm.MethodName) ({ cls := "NailedOrdersModel", name := "stormsLeft", desc := "(II)I" } : Jvm.MethodName)) ∈ lw_all := lw_g (lw_at lw_m6 91 rfl) rfl
theorem q1351 : (Jvm.Cond.code ({ cls := "NailedOrdersModel", name := "stormsLeft", desc := "(II)I" } : Jvm.MethodName) prog_9_method_66_code (5 : Nat) (Option.some Jvm.ClassFile.FieldType.int)) ∈ lw_all := lw_g (lw_at lw_m6 92 rfl) rfl
theorem q1353 : (Jvm.Cond.instanceMethod ({ cls := "NailedOrdersModel", name := "person", desc := "(II)I" } : Jvm.MethodName)) ∈ lw_all := lw_g (lw_at lw_m6 94 rfl) rfl
theorem q1354 : (Jvm.Cond.selects "NailedOrdersModel" ({ cls := "NailedOrdersModel", name := "person", desc := "(II)I" } : Jvm.MethodName) ({ cls := "NailedOrdersModel", name := "person", desc := "(II)I" } : Jvm.MethodName)) ∈ lw_all := lw_g (lw_at lw_m6 95 rfl) rfl
theorem q1355 : (Jvm.Cond.code ({ cls := "NailedOrdersModel", name := "person", desc := "(II)I" } : Jvm.MethodName) prog_9_method_69_code (3 : Nat) (Option.some Jvm.ClassFile.FieldType.int)) ∈ lw_all := lw_g (lw_at lw_m6 96 rfl) rfl
theorem q1356 : (Jvm.Cond.methodLink "NailedOrdersModel" (220 : Nat) ({ cls := "NailedOrdersModel", name := "wordsOf", desc := "(I)I" } : Jvm.MethodName)) ∈ lw_all := lw_g (lw_at lw_m6 97 rfl) rfl
theorem q1357 : (Jvm.Cond.privateMethod ({ cls := "NailedOrdersModel", name := "wordsOf", desc := "(I)I" } : Jvm.MethodName)) ∈ lw_tbl := lw_at lw_m6 98 rfl
theorem q1358 : (Jvm.Cond.instanceMethod ({ cls := "NailedOrdersModel", name := "wordsOf", desc := "(I)I" } : Jvm.MethodName)) ∈ lw_all := lw_g (lw_at lw_m6 99 rfl) rfl
theorem q1359 : (Jvm.Cond.code ({ cls := "NailedOrdersModel", name := "wordsOf", desc := "(I)I" } : Jvm.MethodName) prog_9_method_68_code (4 : Nat) (Option.some Jvm.ClassFile.FieldType.int)) ∈ lw_all := lw_g (lw_at lw_m6 100 rfl) rfl
theorem q1360 : (Jvm.Cond.methodLink "NailedOrdersModel" (223 : Nat) ({ cls := "NailedOrdersModel", name := "ordersOf", desc := "(II)I" } : Jvm.MethodName)) ∈ lw_all := lw_g (lw_at lw_m6 101 rfl) rfl
theorem q1361 : (Jvm.Cond.privateMethod ({ cls := "NailedOrdersModel", name := "ordersOf", desc := "(II)I" } : Jvm.MethodName)) ∈ lw_tbl := lw_at lw_m6 102 rfl
theorem q1362 : (Jvm.Cond.instanceMethod ({ cls := "NailedOrdersModel", name := "ordersOf", desc := "(II)I" } : Jvm.MethodName)) ∈ lw_all := lw_g (lw_at lw_m6 103 rfl) rfl
theorem q1363 : (Jvm.Cond.code ({ cls := "NailedOrdersModel", name := "ordersOf", desc := "(II)I" } : Jvm.MethodName) prog_9_method_67_code (6 : Nat) (Option.some Jvm.ClassFile.FieldType.int)) ∈ lw_all := lw_g (lw_at lw_m6 104 rfl) rfl
theorem q1365 : (Jvm.Cond.instanceMethod ({ cls := "NailedOrdersModel", name := "count", desc := "(I)I" } : Jvm.MethodName)) ∈ lw_all := lw_g (lw_at lw_m6 106 rfl) rfl
theorem q1366 : (Jvm.Cond.selects "NailedOrdersModel" ({ cls := "NailedOrdersModel", name := "count", desc := "(I)I" } : Jvm.MethodName) ({ cls := "NailedOrdersModel", name := "count", desc := "(I)I" } : Jvm.MethodName)) ∈ lw_all := lw_g (lw_at lw_m6 107 rfl) rfl
theorem q1367 : (Jvm.Cond.code ({ cls := "NailedOrdersModel", name := "count", desc := "(I)I" } : Jvm.MethodName) prog_9_method_71_code (2 : Nat) (Option.some Jvm.ClassFile.FieldType.int)) ∈ lw_all := lw_g (lw_at lw_m6 108 rfl) rfl
theorem q1368 : (Jvm.Cond.methodLink "NailedOrdersModel" (226 : Nat) ({ cls := "NailedOrdersModel", name := "words", desc := "(I)I" } : Jvm.MethodName)) ∈ lw_all := lw_g (lw_at lw_m6 109 rfl) rfl
theorem q1369 : (Jvm.Cond.privateMethod ({ cls := "NailedOrdersModel", name := "words", desc := "(I)I" } : Jvm.MethodName)) ∈ lw_tbl := lw_at lw_m6 110 rfl
theorem q1370 : (Jvm.Cond.instanceMethod ({ cls := "NailedOrdersModel", name := "words", desc := "(I)I" } : Jvm.MethodName)) ∈ lw_all := lw_g (lw_at lw_m6 111 rfl) rfl
theorem q1371 : (Jvm.Cond.code ({ cls := "NailedOrdersModel", name := "words", desc := "(I)I" } : Jvm.MethodName) prog_9_method_70_code (5 : Nat) (Option.some Jvm.ClassFile.FieldType.int)) ∈ lw_all := lw_g (lw_at lw_m6 112 rfl) rfl
theorem q1389 : (Jvm.Cond.castable "NailedOrdersModel" "java/lang/Object") ∈ lw_tbl := lw_at lw_m6 130 rfl
theorem in_X2 : ∀ w ∈ wsX20, w ∈ lw_all := lw_in wsX20 [1055, 1057, 1059, 1061, 1063, 1065, 1067, 1069, 1071, 1073, 1075, 1077, 1079, 1081, 1083, 1085] (by decide +kernel) (by decide +kernel)
