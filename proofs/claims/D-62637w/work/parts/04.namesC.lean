/-! NotationDesk -/
set_option maxRecDepth 100000
def RX1 : String := "NotationDesk"
def TX1 : u_T := fun k => match k with
  | 0 => ("NotationDesk", "compiler", "LNotationDesk$Compiler;", true)
  | 1 => ("NotationDesk", "isCompiled", "Z", false)
  | 2 => ("NotationDesk", "buffer", "[I", true)
  | 3 => ("NotationDesk", "filled", "I", false)
  | 4 => ("NotationDesk", "value", "LNotationDesk$Store;", false)
  | 5 => ("NotationDesk", "trial", "LNotationDesk$Store;", false)
  | 6 => ("NotationDesk", "source", "LNotationDesk$Source;", true)
  | 7 => ("NotationDesk", "writer", "LNotationDesk$Writer;", true)
  | 8 => ("NotationDesk", "operations", "[LNotationDesk$Type;", true)
  | 9 => ("NotationDesk", "takes", "[I", true)
  | 10 => ("NotationDesk", "answers", "[I", true)
  | _ => ("NotationDesk", "served", "[Z", true)
def tyX1 : Nat → FieldType := fun k => match k with
  | 0 => .object "NotationDesk$Compiler"
  | 1 => .boolean
  | 2 => .array .int
  | 3 => .int
  | 4 => .object "NotationDesk$Store"
  | 5 => .object "NotationDesk$Store"
  | 6 => .object "NotationDesk$Source"
  | 7 => .object "NotationDesk$Writer"
  | 8 => .array (.object "NotationDesk$Type")
  | 9 => .array .int
  | 10 => .array .int
  | _ => .array .boolean
abbrev wsX10 : List Cond := u_ws RX1 TX1 12
theorem nmX1 : ∀ a, a < 12 → ∀ b, b < 12 → a ≠ b → (TX1 a).2.1 ≠ (TX1 b).2.1 := by decide +kernel
theorem tyX1_ok : ∀ k, k < 12 → parseFieldDescriptor (TX1 k).2.2.1 = some (tyX1 k) := by decide +kernel
abbrev cX1_init : ByteArray := prog_1_method_6_code
def yX1_init : MethodName := ⟨RX1, "<init>", "()V"⟩
def dkwX1_init_4 : List UInt8 := [17, 1, 0, 188, 4, 181, 0, 62, 177]
abbrev dktX1_init_4 : List UInt8 := dkwX1_init_4 ++ []
def dkwX1_init_3 : List UInt8 := [189, 0, 50, 181, 0, 52, 42, 16, 8, 188, 10, 181, 0, 56, 42, 16, 8, 188, 10, 181, 0, 59, 42]
abbrev dktX1_init_3 : List UInt8 := dkwX1_init_3 ++ dktX1_init_4
def dkwX1_init_2 : List UInt8 := [187, 0, 36, 89, 183, 0, 38, 181, 0, 39, 42, 187, 0, 43, 89, 183, 0, 45, 181, 0, 46, 42, 16, 8]
abbrev dktX1_init_2 : List UInt8 := dkwX1_init_2 ++ dktX1_init_3
def dkwX1_init_1 : List UInt8 := [187, 0, 26, 89, 183, 0, 28, 181, 0, 29, 42, 187, 0, 26, 89, 183, 0, 28, 181, 0, 33, 42]
abbrev dktX1_init_1 : List UInt8 := dkwX1_init_1 ++ dktX1_init_2
def dkwX1_init_0 : List UInt8 := [42, 183, 0, 9, 42, 187, 0, 15, 89, 183, 0, 17, 181, 0, 18, 42, 16, 120, 188, 10, 181, 0, 22, 42]
abbrev dktX1_init_0 : List UInt8 := dkwX1_init_0 ++ dktX1_init_1
theorem dksX1_init_0 : cX1_init.data.toList.drop 0 = dktX1_init_0 := by decide +kernel
theorem dksX1_init_1 : cX1_init.data.toList.drop 24 = dktX1_init_1 := dk_seg dksX1_init_0 24 rfl rfl
theorem dksX1_init_2 : cX1_init.data.toList.drop 46 = dktX1_init_2 := dk_seg dksX1_init_1 22 rfl rfl
theorem dksX1_init_3 : cX1_init.data.toList.drop 70 = dktX1_init_3 := dk_seg dksX1_init_2 24 rfl rfl
theorem dksX1_init_4 : cX1_init.data.toList.drop 93 = dktX1_init_4 := dk_seg dksX1_init_3 23 rfl rfl
theorem dX1_init_0 : decode cX1_init 0 = .ok (.aload_n 0, 1) := dk_42 (dk_at dksX1_init_0 0 rfl rfl)
theorem dX1_init_1 : decode cX1_init 1 = .ok (.invokespecial 9, 3) := dk_183 0 9 (dk_at dksX1_init_0 1 rfl rfl)
theorem dX1_init_4 : decode cX1_init 4 = .ok (.aload_n 0, 1) := dk_42 (dk_at dksX1_init_0 4 rfl rfl)
theorem dX1_init_5 : decode cX1_init 5 = .ok (.new 15, 3) := dk_187 0 15 (dk_at dksX1_init_0 5 rfl rfl)
theorem dX1_init_8 : decode cX1_init 8 = .ok (.dup, 1) := dk_89 (dk_at dksX1_init_0 8 rfl rfl)
theorem dX1_init_9 : decode cX1_init 9 = .ok (.invokespecial 17, 3) := dk_183 0 17 (dk_at dksX1_init_0 9 rfl rfl)
theorem dX1_init_12 : decode cX1_init 12 = .ok (.putfield 18, 3) := dk_181 0 18 (dk_at dksX1_init_0 12 rfl rfl)
theorem dX1_init_15 : decode cX1_init 15 = .ok (.aload_n 0, 1) := dk_42 (dk_at dksX1_init_0 15 rfl rfl)
theorem dX1_init_16 : decode cX1_init 16 = .ok (.bipush 120, 2) := dk_16 120 (dk_at dksX1_init_0 16 rfl rfl)
theorem dX1_init_18 : decode cX1_init 18 = .ok (.newarray .int, 2) := dk_188_10 (dk_at dksX1_init_0 18 rfl rfl)
theorem dX1_init_20 : decode cX1_init 20 = .ok (.putfield 22, 3) := dk_181 0 22 (dk_at dksX1_init_0 20 rfl rfl)
theorem dX1_init_23 : decode cX1_init 23 = .ok (.aload_n 0, 1) := dk_42 (dk_at dksX1_init_0 23 rfl rfl)
theorem dX1_init_24 : decode cX1_init 24 = .ok (.new 26, 3) := dk_187 0 26 (dk_at dksX1_init_1 0 rfl rfl)
theorem dX1_init_27 : decode cX1_init 27 = .ok (.dup, 1) := dk_89 (dk_at dksX1_init_1 3 rfl rfl)
theorem dX1_init_28 : decode cX1_init 28 = .ok (.invokespecial 28, 3) := dk_183 0 28 (dk_at dksX1_init_1 4 rfl rfl)
theorem dX1_init_31 : decode cX1_init 31 = .ok (.putfield 29, 3) := dk_181 0 29 (dk_at dksX1_init_1 7 rfl rfl)
theorem dX1_init_34 : decode cX1_init 34 = .ok (.aload_n 0, 1) := dk_42 (dk_at dksX1_init_1 10 rfl rfl)
theorem dX1_init_35 : decode cX1_init 35 = .ok (.new 26, 3) := dk_187 0 26 (dk_at dksX1_init_1 11 rfl rfl)
theorem dX1_init_38 : decode cX1_init 38 = .ok (.dup, 1) := dk_89 (dk_at dksX1_init_1 14 rfl rfl)
theorem dX1_init_39 : decode cX1_init 39 = .ok (.invokespecial 28, 3) := dk_183 0 28 (dk_at dksX1_init_1 15 rfl rfl)
theorem dX1_init_42 : decode cX1_init 42 = .ok (.putfield 33, 3) := dk_181 0 33 (dk_at dksX1_init_1 18 rfl rfl)
theorem dX1_init_45 : decode cX1_init 45 = .ok (.aload_n 0, 1) := dk_42 (dk_at dksX1_init_1 21 rfl rfl)
theorem dX1_init_46 : decode cX1_init 46 = .ok (.new 36, 3) := dk_187 0 36 (dk_at dksX1_init_2 0 rfl rfl)
theorem dX1_init_49 : decode cX1_init 49 = .ok (.dup, 1) := dk_89 (dk_at dksX1_init_2 3 rfl rfl)
theorem dX1_init_50 : decode cX1_init 50 = .ok (.invokespecial 38, 3) := dk_183 0 38 (dk_at dksX1_init_2 4 rfl rfl)
theorem dX1_init_53 : decode cX1_init 53 = .ok (.putfield 39, 3) := dk_181 0 39 (dk_at dksX1_init_2 7 rfl rfl)
theorem dX1_init_56 : decode cX1_init 56 = .ok (.aload_n 0, 1) := dk_42 (dk_at dksX1_init_2 10 rfl rfl)
theorem dX1_init_57 : decode cX1_init 57 = .ok (.new 43, 3) := dk_187 0 43 (dk_at dksX1_init_2 11 rfl rfl)
theorem dX1_init_60 : decode cX1_init 60 = .ok (.dup, 1) := dk_89 (dk_at dksX1_init_2 14 rfl rfl)
theorem dX1_init_61 : decode cX1_init 61 = .ok (.invokespecial 45, 3) := dk_183 0 45 (dk_at dksX1_init_2 15 rfl rfl)
theorem dX1_init_64 : decode cX1_init 64 = .ok (.putfield 46, 3) := dk_181 0 46 (dk_at dksX1_init_2 18 rfl rfl)
theorem dX1_init_67 : decode cX1_init 67 = .ok (.aload_n 0, 1) := dk_42 (dk_at dksX1_init_2 21 rfl rfl)
theorem dX1_init_68 : decode cX1_init 68 = .ok (.bipush 8, 2) := dk_16 8 (dk_at dksX1_init_2 22 rfl rfl)
theorem dX1_init_70 : decode cX1_init 70 = .ok (.anewarray 50, 3) := dk_189 0 50 (dk_at dksX1_init_3 0 rfl rfl)
theorem dX1_init_73 : decode cX1_init 73 = .ok (.putfield 52, 3) := dk_181 0 52 (dk_at dksX1_init_3 3 rfl rfl)
theorem dX1_init_76 : decode cX1_init 76 = .ok (.aload_n 0, 1) := dk_42 (dk_at dksX1_init_3 6 rfl rfl)
theorem dX1_init_77 : decode cX1_init 77 = .ok (.bipush 8, 2) := dk_16 8 (dk_at dksX1_init_3 7 rfl rfl)
theorem dX1_init_79 : decode cX1_init 79 = .ok (.newarray .int, 2) := dk_188_10 (dk_at dksX1_init_3 9 rfl rfl)
theorem dX1_init_81 : decode cX1_init 81 = .ok (.putfield 56, 3) := dk_181 0 56 (dk_at dksX1_init_3 11 rfl rfl)
theorem dX1_init_84 : decode cX1_init 84 = .ok (.aload_n 0, 1) := dk_42 (dk_at dksX1_init_3 14 rfl rfl)
theorem dX1_init_85 : decode cX1_init 85 = .ok (.bipush 8, 2) := dk_16 8 (dk_at dksX1_init_3 15 rfl rfl)
theorem dX1_init_87 : decode cX1_init 87 = .ok (.newarray .int, 2) := dk_188_10 (dk_at dksX1_init_3 17 rfl rfl)
theorem dX1_init_89 : decode cX1_init 89 = .ok (.putfield 59, 3) := dk_181 0 59 (dk_at dksX1_init_3 19 rfl rfl)
theorem dX1_init_92 : decode cX1_init 92 = .ok (.aload_n 0, 1) := dk_42 (dk_at dksX1_init_3 22 rfl rfl)
theorem dX1_init_93 : decode cX1_init 93 = .ok (.sipush 256, 3) := dk_17 1 0 (dk_at dksX1_init_4 0 rfl rfl)
theorem dX1_init_96 : decode cX1_init 96 = .ok (.newarray .boolean, 2) := dk_188_4 (dk_at dksX1_init_4 3 rfl rfl)
theorem dX1_init_98 : decode cX1_init 98 = .ok (.putfield 62, 3) := dk_181 0 62 (dk_at dksX1_init_4 5 rfl rfl)
theorem dX1_init_101 : decode cX1_init 101 = .ok (.return_, 1) := dk_177 (dk_at dksX1_init_4 8 rfl rfl)
abbrev cX1_type : ByteArray := prog_1_method_9_code
def yX1_type : MethodName := ⟨RX1, "type", "(C)Z"⟩
def dkwX1_type_2 : List UInt8 := [182, 0, 84, 4, 172]
abbrev dktX1_type_2 : List UInt8 := dkwX1_type_2 ++ []
def dkwX1_type_1 : List UInt8 := [180, 0, 18, 180, 0, 76, 27, 85, 42, 180, 0, 18, 89, 180, 0, 76, 4, 96, 181, 0, 76, 42]
abbrev dktX1_type_1 : List UInt8 := dkwX1_type_1 ++ dktX1_type_2
def dkwX1_type_0 : List UInt8 := [42, 180, 0, 18, 180, 0, 76, 17, 0, 150, 161, 0, 5, 3, 172, 42, 180, 0, 18, 180, 0, 80, 42]
abbrev dktX1_type_0 : List UInt8 := dkwX1_type_0 ++ dktX1_type_1
theorem dksX1_type_0 : cX1_type.data.toList.drop 0 = dktX1_type_0 := by decide +kernel
theorem dksX1_type_1 : cX1_type.data.toList.drop 23 = dktX1_type_1 := dk_seg dksX1_type_0 23 rfl rfl
theorem dksX1_type_2 : cX1_type.data.toList.drop 45 = dktX1_type_2 := dk_seg dksX1_type_1 22 rfl rfl
theorem dX1_type_0 : decode cX1_type 0 = .ok (.aload_n 0, 1) := dk_42 (dk_at dksX1_type_0 0 rfl rfl)
theorem dX1_type_1 : decode cX1_type 1 = .ok (.getfield 18, 3) := dk_180 0 18 (dk_at dksX1_type_0 1 rfl rfl)
theorem dX1_type_4 : decode cX1_type 4 = .ok (.getfield 76, 3) := dk_180 0 76 (dk_at dksX1_type_0 4 rfl rfl)
theorem dX1_type_7 : decode cX1_type 7 = .ok (.sipush 150, 3) := dk_17 0 150 (dk_at dksX1_type_0 7 rfl rfl)
theorem dX1_type_10 : decode cX1_type 10 = .ok (.if_icmp .lt 5, 3) := dk_161 0 5 (dk_at dksX1_type_0 10 rfl rfl)
theorem dX1_type_13 : decode cX1_type 13 = .ok (.iconst 0, 1) := dk_3 (dk_at dksX1_type_0 13 rfl rfl)
theorem dX1_type_14 : decode cX1_type 14 = .ok (.ireturn, 1) := dk_172 (dk_at dksX1_type_0 14 rfl rfl)
theorem dX1_type_15 : decode cX1_type 15 = .ok (.aload_n 0, 1) := dk_42 (dk_at dksX1_type_0 15 rfl rfl)
theorem dX1_type_16 : decode cX1_type 16 = .ok (.getfield 18, 3) := dk_180 0 18 (dk_at dksX1_type_0 16 rfl rfl)
theorem dX1_type_19 : decode cX1_type 19 = .ok (.getfield 80, 3) := dk_180 0 80 (dk_at dksX1_type_0 19 rfl rfl)
theorem dX1_type_22 : decode cX1_type 22 = .ok (.aload_n 0, 1) := dk_42 (dk_at dksX1_type_0 22 rfl rfl)
theorem dX1_type_23 : decode cX1_type 23 = .ok (.getfield 18, 3) := dk_180 0 18 (dk_at dksX1_type_1 0 rfl rfl)
theorem dX1_type_26 : decode cX1_type 26 = .ok (.getfield 76, 3) := dk_180 0 76 (dk_at dksX1_type_1 3 rfl rfl)
theorem dX1_type_29 : decode cX1_type 29 = .ok (.iload_n 1, 1) := dk_27 (dk_at dksX1_type_1 6 rfl rfl)
theorem dX1_type_30 : decode cX1_type 30 = .ok (.castore, 1) := dk_85 (dk_at dksX1_type_1 7 rfl rfl)
theorem dX1_type_31 : decode cX1_type 31 = .ok (.aload_n 0, 1) := dk_42 (dk_at dksX1_type_1 8 rfl rfl)
theorem dX1_type_32 : decode cX1_type 32 = .ok (.getfield 18, 3) := dk_180 0 18 (dk_at dksX1_type_1 9 rfl rfl)
theorem dX1_type_35 : decode cX1_type 35 = .ok (.dup, 1) := dk_89 (dk_at dksX1_type_1 12 rfl rfl)
theorem dX1_type_36 : decode cX1_type 36 = .ok (.getfield 76, 3) := dk_180 0 76 (dk_at dksX1_type_1 13 rfl rfl)
theorem dX1_type_39 : decode cX1_type 39 = .ok (.iconst 1, 1) := dk_4 (dk_at dksX1_type_1 16 rfl rfl)
theorem dX1_type_40 : decode cX1_type 40 = .ok (.iadd, 1) := dk_96 (dk_at dksX1_type_1 17 rfl rfl)
theorem dX1_type_41 : decode cX1_type 41 = .ok (.putfield 76, 3) := dk_181 0 76 (dk_at dksX1_type_1 18 rfl rfl)
theorem dX1_type_44 : decode cX1_type 44 = .ok (.aload_n 0, 1) := dk_42 (dk_at dksX1_type_1 21 rfl rfl)
theorem dX1_type_45 : decode cX1_type 45 = .ok (.invokevirtual 84, 3) := dk_182 0 84 (dk_at dksX1_type_2 0 rfl rfl)
theorem dX1_type_48 : decode cX1_type 48 = .ok (.iconst 1, 1) := dk_4 (dk_at dksX1_type_2 3 rfl rfl)
theorem dX1_type_49 : decode cX1_type 49 = .ok (.ireturn, 1) := dk_172 (dk_at dksX1_type_2 4 rfl rfl)
abbrev cX1_forget : ByteArray := prog_1_method_8_code
def yX1_forget : MethodName := ⟨RX1, "forget", "()V"⟩
def dkwX1_forget_2 : List UInt8 := [27, 3, 84, 132, 1, 1, 167, 255, 237, 177]
abbrev dktX1_forget_2 : List UInt8 := dkwX1_forget_2 ++ []
def dkwX1_forget_1 : List UInt8 := [27, 1, 83, 132, 1, 1, 167, 255, 240, 3, 60, 27, 42, 180, 0, 62, 190, 162, 0, 16, 42, 180, 0, 62]
abbrev dktX1_forget_1 : List UInt8 := dkwX1_forget_1 ++ dktX1_forget_2
def dkwX1_forget_0 : List UInt8 := [42, 3, 181, 0, 69, 42, 180, 0, 29, 182, 0, 73, 3, 60, 27, 16, 8, 162, 0, 16, 42, 180, 0, 52]
abbrev dktX1_forget_0 : List UInt8 := dkwX1_forget_0 ++ dktX1_forget_1
theorem dksX1_forget_0 : cX1_forget.data.toList.drop 0 = dktX1_forget_0 := by decide +kernel
theorem dksX1_forget_1 : cX1_forget.data.toList.drop 24 = dktX1_forget_1 := dk_seg dksX1_forget_0 24 rfl rfl
theorem dksX1_forget_2 : cX1_forget.data.toList.drop 48 = dktX1_forget_2 := dk_seg dksX1_forget_1 24 rfl rfl
theorem dX1_forget_0 : decode cX1_forget 0 = .ok (.aload_n 0, 1) := dk_42 (dk_at dksX1_forget_0 0 rfl rfl)
theorem dX1_forget_1 : decode cX1_forget 1 = .ok (.iconst 0, 1) := dk_3 (dk_at dksX1_forget_0 1 rfl rfl)
theorem dX1_forget_2 : decode cX1_forget 2 = .ok (.putfield 69, 3) := dk_181 0 69 (dk_at dksX1_forget_0 2 rfl rfl)
theorem dX1_forget_5 : decode cX1_forget 5 = .ok (.aload_n 0, 1) := dk_42 (dk_at dksX1_forget_0 5 rfl rfl)
theorem dX1_forget_6 : decode cX1_forget 6 = .ok (.getfield 29, 3) := dk_180 0 29 (dk_at dksX1_forget_0 6 rfl rfl)
theorem dX1_forget_9 : decode cX1_forget 9 = .ok (.invokevirtual 73, 3) := dk_182 0 73 (dk_at dksX1_forget_0 9 rfl rfl)
theorem dX1_forget_12 : decode cX1_forget 12 = .ok (.iconst 0, 1) := dk_3 (dk_at dksX1_forget_0 12 rfl rfl)
theorem dX1_forget_13 : decode cX1_forget 13 = .ok (.istore_n 1, 1) := dk_60 (dk_at dksX1_forget_0 13 rfl rfl)
theorem dX1_forget_14 : decode cX1_forget 14 = .ok (.iload_n 1, 1) := dk_27 (dk_at dksX1_forget_0 14 rfl rfl)
theorem dX1_forget_15 : decode cX1_forget 15 = .ok (.bipush 8, 2) := dk_16 8 (dk_at dksX1_forget_0 15 rfl rfl)
theorem dX1_forget_17 : decode cX1_forget 17 = .ok (.if_icmp .ge 16, 3) := dk_162 0 16 (dk_at dksX1_forget_0 17 rfl rfl)
theorem dX1_forget_20 : decode cX1_forget 20 = .ok (.aload_n 0, 1) := dk_42 (dk_at dksX1_forget_0 20 rfl rfl)
theorem dX1_forget_21 : decode cX1_forget 21 = .ok (.getfield 52, 3) := dk_180 0 52 (dk_at dksX1_forget_0 21 rfl rfl)
theorem dX1_forget_24 : decode cX1_forget 24 = .ok (.iload_n 1, 1) := dk_27 (dk_at dksX1_forget_1 0 rfl rfl)
theorem dX1_forget_25 : decode cX1_forget 25 = .ok (.aconst_null, 1) := dk_1 (dk_at dksX1_forget_1 1 rfl rfl)
theorem dX1_forget_26 : decode cX1_forget 26 = .ok (.aastore, 1) := dk_83 (dk_at dksX1_forget_1 2 rfl rfl)
theorem dX1_forget_27 : decode cX1_forget 27 = .ok (.iinc 1 1, 3) := dk_132 1 1 (dk_at dksX1_forget_1 3 rfl rfl)
theorem dX1_forget_30 : decode cX1_forget 30 = .ok (.goto (-16), 3) := dk_167 255 240 (dk_at dksX1_forget_1 6 rfl rfl)
theorem dX1_forget_33 : decode cX1_forget 33 = .ok (.iconst 0, 1) := dk_3 (dk_at dksX1_forget_1 9 rfl rfl)
theorem dX1_forget_34 : decode cX1_forget 34 = .ok (.istore_n 1, 1) := dk_60 (dk_at dksX1_forget_1 10 rfl rfl)
theorem dX1_forget_35 : decode cX1_forget 35 = .ok (.iload_n 1, 1) := dk_27 (dk_at dksX1_forget_1 11 rfl rfl)
theorem dX1_forget_36 : decode cX1_forget 36 = .ok (.aload_n 0, 1) := dk_42 (dk_at dksX1_forget_1 12 rfl rfl)
theorem dX1_forget_37 : decode cX1_forget 37 = .ok (.getfield 62, 3) := dk_180 0 62 (dk_at dksX1_forget_1 13 rfl rfl)
theorem dX1_forget_40 : decode cX1_forget 40 = .ok (.arraylength, 1) := dk_190 (dk_at dksX1_forget_1 16 rfl rfl)
theorem dX1_forget_41 : decode cX1_forget 41 = .ok (.if_icmp .ge 16, 3) := dk_162 0 16 (dk_at dksX1_forget_1 17 rfl rfl)
theorem dX1_forget_44 : decode cX1_forget 44 = .ok (.aload_n 0, 1) := dk_42 (dk_at dksX1_forget_1 20 rfl rfl)
theorem dX1_forget_45 : decode cX1_forget 45 = .ok (.getfield 62, 3) := dk_180 0 62 (dk_at dksX1_forget_1 21 rfl rfl)
theorem dX1_forget_48 : decode cX1_forget 48 = .ok (.iload_n 1, 1) := dk_27 (dk_at dksX1_forget_2 0 rfl rfl)
theorem dX1_forget_49 : decode cX1_forget 49 = .ok (.iconst 0, 1) := dk_3 (dk_at dksX1_forget_2 1 rfl rfl)
theorem dX1_forget_50 : decode cX1_forget 50 = .ok (.bastore, 1) := dk_84 (dk_at dksX1_forget_2 2 rfl rfl)
theorem dX1_forget_51 : decode cX1_forget 51 = .ok (.iinc 1 1, 3) := dk_132 1 1 (dk_at dksX1_forget_2 3 rfl rfl)
theorem dX1_forget_54 : decode cX1_forget 54 = .ok (.goto (-19), 3) := dk_167 255 237 (dk_at dksX1_forget_2 6 rfl rfl)
theorem dX1_forget_57 : decode cX1_forget 57 = .ok (.return_, 1) := dk_177 (dk_at dksX1_forget_2 9 rfl rfl)
abbrev cX1_clear : ByteArray := prog_1_method_10_code
def yX1_clear : MethodName := ⟨RX1, "clear", "()I"⟩
def dkwX1_clear_0 : List UInt8 := [42, 180, 0, 18, 180, 0, 76, 60, 42, 180, 0, 18, 3, 181, 0, 76, 42, 182, 0, 84, 27, 172]
abbrev dktX1_clear_0 : List UInt8 := dkwX1_clear_0 ++ []
theorem dksX1_clear_0 : cX1_clear.data.toList.drop 0 = dktX1_clear_0 := by decide +kernel
theorem dX1_clear_0 : decode cX1_clear 0 = .ok (.aload_n 0, 1) := dk_42 (dk_at dksX1_clear_0 0 rfl rfl)
theorem dX1_clear_1 : decode cX1_clear 1 = .ok (.getfield 18, 3) := dk_180 0 18 (dk_at dksX1_clear_0 1 rfl rfl)
theorem dX1_clear_4 : decode cX1_clear 4 = .ok (.getfield 76, 3) := dk_180 0 76 (dk_at dksX1_clear_0 4 rfl rfl)
theorem dX1_clear_7 : decode cX1_clear 7 = .ok (.istore_n 1, 1) := dk_60 (dk_at dksX1_clear_0 7 rfl rfl)
theorem dX1_clear_8 : decode cX1_clear 8 = .ok (.aload_n 0, 1) := dk_42 (dk_at dksX1_clear_0 8 rfl rfl)
theorem dX1_clear_9 : decode cX1_clear 9 = .ok (.getfield 18, 3) := dk_180 0 18 (dk_at dksX1_clear_0 9 rfl rfl)
theorem dX1_clear_12 : decode cX1_clear 12 = .ok (.iconst 0, 1) := dk_3 (dk_at dksX1_clear_0 12 rfl rfl)
theorem dX1_clear_13 : decode cX1_clear 13 = .ok (.putfield 76, 3) := dk_181 0 76 (dk_at dksX1_clear_0 13 rfl rfl)
theorem dX1_clear_16 : decode cX1_clear 16 = .ok (.aload_n 0, 1) := dk_42 (dk_at dksX1_clear_0 16 rfl rfl)
theorem dX1_clear_17 : decode cX1_clear 17 = .ok (.invokevirtual 84, 3) := dk_182 0 84 (dk_at dksX1_clear_0 17 rfl rfl)
theorem dX1_clear_20 : decode cX1_clear 20 = .ok (.iload_n 1, 1) := dk_27 (dk_at dksX1_clear_0 20 rfl rfl)
theorem dX1_clear_21 : decode cX1_clear 21 = .ok (.ireturn, 1) := dk_172 (dk_at dksX1_clear_0 21 rfl rfl)
abbrev cX1_compile : ByteArray := prog_1_method_11_code
def yX1_compile : MethodName := ⟨RX1, "compile", "()I"⟩
def dkwX1_compile_1 : List UInt8 := [167, 0, 10, 42, 180, 0, 18, 180, 0, 91, 172]
abbrev dktX1_compile_1 : List UInt8 := dkwX1_compile_1 ++ []
def dkwX1_compile_0 : List UInt8 := [42, 182, 0, 84, 42, 42, 180, 0, 18, 182, 0, 87, 181, 0, 69, 42, 180, 0, 69, 153, 0, 7, 3]
abbrev dktX1_compile_0 : List UInt8 := dkwX1_compile_0 ++ dktX1_compile_1
theorem dksX1_compile_0 : cX1_compile.data.toList.drop 0 = dktX1_compile_0 := by decide +kernel
theorem dksX1_compile_1 : cX1_compile.data.toList.drop 23 = dktX1_compile_1 := dk_seg dksX1_compile_0 23 rfl rfl
theorem dX1_compile_0 : decode cX1_compile 0 = .ok (.aload_n 0, 1) := dk_42 (dk_at dksX1_compile_0 0 rfl rfl)
theorem dX1_compile_1 : decode cX1_compile 1 = .ok (.invokevirtual 84, 3) := dk_182 0 84 (dk_at dksX1_compile_0 1 rfl rfl)
theorem dX1_compile_4 : decode cX1_compile 4 = .ok (.aload_n 0, 1) := dk_42 (dk_at dksX1_compile_0 4 rfl rfl)
theorem dX1_compile_5 : decode cX1_compile 5 = .ok (.aload_n 0, 1) := dk_42 (dk_at dksX1_compile_0 5 rfl rfl)
theorem dX1_compile_6 : decode cX1_compile 6 = .ok (.getfield 18, 3) := dk_180 0 18 (dk_at dksX1_compile_0 6 rfl rfl)
theorem dX1_compile_9 : decode cX1_compile 9 = .ok (.invokevirtual 87, 3) := dk_182 0 87 (dk_at dksX1_compile_0 9 rfl rfl)
theorem dX1_compile_12 : decode cX1_compile 12 = .ok (.putfield 69, 3) := dk_181 0 69 (dk_at dksX1_compile_0 12 rfl rfl)
theorem dX1_compile_15 : decode cX1_compile 15 = .ok (.aload_n 0, 1) := dk_42 (dk_at dksX1_compile_0 15 rfl rfl)
theorem dX1_compile_16 : decode cX1_compile 16 = .ok (.getfield 69, 3) := dk_180 0 69 (dk_at dksX1_compile_0 16 rfl rfl)
theorem dX1_compile_19 : decode cX1_compile 19 = .ok (.ifCond .eq 7, 3) := dk_153 0 7 (dk_at dksX1_compile_0 19 rfl rfl)
theorem dX1_compile_22 : decode cX1_compile 22 = .ok (.iconst 0, 1) := dk_3 (dk_at dksX1_compile_0 22 rfl rfl)
theorem dX1_compile_23 : decode cX1_compile 23 = .ok (.goto 10, 3) := dk_167 0 10 (dk_at dksX1_compile_1 0 rfl rfl)
theorem dX1_compile_26 : decode cX1_compile 26 = .ok (.aload_n 0, 1) := dk_42 (dk_at dksX1_compile_1 3 rfl rfl)
theorem dX1_compile_27 : decode cX1_compile 27 = .ok (.getfield 18, 3) := dk_180 0 18 (dk_at dksX1_compile_1 4 rfl rfl)
theorem dX1_compile_30 : decode cX1_compile 30 = .ok (.getfield 91, 3) := dk_180 0 91 (dk_at dksX1_compile_1 7 rfl rfl)
theorem dX1_compile_33 : decode cX1_compile 33 = .ok (.ireturn, 1) := dk_172 (dk_at dksX1_compile_1 10 rfl rfl)
abbrev cX1_isDigit : ByteArray := prog_1_method_2_code
def yX1_isDigit : MethodName := ⟨RX1, "isDigit", "(I)Z"⟩
def dkwX1_isDigit_0 : List UInt8 := [26, 16, 48, 161, 0, 13, 26, 16, 57, 163, 0, 7, 4, 167, 0, 4, 3, 172]
abbrev dktX1_isDigit_0 : List UInt8 := dkwX1_isDigit_0 ++ []
theorem dksX1_isDigit_0 : cX1_isDigit.data.toList.drop 0 = dktX1_isDigit_0 := by decide +kernel
theorem dX1_isDigit_0 : decode cX1_isDigit 0 = .ok (.iload_n 0, 1) := dk_26 (dk_at dksX1_isDigit_0 0 rfl rfl)
theorem dX1_isDigit_1 : decode cX1_isDigit 1 = .ok (.bipush 48, 2) := dk_16 48 (dk_at dksX1_isDigit_0 1 rfl rfl)
theorem dX1_isDigit_3 : decode cX1_isDigit 3 = .ok (.if_icmp .lt 13, 3) := dk_161 0 13 (dk_at dksX1_isDigit_0 3 rfl rfl)
theorem dX1_isDigit_6 : decode cX1_isDigit 6 = .ok (.iload_n 0, 1) := dk_26 (dk_at dksX1_isDigit_0 6 rfl rfl)
theorem dX1_isDigit_7 : decode cX1_isDigit 7 = .ok (.bipush 57, 2) := dk_16 57 (dk_at dksX1_isDigit_0 7 rfl rfl)
theorem dX1_isDigit_9 : decode cX1_isDigit 9 = .ok (.if_icmp .gt 7, 3) := dk_163 0 7 (dk_at dksX1_isDigit_0 9 rfl rfl)
theorem dX1_isDigit_12 : decode cX1_isDigit 12 = .ok (.iconst 1, 1) := dk_4 (dk_at dksX1_isDigit_0 12 rfl rfl)
theorem dX1_isDigit_13 : decode cX1_isDigit 13 = .ok (.goto 4, 3) := dk_167 0 4 (dk_at dksX1_isDigit_0 13 rfl rfl)
theorem dX1_isDigit_16 : decode cX1_isDigit 16 = .ok (.iconst 0, 1) := dk_3 (dk_at dksX1_isDigit_0 16 rfl rfl)
theorem dX1_isDigit_17 : decode cX1_isDigit 17 = .ok (.ireturn, 1) := dk_172 (dk_at dksX1_isDigit_0 17 rfl rfl)
abbrev cX1_outside : ByteArray := prog_1_method_1_code
def yX1_outside : MethodName := ⟨RX1, "outside", "(III)Z"⟩
def dkwX1_outside_0 : List UInt8 := [26, 27, 161, 0, 8, 26, 28, 164, 0, 7, 4, 167, 0, 4, 3, 172]
abbrev dktX1_outside_0 : List UInt8 := dkwX1_outside_0 ++ []
theorem dksX1_outside_0 : cX1_outside.data.toList.drop 0 = dktX1_outside_0 := by decide +kernel
theorem dX1_outside_0 : decode cX1_outside 0 = .ok (.iload_n 0, 1) := dk_26 (dk_at dksX1_outside_0 0 rfl rfl)
theorem dX1_outside_1 : decode cX1_outside 1 = .ok (.iload_n 1, 1) := dk_27 (dk_at dksX1_outside_0 1 rfl rfl)
theorem dX1_outside_2 : decode cX1_outside 2 = .ok (.if_icmp .lt 8, 3) := dk_161 0 8 (dk_at dksX1_outside_0 2 rfl rfl)
theorem dX1_outside_5 : decode cX1_outside 5 = .ok (.iload_n 0, 1) := dk_26 (dk_at dksX1_outside_0 5 rfl rfl)
theorem dX1_outside_6 : decode cX1_outside 6 = .ok (.iload_n 2, 1) := dk_28 (dk_at dksX1_outside_0 6 rfl rfl)
theorem dX1_outside_7 : decode cX1_outside 7 = .ok (.if_icmp .le 7, 3) := dk_164 0 7 (dk_at dksX1_outside_0 7 rfl rfl)
theorem dX1_outside_10 : decode cX1_outside 10 = .ok (.iconst 1, 1) := dk_4 (dk_at dksX1_outside_0 10 rfl rfl)
theorem dX1_outside_11 : decode cX1_outside 11 = .ok (.goto 4, 3) := dk_167 0 4 (dk_at dksX1_outside_0 11 rfl rfl)
theorem dX1_outside_14 : decode cX1_outside 14 = .ok (.iconst 0, 1) := dk_3 (dk_at dksX1_outside_0 14 rfl rfl)
theorem dX1_outside_15 : decode cX1_outside 15 = .ok (.ireturn, 1) := dk_172 (dk_at dksX1_outside_0 15 rfl rfl)
abbrev cX1_put : ByteArray := prog_1_method_12_code
def yX1_put : MethodName := ⟨RX1, "put", "(JI)Z"⟩
def dkwX1_put_2 : List UInt8 := [20, 0, 97, 127, 136, 79, 42, 89, 180, 0, 94, 4, 96, 181, 0, 94, 132, 4, 255, 167, 255, 217, 4, 172]
abbrev dktX1_put_2 : List UInt8 := dkwX1_put_2 ++ []
def dkwX1_put_1 : List UInt8 := [4, 100, 54, 4, 21, 4, 155, 0, 40, 42, 180, 0, 22, 42, 180, 0, 94, 31, 16, 8, 21, 4, 104, 123]
abbrev dktX1_put_1 : List UInt8 := dkwX1_put_1 ++ dktX1_put_2
def dkwX1_put_0 : List UInt8 := [29, 4, 16, 8, 184, 0, 1, 154, 0, 14, 42, 180, 0, 94, 29, 96, 16, 120, 164, 0, 5, 3, 172, 29]
abbrev dktX1_put_0 : List UInt8 := dkwX1_put_0 ++ dktX1_put_1
theorem dksX1_put_0 : cX1_put.data.toList.drop 0 = dktX1_put_0 := by decide +kernel
theorem dksX1_put_1 : cX1_put.data.toList.drop 24 = dktX1_put_1 := dk_seg dksX1_put_0 24 rfl rfl
theorem dksX1_put_2 : cX1_put.data.toList.drop 48 = dktX1_put_2 := dk_seg dksX1_put_1 24 rfl rfl
theorem dX1_put_0 : decode cX1_put 0 = .ok (.iload_n 3, 1) := dk_29 (dk_at dksX1_put_0 0 rfl rfl)
theorem dX1_put_1 : decode cX1_put 1 = .ok (.iconst 1, 1) := dk_4 (dk_at dksX1_put_0 1 rfl rfl)
theorem dX1_put_2 : decode cX1_put 2 = .ok (.bipush 8, 2) := dk_16 8 (dk_at dksX1_put_0 2 rfl rfl)
theorem dX1_put_4 : decode cX1_put 4 = .ok (.invokestatic 1, 3) := dk_184 0 1 (dk_at dksX1_put_0 4 rfl rfl)
theorem dX1_put_7 : decode cX1_put 7 = .ok (.ifCond .ne 14, 3) := dk_154 0 14 (dk_at dksX1_put_0 7 rfl rfl)
theorem dX1_put_10 : decode cX1_put 10 = .ok (.aload_n 0, 1) := dk_42 (dk_at dksX1_put_0 10 rfl rfl)
theorem dX1_put_11 : decode cX1_put 11 = .ok (.getfield 94, 3) := dk_180 0 94 (dk_at dksX1_put_0 11 rfl rfl)
theorem dX1_put_14 : decode cX1_put 14 = .ok (.iload_n 3, 1) := dk_29 (dk_at dksX1_put_0 14 rfl rfl)
theorem dX1_put_15 : decode cX1_put 15 = .ok (.iadd, 1) := dk_96 (dk_at dksX1_put_0 15 rfl rfl)
theorem dX1_put_16 : decode cX1_put 16 = .ok (.bipush 120, 2) := dk_16 120 (dk_at dksX1_put_0 16 rfl rfl)
theorem dX1_put_18 : decode cX1_put 18 = .ok (.if_icmp .le 5, 3) := dk_164 0 5 (dk_at dksX1_put_0 18 rfl rfl)
theorem dX1_put_21 : decode cX1_put 21 = .ok (.iconst 0, 1) := dk_3 (dk_at dksX1_put_0 21 rfl rfl)
theorem dX1_put_22 : decode cX1_put 22 = .ok (.ireturn, 1) := dk_172 (dk_at dksX1_put_0 22 rfl rfl)
theorem dX1_put_23 : decode cX1_put 23 = .ok (.iload_n 3, 1) := dk_29 (dk_at dksX1_put_0 23 rfl rfl)
theorem dX1_put_24 : decode cX1_put 24 = .ok (.iconst 1, 1) := dk_4 (dk_at dksX1_put_1 0 rfl rfl)
theorem dX1_put_25 : decode cX1_put 25 = .ok (.isub, 1) := dk_100 (dk_at dksX1_put_1 1 rfl rfl)
theorem dX1_put_26 : decode cX1_put 26 = .ok (.istore 4, 2) := dk_54 4 (dk_at dksX1_put_1 2 rfl rfl)
theorem dX1_put_28 : decode cX1_put 28 = .ok (.iload 4, 2) := dk_21 4 (dk_at dksX1_put_1 4 rfl rfl)
theorem dX1_put_30 : decode cX1_put 30 = .ok (.ifCond .lt 40, 3) := dk_155 0 40 (dk_at dksX1_put_1 6 rfl rfl)
theorem dX1_put_33 : decode cX1_put 33 = .ok (.aload_n 0, 1) := dk_42 (dk_at dksX1_put_1 9 rfl rfl)
theorem dX1_put_34 : decode cX1_put 34 = .ok (.getfield 22, 3) := dk_180 0 22 (dk_at dksX1_put_1 10 rfl rfl)
theorem dX1_put_37 : decode cX1_put 37 = .ok (.aload_n 0, 1) := dk_42 (dk_at dksX1_put_1 13 rfl rfl)
theorem dX1_put_38 : decode cX1_put 38 = .ok (.getfield 94, 3) := dk_180 0 94 (dk_at dksX1_put_1 14 rfl rfl)
theorem dX1_put_41 : decode cX1_put 41 = .ok (.lload_n 1, 1) := dk_31 (dk_at dksX1_put_1 17 rfl rfl)
theorem dX1_put_42 : decode cX1_put 42 = .ok (.bipush 8, 2) := dk_16 8 (dk_at dksX1_put_1 18 rfl rfl)
theorem dX1_put_44 : decode cX1_put 44 = .ok (.iload 4, 2) := dk_21 4 (dk_at dksX1_put_1 20 rfl rfl)
theorem dX1_put_46 : decode cX1_put 46 = .ok (.imul, 1) := dk_104 (dk_at dksX1_put_1 22 rfl rfl)
theorem dX1_put_47 : decode cX1_put 47 = .ok (.lshr, 1) := dk_123 (dk_at dksX1_put_1 23 rfl rfl)
theorem dX1_put_48 : decode cX1_put 48 = .ok (.ldc2_w 97, 3) := dk_20 0 97 (dk_at dksX1_put_2 0 rfl rfl)
theorem dX1_put_51 : decode cX1_put 51 = .ok (.land, 1) := dk_127 (dk_at dksX1_put_2 3 rfl rfl)
theorem dX1_put_52 : decode cX1_put 52 = .ok (.l2i, 1) := dk_136 (dk_at dksX1_put_2 4 rfl rfl)
theorem dX1_put_53 : decode cX1_put 53 = .ok (.iastore, 1) := dk_79 (dk_at dksX1_put_2 5 rfl rfl)
theorem dX1_put_54 : decode cX1_put 54 = .ok (.aload_n 0, 1) := dk_42 (dk_at dksX1_put_2 6 rfl rfl)
theorem dX1_put_55 : decode cX1_put 55 = .ok (.dup, 1) := dk_89 (dk_at dksX1_put_2 7 rfl rfl)
theorem dX1_put_56 : decode cX1_put 56 = .ok (.getfield 94, 3) := dk_180 0 94 (dk_at dksX1_put_2 8 rfl rfl)
theorem dX1_put_59 : decode cX1_put 59 = .ok (.iconst 1, 1) := dk_4 (dk_at dksX1_put_2 11 rfl rfl)
theorem dX1_put_60 : decode cX1_put 60 = .ok (.iadd, 1) := dk_96 (dk_at dksX1_put_2 12 rfl rfl)
theorem dX1_put_61 : decode cX1_put 61 = .ok (.putfield 94, 3) := dk_181 0 94 (dk_at dksX1_put_2 13 rfl rfl)
theorem dX1_put_64 : decode cX1_put 64 = .ok (.iinc 4 (-1), 3) := dk_132 4 255 (dk_at dksX1_put_2 16 rfl rfl)
theorem dX1_put_67 : decode cX1_put 67 = .ok (.goto (-39), 3) := dk_167 255 217 (dk_at dksX1_put_2 19 rfl rfl)
theorem dX1_put_70 : decode cX1_put 70 = .ok (.iconst 1, 1) := dk_4 (dk_at dksX1_put_2 22 rfl rfl)
theorem dX1_put_71 : decode cX1_put 71 = .ok (.ireturn, 1) := dk_172 (dk_at dksX1_put_2 23 rfl rfl)
abbrev cX1_wipe : ByteArray := prog_1_method_13_code
def yX1_wipe : MethodName := ⟨RX1, "wipe", "()I"⟩
def dkwX1_wipe_0 : List UInt8 := [42, 180, 0, 94, 60, 42, 3, 181, 0, 94, 27, 172]
abbrev dktX1_wipe_0 : List UInt8 := dkwX1_wipe_0 ++ []
theorem dksX1_wipe_0 : cX1_wipe.data.toList.drop 0 = dktX1_wipe_0 := by decide +kernel
theorem dX1_wipe_0 : decode cX1_wipe 0 = .ok (.aload_n 0, 1) := dk_42 (dk_at dksX1_wipe_0 0 rfl rfl)
theorem dX1_wipe_1 : decode cX1_wipe 1 = .ok (.getfield 94, 3) := dk_180 0 94 (dk_at dksX1_wipe_0 1 rfl rfl)
theorem dX1_wipe_4 : decode cX1_wipe 4 = .ok (.istore_n 1, 1) := dk_60 (dk_at dksX1_wipe_0 4 rfl rfl)
theorem dX1_wipe_5 : decode cX1_wipe 5 = .ok (.aload_n 0, 1) := dk_42 (dk_at dksX1_wipe_0 5 rfl rfl)
theorem dX1_wipe_6 : decode cX1_wipe 6 = .ok (.iconst 0, 1) := dk_3 (dk_at dksX1_wipe_0 6 rfl rfl)
theorem dX1_wipe_7 : decode cX1_wipe 7 = .ok (.putfield 94, 3) := dk_181 0 94 (dk_at dksX1_wipe_0 7 rfl rfl)
theorem dX1_wipe_10 : decode cX1_wipe 10 = .ok (.iload_n 1, 1) := dk_27 (dk_at dksX1_wipe_0 10 rfl rfl)
theorem dX1_wipe_11 : decode cX1_wipe 11 = .ok (.ireturn, 1) := dk_172 (dk_at dksX1_wipe_0 11 rfl rfl)
abbrev cX1_parts : ByteArray := prog_1_method_20_code
def yX1_parts : MethodName := ⟨RX1, "parts", "()I"⟩
def dkwX1_parts_0 : List UInt8 := [42, 180, 0, 29, 180, 0, 147, 172]
abbrev dktX1_parts_0 : List UInt8 := dkwX1_parts_0 ++ []
theorem dksX1_parts_0 : cX1_parts.data.toList.drop 0 = dktX1_parts_0 := by decide +kernel
theorem dX1_parts_0 : decode cX1_parts 0 = .ok (.aload_n 0, 1) := dk_42 (dk_at dksX1_parts_0 0 rfl rfl)
theorem dX1_parts_1 : decode cX1_parts 1 = .ok (.getfield 29, 3) := dk_180 0 29 (dk_at dksX1_parts_0 1 rfl rfl)
theorem dX1_parts_4 : decode cX1_parts 4 = .ok (.getfield 147, 3) := dk_180 0 147 (dk_at dksX1_parts_0 4 rfl rfl)
theorem dX1_parts_7 : decode cX1_parts 7 = .ok (.ireturn, 1) := dk_172 (dk_at dksX1_parts_0 7 rfl rfl)
abbrev cX1_at : ByteArray := prog_1_method_14_code
def yX1_at : MethodName := ⟨RX1, "at", "(I)I"⟩
def dkwX1_at_1 : List UInt8 := [156, 0, 10, 42, 180, 0, 94, 167, 0, 9, 42, 180, 0, 22, 27, 46, 172]
abbrev dktX1_at_1 : List UInt8 := dkwX1_at_1 ++ []
def dkwX1_at_0 : List UInt8 := [27, 2, 42, 180, 0, 94, 4, 100, 184, 0, 1, 153, 0, 11, 187, 0, 99, 89, 183, 0, 101, 191, 27]
abbrev dktX1_at_0 : List UInt8 := dkwX1_at_0 ++ dktX1_at_1
theorem dksX1_at_0 : cX1_at.data.toList.drop 0 = dktX1_at_0 := by decide +kernel
theorem dksX1_at_1 : cX1_at.data.toList.drop 23 = dktX1_at_1 := dk_seg dksX1_at_0 23 rfl rfl
theorem dX1_at_0 : decode cX1_at 0 = .ok (.iload_n 1, 1) := dk_27 (dk_at dksX1_at_0 0 rfl rfl)
theorem dX1_at_1 : decode cX1_at 1 = .ok (.iconst (-1), 1) := dk_2 (dk_at dksX1_at_0 1 rfl rfl)
theorem dX1_at_2 : decode cX1_at 2 = .ok (.aload_n 0, 1) := dk_42 (dk_at dksX1_at_0 2 rfl rfl)
theorem dX1_at_3 : decode cX1_at 3 = .ok (.getfield 94, 3) := dk_180 0 94 (dk_at dksX1_at_0 3 rfl rfl)
theorem dX1_at_6 : decode cX1_at 6 = .ok (.iconst 1, 1) := dk_4 (dk_at dksX1_at_0 6 rfl rfl)
theorem dX1_at_7 : decode cX1_at 7 = .ok (.isub, 1) := dk_100 (dk_at dksX1_at_0 7 rfl rfl)
theorem dX1_at_8 : decode cX1_at 8 = .ok (.invokestatic 1, 3) := dk_184 0 1 (dk_at dksX1_at_0 8 rfl rfl)
theorem dX1_at_11 : decode cX1_at 11 = .ok (.ifCond .eq 11, 3) := dk_153 0 11 (dk_at dksX1_at_0 11 rfl rfl)
theorem dX1_at_14 : decode cX1_at 14 = .ok (.new 99, 3) := dk_187 0 99 (dk_at dksX1_at_0 14 rfl rfl)
theorem dX1_at_17 : decode cX1_at 17 = .ok (.dup, 1) := dk_89 (dk_at dksX1_at_0 17 rfl rfl)
theorem dX1_at_18 : decode cX1_at 18 = .ok (.invokespecial 101, 3) := dk_183 0 101 (dk_at dksX1_at_0 18 rfl rfl)
theorem dX1_at_21 : decode cX1_at 21 = .ok (.athrow, 1) := dk_191 (dk_at dksX1_at_0 21 rfl rfl)
theorem dX1_at_22 : decode cX1_at 22 = .ok (.iload_n 1, 1) := dk_27 (dk_at dksX1_at_0 22 rfl rfl)
theorem dX1_at_23 : decode cX1_at 23 = .ok (.ifCond .ge 10, 3) := dk_156 0 10 (dk_at dksX1_at_1 0 rfl rfl)
theorem dX1_at_26 : decode cX1_at 26 = .ok (.aload_n 0, 1) := dk_42 (dk_at dksX1_at_1 3 rfl rfl)
theorem dX1_at_27 : decode cX1_at 27 = .ok (.getfield 94, 3) := dk_180 0 94 (dk_at dksX1_at_1 4 rfl rfl)
theorem dX1_at_30 : decode cX1_at 30 = .ok (.goto 9, 3) := dk_167 0 9 (dk_at dksX1_at_1 7 rfl rfl)
theorem dX1_at_33 : decode cX1_at 33 = .ok (.aload_n 0, 1) := dk_42 (dk_at dksX1_at_1 10 rfl rfl)
theorem dX1_at_34 : decode cX1_at 34 = .ok (.getfield 22, 3) := dk_180 0 22 (dk_at dksX1_at_1 11 rfl rfl)
theorem dX1_at_37 : decode cX1_at 37 = .ok (.iload_n 1, 1) := dk_27 (dk_at dksX1_at_1 14 rfl rfl)
theorem dX1_at_38 : decode cX1_at 38 = .ok (.iaload, 1) := dk_46 (dk_at dksX1_at_1 15 rfl rfl)
theorem dX1_at_39 : decode cX1_at 39 = .ok (.ireturn, 1) := dk_172 (dk_at dksX1_at_1 16 rfl rfl)
abbrev cX1_transcode : ByteArray := prog_1_method_19_code
def yX1_transcode : MethodName := ⟨RX1, "transcode", "(CII)I"⟩
def dkwX1_transcode_5 : List UInt8 := [21, 6, 46, 79, 132, 6, 1, 167, 255, 227, 42, 25, 5, 182, 0, 177, 42, 180, 0, 94, 172]
abbrev dktX1_transcode_5 : List UInt8 := dkwX1_transcode_5 ++ []
def dkwX1_transcode_4 : List UInt8 := [54, 6, 21, 6, 42, 180, 0, 94, 162, 0, 26, 42, 180, 0, 22, 21, 6, 42, 180, 0, 46, 180, 0, 144]
abbrev dktX1_transcode_4 : List UInt8 := dkwX1_transcode_4 ++ dktX1_transcode_5
def dkwX1_transcode_3 : List UInt8 := [164, 0, 11, 187, 0, 174, 89, 183, 0, 176, 191, 42, 42, 180, 0, 46, 182, 0, 141, 181, 0, 94, 3]
abbrev dktX1_transcode_3 : List UInt8 := dkwX1_transcode_3 ++ dktX1_transcode_4
def dkwX1_transcode_2 : List UInt8 := [199, 0, 5, 2, 172, 42, 25, 4, 25, 5, 29, 182, 0, 138, 42, 180, 0, 46, 182, 0, 141, 16, 120]
abbrev dktX1_transcode_2 : List UInt8 := dkwX1_transcode_2 ++ dktX1_transcode_3
def dkwX1_transcode_1 : List UInt8 := [184, 0, 163, 42, 27, 182, 0, 167, 58, 4, 42, 25, 4, 3, 28, 182, 0, 171, 58, 5, 25, 5]
abbrev dktX1_transcode_1 : List UInt8 := dkwX1_transcode_1 ++ dktX1_transcode_2
def dkwX1_transcode_0 : List UInt8 := [28, 3, 5, 184, 0, 1, 154, 0, 16, 29, 4, 5, 184, 0, 1, 154, 0, 7, 4, 167, 0, 4, 3]
abbrev dktX1_transcode_0 : List UInt8 := dkwX1_transcode_0 ++ dktX1_transcode_1
theorem dksX1_transcode_0 : cX1_transcode.data.toList.drop 0 = dktX1_transcode_0 := by decide +kernel
theorem dksX1_transcode_1 : cX1_transcode.data.toList.drop 23 = dktX1_transcode_1 := dk_seg dksX1_transcode_0 23 rfl rfl
theorem dksX1_transcode_2 : cX1_transcode.data.toList.drop 45 = dktX1_transcode_2 := dk_seg dksX1_transcode_1 22 rfl rfl
theorem dksX1_transcode_3 : cX1_transcode.data.toList.drop 68 = dktX1_transcode_3 := dk_seg dksX1_transcode_2 23 rfl rfl
theorem dksX1_transcode_4 : cX1_transcode.data.toList.drop 91 = dktX1_transcode_4 := dk_seg dksX1_transcode_3 23 rfl rfl
theorem dksX1_transcode_5 : cX1_transcode.data.toList.drop 115 = dktX1_transcode_5 := dk_seg dksX1_transcode_4 24 rfl rfl
theorem dX1_transcode_0 : decode cX1_transcode 0 = .ok (.iload_n 2, 1) := dk_28 (dk_at dksX1_transcode_0 0 rfl rfl)
theorem dX1_transcode_1 : decode cX1_transcode 1 = .ok (.iconst 0, 1) := dk_3 (dk_at dksX1_transcode_0 1 rfl rfl)
theorem dX1_transcode_2 : decode cX1_transcode 2 = .ok (.iconst 2, 1) := dk_5 (dk_at dksX1_transcode_0 2 rfl rfl)
theorem dX1_transcode_3 : decode cX1_transcode 3 = .ok (.invokestatic 1, 3) := dk_184 0 1 (dk_at dksX1_transcode_0 3 rfl rfl)
theorem dX1_transcode_6 : decode cX1_transcode 6 = .ok (.ifCond .ne 16, 3) := dk_154 0 16 (dk_at dksX1_transcode_0 6 rfl rfl)
theorem dX1_transcode_9 : decode cX1_transcode 9 = .ok (.iload_n 3, 1) := dk_29 (dk_at dksX1_transcode_0 9 rfl rfl)
theorem dX1_transcode_10 : decode cX1_transcode 10 = .ok (.iconst 1, 1) := dk_4 (dk_at dksX1_transcode_0 10 rfl rfl)
theorem dX1_transcode_11 : decode cX1_transcode 11 = .ok (.iconst 2, 1) := dk_5 (dk_at dksX1_transcode_0 11 rfl rfl)
theorem dX1_transcode_12 : decode cX1_transcode 12 = .ok (.invokestatic 1, 3) := dk_184 0 1 (dk_at dksX1_transcode_0 12 rfl rfl)
theorem dX1_transcode_15 : decode cX1_transcode 15 = .ok (.ifCond .ne 7, 3) := dk_154 0 7 (dk_at dksX1_transcode_0 15 rfl rfl)
theorem dX1_transcode_18 : decode cX1_transcode 18 = .ok (.iconst 1, 1) := dk_4 (dk_at dksX1_transcode_0 18 rfl rfl)
theorem dX1_transcode_19 : decode cX1_transcode 19 = .ok (.goto 4, 3) := dk_167 0 4 (dk_at dksX1_transcode_0 19 rfl rfl)
theorem dX1_transcode_22 : decode cX1_transcode 22 = .ok (.iconst 0, 1) := dk_3 (dk_at dksX1_transcode_0 22 rfl rfl)
theorem dX1_transcode_23 : decode cX1_transcode 23 = .ok (.invokestatic 163, 3) := dk_184 0 163 (dk_at dksX1_transcode_1 0 rfl rfl)
theorem dX1_transcode_26 : decode cX1_transcode 26 = .ok (.aload_n 0, 1) := dk_42 (dk_at dksX1_transcode_1 3 rfl rfl)
theorem dX1_transcode_27 : decode cX1_transcode 27 = .ok (.iload_n 1, 1) := dk_27 (dk_at dksX1_transcode_1 4 rfl rfl)
theorem dX1_transcode_28 : decode cX1_transcode 28 = .ok (.invokevirtual 167, 3) := dk_182 0 167 (dk_at dksX1_transcode_1 5 rfl rfl)
theorem dX1_transcode_31 : decode cX1_transcode 31 = .ok (.astore 4, 2) := dk_58 4 (dk_at dksX1_transcode_1 8 rfl rfl)
theorem dX1_transcode_33 : decode cX1_transcode 33 = .ok (.aload_n 0, 1) := dk_42 (dk_at dksX1_transcode_1 10 rfl rfl)
theorem dX1_transcode_34 : decode cX1_transcode 34 = .ok (.aload 4, 2) := dk_25 4 (dk_at dksX1_transcode_1 11 rfl rfl)
theorem dX1_transcode_36 : decode cX1_transcode 36 = .ok (.iconst 0, 1) := dk_3 (dk_at dksX1_transcode_1 13 rfl rfl)
theorem dX1_transcode_37 : decode cX1_transcode 37 = .ok (.iload_n 2, 1) := dk_28 (dk_at dksX1_transcode_1 14 rfl rfl)
theorem dX1_transcode_38 : decode cX1_transcode 38 = .ok (.invokevirtual 171, 3) := dk_182 0 171 (dk_at dksX1_transcode_1 15 rfl rfl)
theorem dX1_transcode_41 : decode cX1_transcode 41 = .ok (.astore 5, 2) := dk_58 5 (dk_at dksX1_transcode_1 18 rfl rfl)
theorem dX1_transcode_43 : decode cX1_transcode 43 = .ok (.aload 5, 2) := dk_25 5 (dk_at dksX1_transcode_1 20 rfl rfl)
theorem dX1_transcode_45 : decode cX1_transcode 45 = .ok (.ifnonnull 5, 3) := dk_199 0 5 (dk_at dksX1_transcode_2 0 rfl rfl)
theorem dX1_transcode_48 : decode cX1_transcode 48 = .ok (.iconst (-1), 1) := dk_2 (dk_at dksX1_transcode_2 3 rfl rfl)
theorem dX1_transcode_49 : decode cX1_transcode 49 = .ok (.ireturn, 1) := dk_172 (dk_at dksX1_transcode_2 4 rfl rfl)
theorem dX1_transcode_50 : decode cX1_transcode 50 = .ok (.aload_n 0, 1) := dk_42 (dk_at dksX1_transcode_2 5 rfl rfl)
theorem dX1_transcode_51 : decode cX1_transcode 51 = .ok (.aload 4, 2) := dk_25 4 (dk_at dksX1_transcode_2 6 rfl rfl)
theorem dX1_transcode_53 : decode cX1_transcode 53 = .ok (.aload 5, 2) := dk_25 5 (dk_at dksX1_transcode_2 8 rfl rfl)
theorem dX1_transcode_55 : decode cX1_transcode 55 = .ok (.iload_n 3, 1) := dk_29 (dk_at dksX1_transcode_2 10 rfl rfl)
theorem dX1_transcode_56 : decode cX1_transcode 56 = .ok (.invokevirtual 138, 3) := dk_182 0 138 (dk_at dksX1_transcode_2 11 rfl rfl)
theorem dX1_transcode_59 : decode cX1_transcode 59 = .ok (.aload_n 0, 1) := dk_42 (dk_at dksX1_transcode_2 14 rfl rfl)
theorem dX1_transcode_60 : decode cX1_transcode 60 = .ok (.getfield 46, 3) := dk_180 0 46 (dk_at dksX1_transcode_2 15 rfl rfl)
theorem dX1_transcode_63 : decode cX1_transcode 63 = .ok (.invokevirtual 141, 3) := dk_182 0 141 (dk_at dksX1_transcode_2 18 rfl rfl)
theorem dX1_transcode_66 : decode cX1_transcode 66 = .ok (.bipush 120, 2) := dk_16 120 (dk_at dksX1_transcode_2 21 rfl rfl)
theorem dX1_transcode_68 : decode cX1_transcode 68 = .ok (.if_icmp .le 11, 3) := dk_164 0 11 (dk_at dksX1_transcode_3 0 rfl rfl)
theorem dX1_transcode_71 : decode cX1_transcode 71 = .ok (.new 174, 3) := dk_187 0 174 (dk_at dksX1_transcode_3 3 rfl rfl)
theorem dX1_transcode_74 : decode cX1_transcode 74 = .ok (.dup, 1) := dk_89 (dk_at dksX1_transcode_3 6 rfl rfl)
theorem dX1_transcode_75 : decode cX1_transcode 75 = .ok (.invokespecial 176, 3) := dk_183 0 176 (dk_at dksX1_transcode_3 7 rfl rfl)
theorem dX1_transcode_78 : decode cX1_transcode 78 = .ok (.athrow, 1) := dk_191 (dk_at dksX1_transcode_3 10 rfl rfl)
theorem dX1_transcode_79 : decode cX1_transcode 79 = .ok (.aload_n 0, 1) := dk_42 (dk_at dksX1_transcode_3 11 rfl rfl)
theorem dX1_transcode_80 : decode cX1_transcode 80 = .ok (.aload_n 0, 1) := dk_42 (dk_at dksX1_transcode_3 12 rfl rfl)
theorem dX1_transcode_81 : decode cX1_transcode 81 = .ok (.getfield 46, 3) := dk_180 0 46 (dk_at dksX1_transcode_3 13 rfl rfl)
theorem dX1_transcode_84 : decode cX1_transcode 84 = .ok (.invokevirtual 141, 3) := dk_182 0 141 (dk_at dksX1_transcode_3 16 rfl rfl)
theorem dX1_transcode_87 : decode cX1_transcode 87 = .ok (.putfield 94, 3) := dk_181 0 94 (dk_at dksX1_transcode_3 19 rfl rfl)
theorem dX1_transcode_90 : decode cX1_transcode 90 = .ok (.iconst 0, 1) := dk_3 (dk_at dksX1_transcode_3 22 rfl rfl)
theorem dX1_transcode_91 : decode cX1_transcode 91 = .ok (.istore 6, 2) := dk_54 6 (dk_at dksX1_transcode_4 0 rfl rfl)
theorem dX1_transcode_93 : decode cX1_transcode 93 = .ok (.iload 6, 2) := dk_21 6 (dk_at dksX1_transcode_4 2 rfl rfl)
theorem dX1_transcode_95 : decode cX1_transcode 95 = .ok (.aload_n 0, 1) := dk_42 (dk_at dksX1_transcode_4 4 rfl rfl)
theorem dX1_transcode_96 : decode cX1_transcode 96 = .ok (.getfield 94, 3) := dk_180 0 94 (dk_at dksX1_transcode_4 5 rfl rfl)
theorem dX1_transcode_99 : decode cX1_transcode 99 = .ok (.if_icmp .ge 26, 3) := dk_162 0 26 (dk_at dksX1_transcode_4 8 rfl rfl)
theorem dX1_transcode_102 : decode cX1_transcode 102 = .ok (.aload_n 0, 1) := dk_42 (dk_at dksX1_transcode_4 11 rfl rfl)
theorem dX1_transcode_103 : decode cX1_transcode 103 = .ok (.getfield 22, 3) := dk_180 0 22 (dk_at dksX1_transcode_4 12 rfl rfl)
theorem dX1_transcode_106 : decode cX1_transcode 106 = .ok (.iload 6, 2) := dk_21 6 (dk_at dksX1_transcode_4 15 rfl rfl)
theorem dX1_transcode_108 : decode cX1_transcode 108 = .ok (.aload_n 0, 1) := dk_42 (dk_at dksX1_transcode_4 17 rfl rfl)
theorem dX1_transcode_109 : decode cX1_transcode 109 = .ok (.getfield 46, 3) := dk_180 0 46 (dk_at dksX1_transcode_4 18 rfl rfl)
theorem dX1_transcode_112 : decode cX1_transcode 112 = .ok (.getfield 144, 3) := dk_180 0 144 (dk_at dksX1_transcode_4 21 rfl rfl)
theorem dX1_transcode_115 : decode cX1_transcode 115 = .ok (.iload 6, 2) := dk_21 6 (dk_at dksX1_transcode_5 0 rfl rfl)
theorem dX1_transcode_117 : decode cX1_transcode 117 = .ok (.iaload, 1) := dk_46 (dk_at dksX1_transcode_5 2 rfl rfl)
theorem dX1_transcode_118 : decode cX1_transcode 118 = .ok (.iastore, 1) := dk_79 (dk_at dksX1_transcode_5 3 rfl rfl)
theorem dX1_transcode_119 : decode cX1_transcode 119 = .ok (.iinc 6 1, 3) := dk_132 6 1 (dk_at dksX1_transcode_5 4 rfl rfl)
theorem dX1_transcode_122 : decode cX1_transcode 122 = .ok (.goto (-29), 3) := dk_167 255 227 (dk_at dksX1_transcode_5 7 rfl rfl)
theorem dX1_transcode_125 : decode cX1_transcode 125 = .ok (.aload_n 0, 1) := dk_42 (dk_at dksX1_transcode_5 10 rfl rfl)
theorem dX1_transcode_126 : decode cX1_transcode 126 = .ok (.aload 5, 2) := dk_25 5 (dk_at dksX1_transcode_5 11 rfl rfl)
theorem dX1_transcode_128 : decode cX1_transcode 128 = .ok (.invokevirtual 177, 3) := dk_182 0 177 (dk_at dksX1_transcode_5 13 rfl rfl)
theorem dX1_transcode_131 : decode cX1_transcode 131 = .ok (.aload_n 0, 1) := dk_42 (dk_at dksX1_transcode_5 16 rfl rfl)
theorem dX1_transcode_132 : decode cX1_transcode 132 = .ok (.getfield 94, 3) := dk_180 0 94 (dk_at dksX1_transcode_5 17 rfl rfl)
theorem dX1_transcode_135 : decode cX1_transcode 135 = .ok (.ireturn, 1) := dk_172 (dk_at dksX1_transcode_5 20 rfl rfl)
abbrev cX1_need : ByteArray := prog_1_method_7_code
def yX1_need : MethodName := ⟨RX1, "need", "(Z)V"⟩
def dkwX1_need_0 : List UInt8 := [26, 154, 0, 11, 187, 0, 66, 89, 183, 0, 68, 191, 177]
abbrev dktX1_need_0 : List UInt8 := dkwX1_need_0 ++ []
theorem dksX1_need_0 : cX1_need.data.toList.drop 0 = dktX1_need_0 := by decide +kernel
theorem dX1_need_0 : decode cX1_need 0 = .ok (.iload_n 0, 1) := dk_26 (dk_at dksX1_need_0 0 rfl rfl)
theorem dX1_need_1 : decode cX1_need 1 = .ok (.ifCond .ne 11, 3) := dk_154 0 11 (dk_at dksX1_need_0 1 rfl rfl)
theorem dX1_need_4 : decode cX1_need 4 = .ok (.new 66, 3) := dk_187 0 66 (dk_at dksX1_need_0 4 rfl rfl)
theorem dX1_need_7 : decode cX1_need 7 = .ok (.dup, 1) := dk_89 (dk_at dksX1_need_0 7 rfl rfl)
theorem dX1_need_8 : decode cX1_need 8 = .ok (.invokespecial 68, 3) := dk_183 0 68 (dk_at dksX1_need_0 8 rfl rfl)
theorem dX1_need_11 : decode cX1_need 11 = .ok (.athrow, 1) := dk_191 (dk_at dksX1_need_0 11 rfl rfl)
theorem dX1_need_12 : decode cX1_need 12 = .ok (.return_, 1) := dk_177 (dk_at dksX1_need_0 12 rfl rfl)
abbrev cX1_named : ByteArray := prog_1_method_18_code
def yX1_named : MethodName := ⟨RX1, "named", "(C)LNotationDesk$Type;"⟩
def dkwX1_named_2 : List UInt8 := [187, 0, 160, 89, 183, 0, 162, 191, 44, 176]
abbrev dktX1_named_2 : List UInt8 := dkwX1_named_2 ++ []
def dkwX1_named_1 : List UInt8 := [163, 0, 18, 42, 180, 0, 18, 180, 0, 157, 27, 16, 65, 100, 50, 167, 0, 4, 1, 77, 44, 199, 0, 11]
abbrev dktX1_named_1 : List UInt8 := dkwX1_named_1 ++ dktX1_named_2
def dkwX1_named_0 : List UInt8 := [42, 180, 0, 69, 154, 0, 11, 187, 0, 154, 89, 183, 0, 156, 191, 27, 16, 65, 161, 0, 24, 27, 16, 90]
abbrev dktX1_named_0 : List UInt8 := dkwX1_named_0 ++ dktX1_named_1
theorem dksX1_named_0 : cX1_named.data.toList.drop 0 = dktX1_named_0 := by decide +kernel
theorem dksX1_named_1 : cX1_named.data.toList.drop 24 = dktX1_named_1 := dk_seg dksX1_named_0 24 rfl rfl
theorem dksX1_named_2 : cX1_named.data.toList.drop 48 = dktX1_named_2 := dk_seg dksX1_named_1 24 rfl rfl
theorem dX1_named_0 : decode cX1_named 0 = .ok (.aload_n 0, 1) := dk_42 (dk_at dksX1_named_0 0 rfl rfl)
theorem dX1_named_1 : decode cX1_named 1 = .ok (.getfield 69, 3) := dk_180 0 69 (dk_at dksX1_named_0 1 rfl rfl)
theorem dX1_named_4 : decode cX1_named 4 = .ok (.ifCond .ne 11, 3) := dk_154 0 11 (dk_at dksX1_named_0 4 rfl rfl)
theorem dX1_named_7 : decode cX1_named 7 = .ok (.new 154, 3) := dk_187 0 154 (dk_at dksX1_named_0 7 rfl rfl)
theorem dX1_named_10 : decode cX1_named 10 = .ok (.dup, 1) := dk_89 (dk_at dksX1_named_0 10 rfl rfl)
theorem dX1_named_11 : decode cX1_named 11 = .ok (.invokespecial 156, 3) := dk_183 0 156 (dk_at dksX1_named_0 11 rfl rfl)
theorem dX1_named_14 : decode cX1_named 14 = .ok (.athrow, 1) := dk_191 (dk_at dksX1_named_0 14 rfl rfl)
theorem dX1_named_15 : decode cX1_named 15 = .ok (.iload_n 1, 1) := dk_27 (dk_at dksX1_named_0 15 rfl rfl)
theorem dX1_named_16 : decode cX1_named 16 = .ok (.bipush 65, 2) := dk_16 65 (dk_at dksX1_named_0 16 rfl rfl)
theorem dX1_named_18 : decode cX1_named 18 = .ok (.if_icmp .lt 24, 3) := dk_161 0 24 (dk_at dksX1_named_0 18 rfl rfl)
theorem dX1_named_21 : decode cX1_named 21 = .ok (.iload_n 1, 1) := dk_27 (dk_at dksX1_named_0 21 rfl rfl)
theorem dX1_named_22 : decode cX1_named 22 = .ok (.bipush 90, 2) := dk_16 90 (dk_at dksX1_named_0 22 rfl rfl)
theorem dX1_named_24 : decode cX1_named 24 = .ok (.if_icmp .gt 18, 3) := dk_163 0 18 (dk_at dksX1_named_1 0 rfl rfl)
theorem dX1_named_27 : decode cX1_named 27 = .ok (.aload_n 0, 1) := dk_42 (dk_at dksX1_named_1 3 rfl rfl)
theorem dX1_named_28 : decode cX1_named 28 = .ok (.getfield 18, 3) := dk_180 0 18 (dk_at dksX1_named_1 4 rfl rfl)
theorem dX1_named_31 : decode cX1_named 31 = .ok (.getfield 157, 3) := dk_180 0 157 (dk_at dksX1_named_1 7 rfl rfl)
theorem dX1_named_34 : decode cX1_named 34 = .ok (.iload_n 1, 1) := dk_27 (dk_at dksX1_named_1 10 rfl rfl)
theorem dX1_named_35 : decode cX1_named 35 = .ok (.bipush 65, 2) := dk_16 65 (dk_at dksX1_named_1 11 rfl rfl)
theorem dX1_named_37 : decode cX1_named 37 = .ok (.isub, 1) := dk_100 (dk_at dksX1_named_1 13 rfl rfl)
theorem dX1_named_38 : decode cX1_named 38 = .ok (.aaload, 1) := dk_50 (dk_at dksX1_named_1 14 rfl rfl)
theorem dX1_named_39 : decode cX1_named 39 = .ok (.goto 4, 3) := dk_167 0 4 (dk_at dksX1_named_1 15 rfl rfl)
theorem dX1_named_42 : decode cX1_named 42 = .ok (.aconst_null, 1) := dk_1 (dk_at dksX1_named_1 18 rfl rfl)
theorem dX1_named_43 : decode cX1_named 43 = .ok (.astore_n 2, 1) := dk_77 (dk_at dksX1_named_1 19 rfl rfl)
theorem dX1_named_44 : decode cX1_named 44 = .ok (.aload_n 2, 1) := dk_44 (dk_at dksX1_named_1 20 rfl rfl)
theorem dX1_named_45 : decode cX1_named 45 = .ok (.ifnonnull 11, 3) := dk_199 0 11 (dk_at dksX1_named_1 21 rfl rfl)
theorem dX1_named_48 : decode cX1_named 48 = .ok (.new 160, 3) := dk_187 0 160 (dk_at dksX1_named_2 0 rfl rfl)
theorem dX1_named_51 : decode cX1_named 51 = .ok (.dup, 1) := dk_89 (dk_at dksX1_named_2 3 rfl rfl)
theorem dX1_named_52 : decode cX1_named 52 = .ok (.invokespecial 162, 3) := dk_183 0 162 (dk_at dksX1_named_2 4 rfl rfl)
theorem dX1_named_55 : decode cX1_named 55 = .ok (.athrow, 1) := dk_191 (dk_at dksX1_named_2 7 rfl rfl)
theorem dX1_named_56 : decode cX1_named 56 = .ok (.aload_n 2, 1) := dk_44 (dk_at dksX1_named_2 8 rfl rfl)
theorem dX1_named_57 : decode cX1_named 57 = .ok (.areturn, 1) := dk_176 (dk_at dksX1_named_2 9 rfl rfl)
abbrev cX1_read : ByteArray := prog_1_method_16_code
def yX1_read : MethodName := ⟨RX1, "read", "(LNotationDesk$Type;II)LNotationDesk$Part;"⟩
def dkwX1_read_7 : List UInt8 := [132, 6, 1, 167, 255, 210, 21, 5, 153, 0, 8, 25, 4, 167, 0, 4, 1, 176]
abbrev dktX1_read_7 : List UInt8 := dkwX1_read_7 ++ []
def dkwX1_read_6 : List UInt8 := [21, 6, 28, 100, 46, 42, 180, 0, 22, 21, 6, 46, 160, 0, 7, 4, 167, 0, 4, 3, 54, 5]
abbrev dktX1_read_6 : List UInt8 := dkwX1_read_6 ++ dktX1_read_7
def dkwX1_read_5 : List UInt8 := [54, 6, 21, 6, 42, 180, 0, 94, 162, 0, 43, 21, 5, 153, 0, 38, 42, 180, 0, 46, 180, 0, 144]
abbrev dktX1_read_5 : List UInt8 := dkwX1_read_5 ++ dktX1_read_6
def dkwX1_read_4 : List UInt8 := [180, 0, 46, 182, 0, 141, 42, 180, 0, 94, 28, 100, 160, 0, 7, 4, 167, 0, 4, 3, 54, 5, 28]
abbrev dktX1_read_4 : List UInt8 := dkwX1_read_4 ++ dktX1_read_5
def dkwX1_read_3 : List UInt8 := [180, 0, 94, 159, 0, 5, 1, 176, 29, 154, 0, 6, 25, 4, 176, 42, 43, 25, 4, 29, 182, 0, 138, 42]
abbrev dktX1_read_3 : List UInt8 := dkwX1_read_3 ++ dktX1_read_4
def dkwX1_read_2 : List UInt8 := [2, 182, 0, 131, 58, 4, 25, 4, 198, 0, 22, 29, 5, 159, 0, 19, 42, 180, 0, 39, 180, 0, 135, 42]
abbrev dktX1_read_2 : List UInt8 := dkwX1_read_2 ++ dktX1_read_3
def dkwX1_read_1 : List UInt8 := [182, 0, 124, 29, 5, 160, 0, 14, 43, 42, 180, 0, 39, 182, 0, 127, 167, 0, 12, 43, 42, 180, 0, 39]
abbrev dktX1_read_1 : List UInt8 := dkwX1_read_1 ++ dktX1_read_2
def dkwX1_read_0 : List UInt8 := [42, 180, 0, 33, 182, 0, 73, 42, 180, 0, 39, 42, 180, 0, 22, 28, 42, 180, 0, 94, 42, 180, 0, 33]
abbrev dktX1_read_0 : List UInt8 := dkwX1_read_0 ++ dktX1_read_1
theorem dksX1_read_0 : cX1_read.data.toList.drop 0 = dktX1_read_0 := by decide +kernel
theorem dksX1_read_1 : cX1_read.data.toList.drop 24 = dktX1_read_1 := dk_seg dksX1_read_0 24 rfl rfl
theorem dksX1_read_2 : cX1_read.data.toList.drop 48 = dktX1_read_2 := dk_seg dksX1_read_1 24 rfl rfl
theorem dksX1_read_3 : cX1_read.data.toList.drop 72 = dktX1_read_3 := dk_seg dksX1_read_2 24 rfl rfl
theorem dksX1_read_4 : cX1_read.data.toList.drop 96 = dktX1_read_4 := dk_seg dksX1_read_3 24 rfl rfl
theorem dksX1_read_5 : cX1_read.data.toList.drop 119 = dktX1_read_5 := dk_seg dksX1_read_4 23 rfl rfl
theorem dksX1_read_6 : cX1_read.data.toList.drop 142 = dktX1_read_6 := dk_seg dksX1_read_5 23 rfl rfl
theorem dksX1_read_7 : cX1_read.data.toList.drop 164 = dktX1_read_7 := dk_seg dksX1_read_6 22 rfl rfl
theorem dX1_read_0 : decode cX1_read 0 = .ok (.aload_n 0, 1) := dk_42 (dk_at dksX1_read_0 0 rfl rfl)
theorem dX1_read_1 : decode cX1_read 1 = .ok (.getfield 33, 3) := dk_180 0 33 (dk_at dksX1_read_0 1 rfl rfl)
theorem dX1_read_4 : decode cX1_read 4 = .ok (.invokevirtual 73, 3) := dk_182 0 73 (dk_at dksX1_read_0 4 rfl rfl)
theorem dX1_read_7 : decode cX1_read 7 = .ok (.aload_n 0, 1) := dk_42 (dk_at dksX1_read_0 7 rfl rfl)
theorem dX1_read_8 : decode cX1_read 8 = .ok (.getfield 39, 3) := dk_180 0 39 (dk_at dksX1_read_0 8 rfl rfl)
theorem dX1_read_11 : decode cX1_read 11 = .ok (.aload_n 0, 1) := dk_42 (dk_at dksX1_read_0 11 rfl rfl)
theorem dX1_read_12 : decode cX1_read 12 = .ok (.getfield 22, 3) := dk_180 0 22 (dk_at dksX1_read_0 12 rfl rfl)
theorem dX1_read_15 : decode cX1_read 15 = .ok (.iload_n 2, 1) := dk_28 (dk_at dksX1_read_0 15 rfl rfl)
theorem dX1_read_16 : decode cX1_read 16 = .ok (.aload_n 0, 1) := dk_42 (dk_at dksX1_read_0 16 rfl rfl)
theorem dX1_read_17 : decode cX1_read 17 = .ok (.getfield 94, 3) := dk_180 0 94 (dk_at dksX1_read_0 17 rfl rfl)
theorem dX1_read_20 : decode cX1_read 20 = .ok (.aload_n 0, 1) := dk_42 (dk_at dksX1_read_0 20 rfl rfl)
theorem dX1_read_21 : decode cX1_read 21 = .ok (.getfield 33, 3) := dk_180 0 33 (dk_at dksX1_read_0 21 rfl rfl)
theorem dX1_read_24 : decode cX1_read 24 = .ok (.invokevirtual 124, 3) := dk_182 0 124 (dk_at dksX1_read_1 0 rfl rfl)
theorem dX1_read_27 : decode cX1_read 27 = .ok (.iload_n 3, 1) := dk_29 (dk_at dksX1_read_1 3 rfl rfl)
theorem dX1_read_28 : decode cX1_read 28 = .ok (.iconst 2, 1) := dk_5 (dk_at dksX1_read_1 4 rfl rfl)
theorem dX1_read_29 : decode cX1_read 29 = .ok (.if_icmp .ne 14, 3) := dk_160 0 14 (dk_at dksX1_read_1 5 rfl rfl)
theorem dX1_read_32 : decode cX1_read 32 = .ok (.aload_n 1, 1) := dk_43 (dk_at dksX1_read_1 8 rfl rfl)
theorem dX1_read_33 : decode cX1_read 33 = .ok (.aload_n 0, 1) := dk_42 (dk_at dksX1_read_1 9 rfl rfl)
theorem dX1_read_34 : decode cX1_read 34 = .ok (.getfield 39, 3) := dk_180 0 39 (dk_at dksX1_read_1 10 rfl rfl)
theorem dX1_read_37 : decode cX1_read 37 = .ok (.invokevirtual 127, 3) := dk_182 0 127 (dk_at dksX1_read_1 13 rfl rfl)
theorem dX1_read_40 : decode cX1_read 40 = .ok (.goto 12, 3) := dk_167 0 12 (dk_at dksX1_read_1 16 rfl rfl)
theorem dX1_read_43 : decode cX1_read 43 = .ok (.aload_n 1, 1) := dk_43 (dk_at dksX1_read_1 19 rfl rfl)
theorem dX1_read_44 : decode cX1_read 44 = .ok (.aload_n 0, 1) := dk_42 (dk_at dksX1_read_1 20 rfl rfl)
theorem dX1_read_45 : decode cX1_read 45 = .ok (.getfield 39, 3) := dk_180 0 39 (dk_at dksX1_read_1 21 rfl rfl)
theorem dX1_read_48 : decode cX1_read 48 = .ok (.iconst (-1), 1) := dk_2 (dk_at dksX1_read_2 0 rfl rfl)
theorem dX1_read_49 : decode cX1_read 49 = .ok (.invokevirtual 131, 3) := dk_182 0 131 (dk_at dksX1_read_2 1 rfl rfl)
theorem dX1_read_52 : decode cX1_read 52 = .ok (.astore 4, 2) := dk_58 4 (dk_at dksX1_read_2 4 rfl rfl)
theorem dX1_read_54 : decode cX1_read 54 = .ok (.aload 4, 2) := dk_25 4 (dk_at dksX1_read_2 6 rfl rfl)
theorem dX1_read_56 : decode cX1_read 56 = .ok (.ifnull 22, 3) := dk_198 0 22 (dk_at dksX1_read_2 8 rfl rfl)
theorem dX1_read_59 : decode cX1_read 59 = .ok (.iload_n 3, 1) := dk_29 (dk_at dksX1_read_2 11 rfl rfl)
theorem dX1_read_60 : decode cX1_read 60 = .ok (.iconst 2, 1) := dk_5 (dk_at dksX1_read_2 12 rfl rfl)
theorem dX1_read_61 : decode cX1_read 61 = .ok (.if_icmp .eq 19, 3) := dk_159 0 19 (dk_at dksX1_read_2 13 rfl rfl)
theorem dX1_read_64 : decode cX1_read 64 = .ok (.aload_n 0, 1) := dk_42 (dk_at dksX1_read_2 16 rfl rfl)
theorem dX1_read_65 : decode cX1_read 65 = .ok (.getfield 39, 3) := dk_180 0 39 (dk_at dksX1_read_2 17 rfl rfl)
theorem dX1_read_68 : decode cX1_read 68 = .ok (.getfield 135, 3) := dk_180 0 135 (dk_at dksX1_read_2 20 rfl rfl)
theorem dX1_read_71 : decode cX1_read 71 = .ok (.aload_n 0, 1) := dk_42 (dk_at dksX1_read_2 23 rfl rfl)
theorem dX1_read_72 : decode cX1_read 72 = .ok (.getfield 94, 3) := dk_180 0 94 (dk_at dksX1_read_3 0 rfl rfl)
theorem dX1_read_75 : decode cX1_read 75 = .ok (.if_icmp .eq 5, 3) := dk_159 0 5 (dk_at dksX1_read_3 3 rfl rfl)
theorem dX1_read_78 : decode cX1_read 78 = .ok (.aconst_null, 1) := dk_1 (dk_at dksX1_read_3 6 rfl rfl)
theorem dX1_read_79 : decode cX1_read 79 = .ok (.areturn, 1) := dk_176 (dk_at dksX1_read_3 7 rfl rfl)
theorem dX1_read_80 : decode cX1_read 80 = .ok (.iload_n 3, 1) := dk_29 (dk_at dksX1_read_3 8 rfl rfl)
theorem dX1_read_81 : decode cX1_read 81 = .ok (.ifCond .ne 6, 3) := dk_154 0 6 (dk_at dksX1_read_3 9 rfl rfl)
theorem dX1_read_84 : decode cX1_read 84 = .ok (.aload 4, 2) := dk_25 4 (dk_at dksX1_read_3 12 rfl rfl)
theorem dX1_read_86 : decode cX1_read 86 = .ok (.areturn, 1) := dk_176 (dk_at dksX1_read_3 14 rfl rfl)
theorem dX1_read_87 : decode cX1_read 87 = .ok (.aload_n 0, 1) := dk_42 (dk_at dksX1_read_3 15 rfl rfl)
theorem dX1_read_88 : decode cX1_read 88 = .ok (.aload_n 1, 1) := dk_43 (dk_at dksX1_read_3 16 rfl rfl)
theorem dX1_read_89 : decode cX1_read 89 = .ok (.aload 4, 2) := dk_25 4 (dk_at dksX1_read_3 17 rfl rfl)
theorem dX1_read_91 : decode cX1_read 91 = .ok (.iload_n 3, 1) := dk_29 (dk_at dksX1_read_3 19 rfl rfl)
theorem dX1_read_92 : decode cX1_read 92 = .ok (.invokevirtual 138, 3) := dk_182 0 138 (dk_at dksX1_read_3 20 rfl rfl)
theorem dX1_read_95 : decode cX1_read 95 = .ok (.aload_n 0, 1) := dk_42 (dk_at dksX1_read_3 23 rfl rfl)
theorem dX1_read_96 : decode cX1_read 96 = .ok (.getfield 46, 3) := dk_180 0 46 (dk_at dksX1_read_4 0 rfl rfl)
theorem dX1_read_99 : decode cX1_read 99 = .ok (.invokevirtual 141, 3) := dk_182 0 141 (dk_at dksX1_read_4 3 rfl rfl)
theorem dX1_read_102 : decode cX1_read 102 = .ok (.aload_n 0, 1) := dk_42 (dk_at dksX1_read_4 6 rfl rfl)
theorem dX1_read_103 : decode cX1_read 103 = .ok (.getfield 94, 3) := dk_180 0 94 (dk_at dksX1_read_4 7 rfl rfl)
theorem dX1_read_106 : decode cX1_read 106 = .ok (.iload_n 2, 1) := dk_28 (dk_at dksX1_read_4 10 rfl rfl)
theorem dX1_read_107 : decode cX1_read 107 = .ok (.isub, 1) := dk_100 (dk_at dksX1_read_4 11 rfl rfl)
theorem dX1_read_108 : decode cX1_read 108 = .ok (.if_icmp .ne 7, 3) := dk_160 0 7 (dk_at dksX1_read_4 12 rfl rfl)
theorem dX1_read_111 : decode cX1_read 111 = .ok (.iconst 1, 1) := dk_4 (dk_at dksX1_read_4 15 rfl rfl)
theorem dX1_read_112 : decode cX1_read 112 = .ok (.goto 4, 3) := dk_167 0 4 (dk_at dksX1_read_4 16 rfl rfl)
theorem dX1_read_115 : decode cX1_read 115 = .ok (.iconst 0, 1) := dk_3 (dk_at dksX1_read_4 19 rfl rfl)
theorem dX1_read_116 : decode cX1_read 116 = .ok (.istore 5, 2) := dk_54 5 (dk_at dksX1_read_4 20 rfl rfl)
theorem dX1_read_118 : decode cX1_read 118 = .ok (.iload_n 2, 1) := dk_28 (dk_at dksX1_read_4 22 rfl rfl)
theorem dX1_read_119 : decode cX1_read 119 = .ok (.istore 6, 2) := dk_54 6 (dk_at dksX1_read_5 0 rfl rfl)
theorem dX1_read_121 : decode cX1_read 121 = .ok (.iload 6, 2) := dk_21 6 (dk_at dksX1_read_5 2 rfl rfl)
theorem dX1_read_123 : decode cX1_read 123 = .ok (.aload_n 0, 1) := dk_42 (dk_at dksX1_read_5 4 rfl rfl)
theorem dX1_read_124 : decode cX1_read 124 = .ok (.getfield 94, 3) := dk_180 0 94 (dk_at dksX1_read_5 5 rfl rfl)
theorem dX1_read_127 : decode cX1_read 127 = .ok (.if_icmp .ge 43, 3) := dk_162 0 43 (dk_at dksX1_read_5 8 rfl rfl)
theorem dX1_read_130 : decode cX1_read 130 = .ok (.iload 5, 2) := dk_21 5 (dk_at dksX1_read_5 11 rfl rfl)
theorem dX1_read_132 : decode cX1_read 132 = .ok (.ifCond .eq 38, 3) := dk_153 0 38 (dk_at dksX1_read_5 13 rfl rfl)
theorem dX1_read_135 : decode cX1_read 135 = .ok (.aload_n 0, 1) := dk_42 (dk_at dksX1_read_5 16 rfl rfl)
theorem dX1_read_136 : decode cX1_read 136 = .ok (.getfield 46, 3) := dk_180 0 46 (dk_at dksX1_read_5 17 rfl rfl)
theorem dX1_read_139 : decode cX1_read 139 = .ok (.getfield 144, 3) := dk_180 0 144 (dk_at dksX1_read_5 20 rfl rfl)
theorem dX1_read_142 : decode cX1_read 142 = .ok (.iload 6, 2) := dk_21 6 (dk_at dksX1_read_6 0 rfl rfl)
theorem dX1_read_144 : decode cX1_read 144 = .ok (.iload_n 2, 1) := dk_28 (dk_at dksX1_read_6 2 rfl rfl)
theorem dX1_read_145 : decode cX1_read 145 = .ok (.isub, 1) := dk_100 (dk_at dksX1_read_6 3 rfl rfl)
theorem dX1_read_146 : decode cX1_read 146 = .ok (.iaload, 1) := dk_46 (dk_at dksX1_read_6 4 rfl rfl)
theorem dX1_read_147 : decode cX1_read 147 = .ok (.aload_n 0, 1) := dk_42 (dk_at dksX1_read_6 5 rfl rfl)
theorem dX1_read_148 : decode cX1_read 148 = .ok (.getfield 22, 3) := dk_180 0 22 (dk_at dksX1_read_6 6 rfl rfl)
theorem dX1_read_151 : decode cX1_read 151 = .ok (.iload 6, 2) := dk_21 6 (dk_at dksX1_read_6 9 rfl rfl)
theorem dX1_read_153 : decode cX1_read 153 = .ok (.iaload, 1) := dk_46 (dk_at dksX1_read_6 11 rfl rfl)
theorem dX1_read_154 : decode cX1_read 154 = .ok (.if_icmp .ne 7, 3) := dk_160 0 7 (dk_at dksX1_read_6 12 rfl rfl)
theorem dX1_read_157 : decode cX1_read 157 = .ok (.iconst 1, 1) := dk_4 (dk_at dksX1_read_6 15 rfl rfl)
theorem dX1_read_158 : decode cX1_read 158 = .ok (.goto 4, 3) := dk_167 0 4 (dk_at dksX1_read_6 16 rfl rfl)
theorem dX1_read_161 : decode cX1_read 161 = .ok (.iconst 0, 1) := dk_3 (dk_at dksX1_read_6 19 rfl rfl)
theorem dX1_read_162 : decode cX1_read 162 = .ok (.istore 5, 2) := dk_54 5 (dk_at dksX1_read_6 20 rfl rfl)
theorem dX1_read_164 : decode cX1_read 164 = .ok (.iinc 6 1, 3) := dk_132 6 1 (dk_at dksX1_read_7 0 rfl rfl)
theorem dX1_read_167 : decode cX1_read 167 = .ok (.goto (-46), 3) := dk_167 255 210 (dk_at dksX1_read_7 3 rfl rfl)
theorem dX1_read_170 : decode cX1_read 170 = .ok (.iload 5, 2) := dk_21 5 (dk_at dksX1_read_7 6 rfl rfl)
theorem dX1_read_172 : decode cX1_read 172 = .ok (.ifCond .eq 8, 3) := dk_153 0 8 (dk_at dksX1_read_7 8 rfl rfl)
theorem dX1_read_175 : decode cX1_read 175 = .ok (.aload 4, 2) := dk_25 4 (dk_at dksX1_read_7 11 rfl rfl)
theorem dX1_read_177 : decode cX1_read 177 = .ok (.goto 4, 3) := dk_167 0 4 (dk_at dksX1_read_7 13 rfl rfl)
theorem dX1_read_180 : decode cX1_read 180 = .ok (.aconst_null, 1) := dk_1 (dk_at dksX1_read_7 16 rfl rfl)
theorem dX1_read_181 : decode cX1_read 181 = .ok (.areturn, 1) := dk_176 (dk_at dksX1_read_7 17 rfl rfl)
abbrev cX1_width : ByteArray := prog_1_method_3_code
def yX1_width : MethodName := ⟨RX1, "width", "(I)I"⟩
def dkwX1_width_0 : List UInt8 := [3, 60, 26, 27, 122, 153, 0, 9, 132, 1, 1, 167, 255, 247, 27, 172]
abbrev dktX1_width_0 : List UInt8 := dkwX1_width_0 ++ []
theorem dksX1_width_0 : cX1_width.data.toList.drop 0 = dktX1_width_0 := by decide +kernel
theorem dX1_width_0 : decode cX1_width 0 = .ok (.iconst 0, 1) := dk_3 (dk_at dksX1_width_0 0 rfl rfl)
theorem dX1_width_1 : decode cX1_width 1 = .ok (.istore_n 1, 1) := dk_60 (dk_at dksX1_width_0 1 rfl rfl)
theorem dX1_width_2 : decode cX1_width 2 = .ok (.iload_n 0, 1) := dk_26 (dk_at dksX1_width_0 2 rfl rfl)
theorem dX1_width_3 : decode cX1_width 3 = .ok (.iload_n 1, 1) := dk_27 (dk_at dksX1_width_0 3 rfl rfl)
theorem dX1_width_4 : decode cX1_width 4 = .ok (.ishr, 1) := dk_122 (dk_at dksX1_width_0 4 rfl rfl)
theorem dX1_width_5 : decode cX1_width 5 = .ok (.ifCond .eq 9, 3) := dk_153 0 9 (dk_at dksX1_width_0 5 rfl rfl)
theorem dX1_width_8 : decode cX1_width 8 = .ok (.iinc 1 1, 3) := dk_132 1 1 (dk_at dksX1_width_0 8 rfl rfl)
theorem dX1_width_11 : decode cX1_width 11 = .ok (.goto (-9), 3) := dk_167 255 247 (dk_at dksX1_width_0 11 rfl rfl)
theorem dX1_width_14 : decode cX1_width 14 = .ok (.iload_n 1, 1) := dk_27 (dk_at dksX1_width_0 14 rfl rfl)
theorem dX1_width_15 : decode cX1_width 15 = .ok (.ireturn, 1) := dk_172 (dk_at dksX1_width_0 15 rfl rfl)
abbrev cX1_bytesOf : ByteArray := prog_1_method_4_code
def yX1_bytesOf : MethodName := ⟨RX1, "bytesOf", "(I)I"⟩
def dkwX1_bytesOf_2 : List UInt8 := [167, 0, 4, 7, 172]
abbrev dktX1_bytesOf_2 : List UInt8 := dkwX1_bytesOf_2 ++ []
def dkwX1_bytesOf_1 : List UInt8 := [184, 0, 1, 154, 0, 7, 5, 167, 0, 19, 26, 18, 7, 18, 8, 184, 0, 1, 154, 0, 7, 6]
abbrev dktX1_bytesOf_1 : List UInt8 := dkwX1_bytesOf_1 ++ dktX1_bytesOf_2
def dkwX1_bytesOf_0 : List UInt8 := [26, 16, 128, 16, 127, 184, 0, 1, 154, 0, 7, 4, 167, 0, 36, 26, 17, 128, 0, 17, 127, 255]
abbrev dktX1_bytesOf_0 : List UInt8 := dkwX1_bytesOf_0 ++ dktX1_bytesOf_1
theorem dksX1_bytesOf_0 : cX1_bytesOf.data.toList.drop 0 = dktX1_bytesOf_0 := by decide +kernel
theorem dksX1_bytesOf_1 : cX1_bytesOf.data.toList.drop 22 = dktX1_bytesOf_1 := dk_seg dksX1_bytesOf_0 22 rfl rfl
theorem dksX1_bytesOf_2 : cX1_bytesOf.data.toList.drop 44 = dktX1_bytesOf_2 := dk_seg dksX1_bytesOf_1 22 rfl rfl
theorem dX1_bytesOf_0 : decode cX1_bytesOf 0 = .ok (.iload_n 0, 1) := dk_26 (dk_at dksX1_bytesOf_0 0 rfl rfl)
theorem dX1_bytesOf_1 : decode cX1_bytesOf 1 = .ok (.bipush (-128), 2) := dk_16 128 (dk_at dksX1_bytesOf_0 1 rfl rfl)
theorem dX1_bytesOf_3 : decode cX1_bytesOf 3 = .ok (.bipush 127, 2) := dk_16 127 (dk_at dksX1_bytesOf_0 3 rfl rfl)
theorem dX1_bytesOf_5 : decode cX1_bytesOf 5 = .ok (.invokestatic 1, 3) := dk_184 0 1 (dk_at dksX1_bytesOf_0 5 rfl rfl)
theorem dX1_bytesOf_8 : decode cX1_bytesOf 8 = .ok (.ifCond .ne 7, 3) := dk_154 0 7 (dk_at dksX1_bytesOf_0 8 rfl rfl)
theorem dX1_bytesOf_11 : decode cX1_bytesOf 11 = .ok (.iconst 1, 1) := dk_4 (dk_at dksX1_bytesOf_0 11 rfl rfl)
theorem dX1_bytesOf_12 : decode cX1_bytesOf 12 = .ok (.goto 36, 3) := dk_167 0 36 (dk_at dksX1_bytesOf_0 12 rfl rfl)
theorem dX1_bytesOf_15 : decode cX1_bytesOf 15 = .ok (.iload_n 0, 1) := dk_26 (dk_at dksX1_bytesOf_0 15 rfl rfl)
theorem dX1_bytesOf_16 : decode cX1_bytesOf 16 = .ok (.sipush (-32768), 3) := dk_17 128 0 (dk_at dksX1_bytesOf_0 16 rfl rfl)
theorem dX1_bytesOf_19 : decode cX1_bytesOf 19 = .ok (.sipush 32767, 3) := dk_17 127 255 (dk_at dksX1_bytesOf_0 19 rfl rfl)
theorem dX1_bytesOf_22 : decode cX1_bytesOf 22 = .ok (.invokestatic 1, 3) := dk_184 0 1 (dk_at dksX1_bytesOf_1 0 rfl rfl)
theorem dX1_bytesOf_25 : decode cX1_bytesOf 25 = .ok (.ifCond .ne 7, 3) := dk_154 0 7 (dk_at dksX1_bytesOf_1 3 rfl rfl)
theorem dX1_bytesOf_28 : decode cX1_bytesOf 28 = .ok (.iconst 2, 1) := dk_5 (dk_at dksX1_bytesOf_1 6 rfl rfl)
theorem dX1_bytesOf_29 : decode cX1_bytesOf 29 = .ok (.goto 19, 3) := dk_167 0 19 (dk_at dksX1_bytesOf_1 7 rfl rfl)
theorem dX1_bytesOf_32 : decode cX1_bytesOf 32 = .ok (.iload_n 0, 1) := dk_26 (dk_at dksX1_bytesOf_1 10 rfl rfl)
theorem dX1_bytesOf_33 : decode cX1_bytesOf 33 = .ok (.ldc 7, 2) := dk_18 7 (dk_at dksX1_bytesOf_1 11 rfl rfl)
theorem dX1_bytesOf_35 : decode cX1_bytesOf 35 = .ok (.ldc 8, 2) := dk_18 8 (dk_at dksX1_bytesOf_1 13 rfl rfl)
theorem dX1_bytesOf_37 : decode cX1_bytesOf 37 = .ok (.invokestatic 1, 3) := dk_184 0 1 (dk_at dksX1_bytesOf_1 15 rfl rfl)
theorem dX1_bytesOf_40 : decode cX1_bytesOf 40 = .ok (.ifCond .ne 7, 3) := dk_154 0 7 (dk_at dksX1_bytesOf_1 18 rfl rfl)
theorem dX1_bytesOf_43 : decode cX1_bytesOf 43 = .ok (.iconst 3, 1) := dk_6 (dk_at dksX1_bytesOf_1 21 rfl rfl)
theorem dX1_bytesOf_44 : decode cX1_bytesOf 44 = .ok (.goto 4, 3) := dk_167 0 4 (dk_at dksX1_bytesOf_2 0 rfl rfl)
theorem dX1_bytesOf_47 : decode cX1_bytesOf 47 = .ok (.iconst 4, 1) := dk_7 (dk_at dksX1_bytesOf_2 3 rfl rfl)
theorem dX1_bytesOf_48 : decode cX1_bytesOf 48 = .ok (.ireturn, 1) := dk_172 (dk_at dksX1_bytesOf_2 4 rfl rfl)
abbrev cX1_write : ByteArray := prog_1_method_15_code
def yX1_write : MethodName := ⟨RX1, "write", "(LNotationDesk$Type;LNotationDesk$Part;I)V"⟩
def dkwX1_write_2 : List UInt8 := [180, 0, 46, 3, 16, 8, 182, 0, 117, 42, 180, 0, 46, 182, 0, 121, 177]
abbrev dktX1_write_2 : List UInt8 := dkwX1_write_2 ++ []
def dkwX1_write_1 : List UInt8 := [182, 0, 106, 177, 43, 44, 42, 180, 0, 46, 182, 0, 110, 42, 180, 0, 46, 180, 0, 114, 154, 0, 13, 42]
abbrev dktX1_write_1 : List UInt8 := dkwX1_write_1 ++ dktX1_write_2
def dkwX1_write_0 : List UInt8 := [42, 180, 0, 46, 42, 180, 0, 33, 182, 0, 102, 29, 4, 160, 0, 14, 43, 44, 42, 180, 0, 46, 2]
abbrev dktX1_write_0 : List UInt8 := dkwX1_write_0 ++ dktX1_write_1
theorem dksX1_write_0 : cX1_write.data.toList.drop 0 = dktX1_write_0 := by decide +kernel
theorem dksX1_write_1 : cX1_write.data.toList.drop 23 = dktX1_write_1 := dk_seg dksX1_write_0 23 rfl rfl
theorem dksX1_write_2 : cX1_write.data.toList.drop 47 = dktX1_write_2 := dk_seg dksX1_write_1 24 rfl rfl
theorem dX1_write_0 : decode cX1_write 0 = .ok (.aload_n 0, 1) := dk_42 (dk_at dksX1_write_0 0 rfl rfl)
theorem dX1_write_1 : decode cX1_write 1 = .ok (.getfield 46, 3) := dk_180 0 46 (dk_at dksX1_write_0 1 rfl rfl)
theorem dX1_write_4 : decode cX1_write 4 = .ok (.aload_n 0, 1) := dk_42 (dk_at dksX1_write_0 4 rfl rfl)
theorem dX1_write_5 : decode cX1_write 5 = .ok (.getfield 33, 3) := dk_180 0 33 (dk_at dksX1_write_0 5 rfl rfl)
theorem dX1_write_8 : decode cX1_write 8 = .ok (.invokevirtual 102, 3) := dk_182 0 102 (dk_at dksX1_write_0 8 rfl rfl)
theorem dX1_write_11 : decode cX1_write 11 = .ok (.iload_n 3, 1) := dk_29 (dk_at dksX1_write_0 11 rfl rfl)
theorem dX1_write_12 : decode cX1_write 12 = .ok (.iconst 1, 1) := dk_4 (dk_at dksX1_write_0 12 rfl rfl)
theorem dX1_write_13 : decode cX1_write 13 = .ok (.if_icmp .ne 14, 3) := dk_160 0 14 (dk_at dksX1_write_0 13 rfl rfl)
theorem dX1_write_16 : decode cX1_write 16 = .ok (.aload_n 1, 1) := dk_43 (dk_at dksX1_write_0 16 rfl rfl)
theorem dX1_write_17 : decode cX1_write 17 = .ok (.aload_n 2, 1) := dk_44 (dk_at dksX1_write_0 17 rfl rfl)
theorem dX1_write_18 : decode cX1_write 18 = .ok (.aload_n 0, 1) := dk_42 (dk_at dksX1_write_0 18 rfl rfl)
theorem dX1_write_19 : decode cX1_write 19 = .ok (.getfield 46, 3) := dk_180 0 46 (dk_at dksX1_write_0 19 rfl rfl)
theorem dX1_write_22 : decode cX1_write 22 = .ok (.iconst (-1), 1) := dk_2 (dk_at dksX1_write_0 22 rfl rfl)
theorem dX1_write_23 : decode cX1_write 23 = .ok (.invokevirtual 106, 3) := dk_182 0 106 (dk_at dksX1_write_1 0 rfl rfl)
theorem dX1_write_26 : decode cX1_write 26 = .ok (.return_, 1) := dk_177 (dk_at dksX1_write_1 3 rfl rfl)
theorem dX1_write_27 : decode cX1_write 27 = .ok (.aload_n 1, 1) := dk_43 (dk_at dksX1_write_1 4 rfl rfl)
theorem dX1_write_28 : decode cX1_write 28 = .ok (.aload_n 2, 1) := dk_44 (dk_at dksX1_write_1 5 rfl rfl)
theorem dX1_write_29 : decode cX1_write 29 = .ok (.aload_n 0, 1) := dk_42 (dk_at dksX1_write_1 6 rfl rfl)
theorem dX1_write_30 : decode cX1_write 30 = .ok (.getfield 46, 3) := dk_180 0 46 (dk_at dksX1_write_1 7 rfl rfl)
theorem dX1_write_33 : decode cX1_write 33 = .ok (.invokevirtual 110, 3) := dk_182 0 110 (dk_at dksX1_write_1 10 rfl rfl)
theorem dX1_write_36 : decode cX1_write 36 = .ok (.aload_n 0, 1) := dk_42 (dk_at dksX1_write_1 13 rfl rfl)
theorem dX1_write_37 : decode cX1_write 37 = .ok (.getfield 46, 3) := dk_180 0 46 (dk_at dksX1_write_1 14 rfl rfl)
theorem dX1_write_40 : decode cX1_write 40 = .ok (.getfield 114, 3) := dk_180 0 114 (dk_at dksX1_write_1 17 rfl rfl)
theorem dX1_write_43 : decode cX1_write 43 = .ok (.ifCond .ne 13, 3) := dk_154 0 13 (dk_at dksX1_write_1 20 rfl rfl)
theorem dX1_write_46 : decode cX1_write 46 = .ok (.aload_n 0, 1) := dk_42 (dk_at dksX1_write_1 23 rfl rfl)
theorem dX1_write_47 : decode cX1_write 47 = .ok (.getfield 46, 3) := dk_180 0 46 (dk_at dksX1_write_2 0 rfl rfl)
theorem dX1_write_50 : decode cX1_write 50 = .ok (.iconst 0, 1) := dk_3 (dk_at dksX1_write_2 3 rfl rfl)
theorem dX1_write_51 : decode cX1_write 51 = .ok (.bipush 8, 2) := dk_16 8 (dk_at dksX1_write_2 4 rfl rfl)
theorem dX1_write_53 : decode cX1_write 53 = .ok (.invokevirtual 117, 3) := dk_182 0 117 (dk_at dksX1_write_2 6 rfl rfl)
theorem dX1_write_56 : decode cX1_write 56 = .ok (.aload_n 0, 1) := dk_42 (dk_at dksX1_write_2 9 rfl rfl)
theorem dX1_write_57 : decode cX1_write 57 = .ok (.getfield 46, 3) := dk_180 0 46 (dk_at dksX1_write_2 10 rfl rfl)
theorem dX1_write_60 : decode cX1_write 60 = .ok (.invokevirtual 121, 3) := dk_182 0 121 (dk_at dksX1_write_2 13 rfl rfl)
theorem dX1_write_63 : decode cX1_write 63 = .ok (.return_, 1) := dk_177 (dk_at dksX1_write_2 16 rfl rfl)
abbrev cX1_headed : ByteArray := prog_1_method_5_code
def yX1_headed : MethodName := ⟨RX1, "headed", "(I)I"⟩
def dkwX1_headed_1 : List UInt8 := [96, 172]
abbrev dktX1_headed_1 : List UInt8 := dkwX1_headed_1 ++ []
def dkwX1_headed_0 : List UInt8 := [26, 26, 17, 0, 128, 162, 0, 7, 5, 167, 0, 15, 26, 17, 1, 0, 162, 0, 7, 6, 167, 0, 4, 7]
abbrev dktX1_headed_0 : List UInt8 := dkwX1_headed_0 ++ dktX1_headed_1
theorem dksX1_headed_0 : cX1_headed.data.toList.drop 0 = dktX1_headed_0 := by decide +kernel
theorem dksX1_headed_1 : cX1_headed.data.toList.drop 24 = dktX1_headed_1 := dk_seg dksX1_headed_0 24 rfl rfl
theorem dX1_headed_0 : decode cX1_headed 0 = .ok (.iload_n 0, 1) := dk_26 (dk_at dksX1_headed_0 0 rfl rfl)
theorem dX1_headed_1 : decode cX1_headed 1 = .ok (.iload_n 0, 1) := dk_26 (dk_at dksX1_headed_0 1 rfl rfl)
theorem dX1_headed_2 : decode cX1_headed 2 = .ok (.sipush 128, 3) := dk_17 0 128 (dk_at dksX1_headed_0 2 rfl rfl)
theorem dX1_headed_5 : decode cX1_headed 5 = .ok (.if_icmp .ge 7, 3) := dk_162 0 7 (dk_at dksX1_headed_0 5 rfl rfl)
theorem dX1_headed_8 : decode cX1_headed 8 = .ok (.iconst 2, 1) := dk_5 (dk_at dksX1_headed_0 8 rfl rfl)
theorem dX1_headed_9 : decode cX1_headed 9 = .ok (.goto 15, 3) := dk_167 0 15 (dk_at dksX1_headed_0 9 rfl rfl)
theorem dX1_headed_12 : decode cX1_headed 12 = .ok (.iload_n 0, 1) := dk_26 (dk_at dksX1_headed_0 12 rfl rfl)
theorem dX1_headed_13 : decode cX1_headed 13 = .ok (.sipush 256, 3) := dk_17 1 0 (dk_at dksX1_headed_0 13 rfl rfl)
theorem dX1_headed_16 : decode cX1_headed 16 = .ok (.if_icmp .ge 7, 3) := dk_162 0 7 (dk_at dksX1_headed_0 16 rfl rfl)
theorem dX1_headed_19 : decode cX1_headed 19 = .ok (.iconst 3, 1) := dk_6 (dk_at dksX1_headed_0 19 rfl rfl)
theorem dX1_headed_20 : decode cX1_headed 20 = .ok (.goto 4, 3) := dk_167 0 4 (dk_at dksX1_headed_0 20 rfl rfl)
theorem dX1_headed_23 : decode cX1_headed 23 = .ok (.iconst 4, 1) := dk_7 (dk_at dksX1_headed_0 23 rfl rfl)
theorem dX1_headed_24 : decode cX1_headed 24 = .ok (.iadd, 1) := dk_96 (dk_at dksX1_headed_1 0 rfl rfl)
theorem dX1_headed_25 : decode cX1_headed 25 = .ok (.ireturn, 1) := dk_172 (dk_at dksX1_headed_1 1 rfl rfl)
abbrev cX1_keep : ByteArray := prog_1_method_17_code
def yX1_keep : MethodName := ⟨RX1, "keep", "(LNotationDesk$Part;)V"⟩
def dkwX1_keep_1 : List UInt8 := [181, 0, 147, 42, 180, 0, 29, 43, 2, 184, 0, 150, 177]
abbrev dktX1_keep_1 : List UInt8 := dkwX1_keep_1 ++ []
def dkwX1_keep_0 : List UInt8 := [42, 180, 0, 29, 77, 42, 42, 180, 0, 33, 181, 0, 29, 42, 44, 181, 0, 33, 42, 180, 0, 29, 3]
abbrev dktX1_keep_0 : List UInt8 := dkwX1_keep_0 ++ dktX1_keep_1
theorem dksX1_keep_0 : cX1_keep.data.toList.drop 0 = dktX1_keep_0 := by decide +kernel
theorem dksX1_keep_1 : cX1_keep.data.toList.drop 23 = dktX1_keep_1 := dk_seg dksX1_keep_0 23 rfl rfl
theorem dX1_keep_0 : decode cX1_keep 0 = .ok (.aload_n 0, 1) := dk_42 (dk_at dksX1_keep_0 0 rfl rfl)
theorem dX1_keep_1 : decode cX1_keep 1 = .ok (.getfield 29, 3) := dk_180 0 29 (dk_at dksX1_keep_0 1 rfl rfl)
theorem dX1_keep_4 : decode cX1_keep 4 = .ok (.astore_n 2, 1) := dk_77 (dk_at dksX1_keep_0 4 rfl rfl)
theorem dX1_keep_5 : decode cX1_keep 5 = .ok (.aload_n 0, 1) := dk_42 (dk_at dksX1_keep_0 5 rfl rfl)
theorem dX1_keep_6 : decode cX1_keep 6 = .ok (.aload_n 0, 1) := dk_42 (dk_at dksX1_keep_0 6 rfl rfl)
theorem dX1_keep_7 : decode cX1_keep 7 = .ok (.getfield 33, 3) := dk_180 0 33 (dk_at dksX1_keep_0 7 rfl rfl)
theorem dX1_keep_10 : decode cX1_keep 10 = .ok (.putfield 29, 3) := dk_181 0 29 (dk_at dksX1_keep_0 10 rfl rfl)
theorem dX1_keep_13 : decode cX1_keep 13 = .ok (.aload_n 0, 1) := dk_42 (dk_at dksX1_keep_0 13 rfl rfl)
theorem dX1_keep_14 : decode cX1_keep 14 = .ok (.aload_n 2, 1) := dk_44 (dk_at dksX1_keep_0 14 rfl rfl)
theorem dX1_keep_15 : decode cX1_keep 15 = .ok (.putfield 33, 3) := dk_181 0 33 (dk_at dksX1_keep_0 15 rfl rfl)
theorem dX1_keep_18 : decode cX1_keep 18 = .ok (.aload_n 0, 1) := dk_42 (dk_at dksX1_keep_0 18 rfl rfl)
theorem dX1_keep_19 : decode cX1_keep 19 = .ok (.getfield 29, 3) := dk_180 0 29 (dk_at dksX1_keep_0 19 rfl rfl)
theorem dX1_keep_22 : decode cX1_keep 22 = .ok (.iconst 0, 1) := dk_3 (dk_at dksX1_keep_0 22 rfl rfl)
theorem dX1_keep_23 : decode cX1_keep 23 = .ok (.putfield 147, 3) := dk_181 0 147 (dk_at dksX1_keep_1 0 rfl rfl)
theorem dX1_keep_26 : decode cX1_keep 26 = .ok (.aload_n 0, 1) := dk_42 (dk_at dksX1_keep_1 3 rfl rfl)
theorem dX1_keep_27 : decode cX1_keep 27 = .ok (.getfield 29, 3) := dk_180 0 29 (dk_at dksX1_keep_1 4 rfl rfl)
theorem dX1_keep_30 : decode cX1_keep 30 = .ok (.aload_n 1, 1) := dk_43 (dk_at dksX1_keep_1 7 rfl rfl)
theorem dX1_keep_31 : decode cX1_keep 31 = .ok (.iconst (-1), 1) := dk_2 (dk_at dksX1_keep_1 8 rfl rfl)
theorem dX1_keep_32 : decode cX1_keep 32 = .ok (.invokestatic 150, 3) := dk_184 0 150 (dk_at dksX1_keep_1 9 rfl rfl)
theorem dX1_keep_35 : decode cX1_keep 35 = .ok (.return_, 1) := dk_177 (dk_at dksX1_keep_1 12 rfl rfl)
abbrev cX1_part : ByteArray := prog_1_method_22_code
def yX1_part : MethodName := ⟨RX1, "part", "(II)I"⟩
def dkwX1_part_2 : List UInt8 := [160, 0, 10, 45, 180, 0, 197, 167, 0, 7, 45, 180, 0, 200, 172]
abbrev dktX1_part_2 : List UInt8 := dkwX1_part_2 ++ []
def dkwX1_part_1 : List UInt8 := [154, 0, 10, 45, 180, 0, 189, 167, 0, 31, 28, 4, 160, 0, 10, 45, 180, 0, 194, 167, 0, 19, 28, 5]
abbrev dktX1_part_1 : List UInt8 := dkwX1_part_1 ++ dktX1_part_2
def dkwX1_part_0 : List UInt8 := [28, 3, 6, 184, 0, 1, 154, 0, 7, 4, 167, 0, 4, 3, 184, 0, 163, 42, 27, 182, 0, 185, 78, 28]
abbrev dktX1_part_0 : List UInt8 := dkwX1_part_0 ++ dktX1_part_1
theorem dksX1_part_0 : cX1_part.data.toList.drop 0 = dktX1_part_0 := by decide +kernel
theorem dksX1_part_1 : cX1_part.data.toList.drop 24 = dktX1_part_1 := dk_seg dksX1_part_0 24 rfl rfl
theorem dksX1_part_2 : cX1_part.data.toList.drop 48 = dktX1_part_2 := dk_seg dksX1_part_1 24 rfl rfl
theorem dX1_part_0 : decode cX1_part 0 = .ok (.iload_n 2, 1) := dk_28 (dk_at dksX1_part_0 0 rfl rfl)
theorem dX1_part_1 : decode cX1_part 1 = .ok (.iconst 0, 1) := dk_3 (dk_at dksX1_part_0 1 rfl rfl)
theorem dX1_part_2 : decode cX1_part 2 = .ok (.iconst 3, 1) := dk_6 (dk_at dksX1_part_0 2 rfl rfl)
theorem dX1_part_3 : decode cX1_part 3 = .ok (.invokestatic 1, 3) := dk_184 0 1 (dk_at dksX1_part_0 3 rfl rfl)
theorem dX1_part_6 : decode cX1_part 6 = .ok (.ifCond .ne 7, 3) := dk_154 0 7 (dk_at dksX1_part_0 6 rfl rfl)
theorem dX1_part_9 : decode cX1_part 9 = .ok (.iconst 1, 1) := dk_4 (dk_at dksX1_part_0 9 rfl rfl)
theorem dX1_part_10 : decode cX1_part 10 = .ok (.goto 4, 3) := dk_167 0 4 (dk_at dksX1_part_0 10 rfl rfl)
theorem dX1_part_13 : decode cX1_part 13 = .ok (.iconst 0, 1) := dk_3 (dk_at dksX1_part_0 13 rfl rfl)
theorem dX1_part_14 : decode cX1_part 14 = .ok (.invokestatic 163, 3) := dk_184 0 163 (dk_at dksX1_part_0 14 rfl rfl)
theorem dX1_part_17 : decode cX1_part 17 = .ok (.aload_n 0, 1) := dk_42 (dk_at dksX1_part_0 17 rfl rfl)
theorem dX1_part_18 : decode cX1_part 18 = .ok (.iload_n 1, 1) := dk_27 (dk_at dksX1_part_0 18 rfl rfl)
theorem dX1_part_19 : decode cX1_part 19 = .ok (.invokevirtual 185, 3) := dk_182 0 185 (dk_at dksX1_part_0 19 rfl rfl)
theorem dX1_part_22 : decode cX1_part 22 = .ok (.astore_n 3, 1) := dk_78 (dk_at dksX1_part_0 22 rfl rfl)
theorem dX1_part_23 : decode cX1_part 23 = .ok (.iload_n 2, 1) := dk_28 (dk_at dksX1_part_0 23 rfl rfl)
theorem dX1_part_24 : decode cX1_part 24 = .ok (.ifCond .ne 10, 3) := dk_154 0 10 (dk_at dksX1_part_1 0 rfl rfl)
theorem dX1_part_27 : decode cX1_part 27 = .ok (.aload_n 3, 1) := dk_45 (dk_at dksX1_part_1 3 rfl rfl)
theorem dX1_part_28 : decode cX1_part 28 = .ok (.getfield 189, 3) := dk_180 0 189 (dk_at dksX1_part_1 4 rfl rfl)
theorem dX1_part_31 : decode cX1_part 31 = .ok (.goto 31, 3) := dk_167 0 31 (dk_at dksX1_part_1 7 rfl rfl)
theorem dX1_part_34 : decode cX1_part 34 = .ok (.iload_n 2, 1) := dk_28 (dk_at dksX1_part_1 10 rfl rfl)
theorem dX1_part_35 : decode cX1_part 35 = .ok (.iconst 1, 1) := dk_4 (dk_at dksX1_part_1 11 rfl rfl)
theorem dX1_part_36 : decode cX1_part 36 = .ok (.if_icmp .ne 10, 3) := dk_160 0 10 (dk_at dksX1_part_1 12 rfl rfl)
theorem dX1_part_39 : decode cX1_part 39 = .ok (.aload_n 3, 1) := dk_45 (dk_at dksX1_part_1 15 rfl rfl)
theorem dX1_part_40 : decode cX1_part 40 = .ok (.getfield 194, 3) := dk_180 0 194 (dk_at dksX1_part_1 16 rfl rfl)
theorem dX1_part_43 : decode cX1_part 43 = .ok (.goto 19, 3) := dk_167 0 19 (dk_at dksX1_part_1 19 rfl rfl)
theorem dX1_part_46 : decode cX1_part 46 = .ok (.iload_n 2, 1) := dk_28 (dk_at dksX1_part_1 22 rfl rfl)
theorem dX1_part_47 : decode cX1_part 47 = .ok (.iconst 2, 1) := dk_5 (dk_at dksX1_part_1 23 rfl rfl)
theorem dX1_part_48 : decode cX1_part 48 = .ok (.if_icmp .ne 10, 3) := dk_160 0 10 (dk_at dksX1_part_2 0 rfl rfl)
theorem dX1_part_51 : decode cX1_part 51 = .ok (.aload_n 3, 1) := dk_45 (dk_at dksX1_part_2 3 rfl rfl)
theorem dX1_part_52 : decode cX1_part 52 = .ok (.getfield 197, 3) := dk_180 0 197 (dk_at dksX1_part_2 4 rfl rfl)
theorem dX1_part_55 : decode cX1_part 55 = .ok (.goto 7, 3) := dk_167 0 7 (dk_at dksX1_part_2 7 rfl rfl)
theorem dX1_part_58 : decode cX1_part 58 = .ok (.aload_n 3, 1) := dk_45 (dk_at dksX1_part_2 10 rfl rfl)
theorem dX1_part_59 : decode cX1_part 59 = .ok (.getfield 200, 3) := dk_180 0 200 (dk_at dksX1_part_2 11 rfl rfl)
theorem dX1_part_62 : decode cX1_part 62 = .ok (.ireturn, 1) := dk_172 (dk_at dksX1_part_2 14 rfl rfl)
abbrev cX1_known : ByteArray := prog_1_method_21_code
def yX1_known : MethodName := ⟨RX1, "known", "(I)LNotationDesk$Part;"⟩
def dkwX1_known_1 : List UInt8 := [191, 42, 180, 0, 29, 180, 0, 181, 27, 50, 176]
abbrev dktX1_known_1 : List UInt8 := dkwX1_known_1 ++ []
def dkwX1_known_0 : List UInt8 := [27, 3, 42, 180, 0, 29, 180, 0, 147, 4, 100, 184, 0, 1, 153, 0, 11, 187, 0, 160, 89, 183, 0, 162]
abbrev dktX1_known_0 : List UInt8 := dkwX1_known_0 ++ dktX1_known_1
theorem dksX1_known_0 : cX1_known.data.toList.drop 0 = dktX1_known_0 := by decide +kernel
theorem dksX1_known_1 : cX1_known.data.toList.drop 24 = dktX1_known_1 := dk_seg dksX1_known_0 24 rfl rfl
theorem dX1_known_0 : decode cX1_known 0 = .ok (.iload_n 1, 1) := dk_27 (dk_at dksX1_known_0 0 rfl rfl)
theorem dX1_known_1 : decode cX1_known 1 = .ok (.iconst 0, 1) := dk_3 (dk_at dksX1_known_0 1 rfl rfl)
theorem dX1_known_2 : decode cX1_known 2 = .ok (.aload_n 0, 1) := dk_42 (dk_at dksX1_known_0 2 rfl rfl)
theorem dX1_known_3 : decode cX1_known 3 = .ok (.getfield 29, 3) := dk_180 0 29 (dk_at dksX1_known_0 3 rfl rfl)
theorem dX1_known_6 : decode cX1_known 6 = .ok (.getfield 147, 3) := dk_180 0 147 (dk_at dksX1_known_0 6 rfl rfl)
theorem dX1_known_9 : decode cX1_known 9 = .ok (.iconst 1, 1) := dk_4 (dk_at dksX1_known_0 9 rfl rfl)
theorem dX1_known_10 : decode cX1_known 10 = .ok (.isub, 1) := dk_100 (dk_at dksX1_known_0 10 rfl rfl)
theorem dX1_known_11 : decode cX1_known 11 = .ok (.invokestatic 1, 3) := dk_184 0 1 (dk_at dksX1_known_0 11 rfl rfl)
theorem dX1_known_14 : decode cX1_known 14 = .ok (.ifCond .eq 11, 3) := dk_153 0 11 (dk_at dksX1_known_0 14 rfl rfl)
theorem dX1_known_17 : decode cX1_known 17 = .ok (.new 160, 3) := dk_187 0 160 (dk_at dksX1_known_0 17 rfl rfl)
theorem dX1_known_20 : decode cX1_known 20 = .ok (.dup, 1) := dk_89 (dk_at dksX1_known_0 20 rfl rfl)
theorem dX1_known_21 : decode cX1_known 21 = .ok (.invokespecial 162, 3) := dk_183 0 162 (dk_at dksX1_known_0 21 rfl rfl)
theorem dX1_known_24 : decode cX1_known 24 = .ok (.athrow, 1) := dk_191 (dk_at dksX1_known_1 0 rfl rfl)
theorem dX1_known_25 : decode cX1_known 25 = .ok (.aload_n 0, 1) := dk_42 (dk_at dksX1_known_1 1 rfl rfl)
theorem dX1_known_26 : decode cX1_known 26 = .ok (.getfield 29, 3) := dk_180 0 29 (dk_at dksX1_known_1 2 rfl rfl)
theorem dX1_known_29 : decode cX1_known 29 = .ok (.getfield 181, 3) := dk_180 0 181 (dk_at dksX1_known_1 5 rfl rfl)
theorem dX1_known_32 : decode cX1_known 32 = .ok (.iload_n 1, 1) := dk_27 (dk_at dksX1_known_1 8 rfl rfl)
theorem dX1_known_33 : decode cX1_known 33 = .ok (.aaload, 1) := dk_50 (dk_at dksX1_known_1 9 rfl rfl)
theorem dX1_known_34 : decode cX1_known 34 = .ok (.areturn, 1) := dk_176 (dk_at dksX1_known_1 10 rfl rfl)
abbrev cX1_octet : ByteArray := prog_1_method_23_code
def yX1_octet : MethodName := ⟨RX1, "octet", "(II)I"⟩
def dkwX1_octet_2 : List UInt8 := [180, 0, 206, 28, 96, 46, 172]
abbrev dktX1_octet_2 : List UInt8 := dkwX1_octet_2 ++ []
def dkwX1_octet_1 : List UInt8 := [184, 0, 1, 153, 0, 11, 187, 0, 160, 89, 183, 0, 162, 191, 42, 180, 0, 29, 180, 0, 203, 45]
abbrev dktX1_octet_1 : List UInt8 := dkwX1_octet_1 ++ dktX1_octet_2
def dkwX1_octet_0 : List UInt8 := [42, 27, 182, 0, 185, 78, 45, 180, 0, 189, 7, 160, 0, 17, 28, 3, 45, 180, 0, 194, 4, 100]
abbrev dktX1_octet_0 : List UInt8 := dkwX1_octet_0 ++ dktX1_octet_1
theorem dksX1_octet_0 : cX1_octet.data.toList.drop 0 = dktX1_octet_0 := by decide +kernel
theorem dksX1_octet_1 : cX1_octet.data.toList.drop 22 = dktX1_octet_1 := dk_seg dksX1_octet_0 22 rfl rfl
theorem dksX1_octet_2 : cX1_octet.data.toList.drop 44 = dktX1_octet_2 := dk_seg dksX1_octet_1 22 rfl rfl
theorem dX1_octet_0 : decode cX1_octet 0 = .ok (.aload_n 0, 1) := dk_42 (dk_at dksX1_octet_0 0 rfl rfl)
theorem dX1_octet_1 : decode cX1_octet 1 = .ok (.iload_n 1, 1) := dk_27 (dk_at dksX1_octet_0 1 rfl rfl)
theorem dX1_octet_2 : decode cX1_octet 2 = .ok (.invokevirtual 185, 3) := dk_182 0 185 (dk_at dksX1_octet_0 2 rfl rfl)
theorem dX1_octet_5 : decode cX1_octet 5 = .ok (.astore_n 3, 1) := dk_78 (dk_at dksX1_octet_0 5 rfl rfl)
theorem dX1_octet_6 : decode cX1_octet 6 = .ok (.aload_n 3, 1) := dk_45 (dk_at dksX1_octet_0 6 rfl rfl)
theorem dX1_octet_7 : decode cX1_octet 7 = .ok (.getfield 189, 3) := dk_180 0 189 (dk_at dksX1_octet_0 7 rfl rfl)
theorem dX1_octet_10 : decode cX1_octet 10 = .ok (.iconst 4, 1) := dk_7 (dk_at dksX1_octet_0 10 rfl rfl)
theorem dX1_octet_11 : decode cX1_octet 11 = .ok (.if_icmp .ne 17, 3) := dk_160 0 17 (dk_at dksX1_octet_0 11 rfl rfl)
theorem dX1_octet_14 : decode cX1_octet 14 = .ok (.iload_n 2, 1) := dk_28 (dk_at dksX1_octet_0 14 rfl rfl)
theorem dX1_octet_15 : decode cX1_octet 15 = .ok (.iconst 0, 1) := dk_3 (dk_at dksX1_octet_0 15 rfl rfl)
theorem dX1_octet_16 : decode cX1_octet 16 = .ok (.aload_n 3, 1) := dk_45 (dk_at dksX1_octet_0 16 rfl rfl)
theorem dX1_octet_17 : decode cX1_octet 17 = .ok (.getfield 194, 3) := dk_180 0 194 (dk_at dksX1_octet_0 17 rfl rfl)
theorem dX1_octet_20 : decode cX1_octet 20 = .ok (.iconst 1, 1) := dk_4 (dk_at dksX1_octet_0 20 rfl rfl)
theorem dX1_octet_21 : decode cX1_octet 21 = .ok (.isub, 1) := dk_100 (dk_at dksX1_octet_0 21 rfl rfl)
theorem dX1_octet_22 : decode cX1_octet 22 = .ok (.invokestatic 1, 3) := dk_184 0 1 (dk_at dksX1_octet_1 0 rfl rfl)
theorem dX1_octet_25 : decode cX1_octet 25 = .ok (.ifCond .eq 11, 3) := dk_153 0 11 (dk_at dksX1_octet_1 3 rfl rfl)
theorem dX1_octet_28 : decode cX1_octet 28 = .ok (.new 160, 3) := dk_187 0 160 (dk_at dksX1_octet_1 6 rfl rfl)
theorem dX1_octet_31 : decode cX1_octet 31 = .ok (.dup, 1) := dk_89 (dk_at dksX1_octet_1 9 rfl rfl)
theorem dX1_octet_32 : decode cX1_octet 32 = .ok (.invokespecial 162, 3) := dk_183 0 162 (dk_at dksX1_octet_1 10 rfl rfl)
theorem dX1_octet_35 : decode cX1_octet 35 = .ok (.athrow, 1) := dk_191 (dk_at dksX1_octet_1 13 rfl rfl)
theorem dX1_octet_36 : decode cX1_octet 36 = .ok (.aload_n 0, 1) := dk_42 (dk_at dksX1_octet_1 14 rfl rfl)
theorem dX1_octet_37 : decode cX1_octet 37 = .ok (.getfield 29, 3) := dk_180 0 29 (dk_at dksX1_octet_1 15 rfl rfl)
theorem dX1_octet_40 : decode cX1_octet 40 = .ok (.getfield 203, 3) := dk_180 0 203 (dk_at dksX1_octet_1 18 rfl rfl)
theorem dX1_octet_43 : decode cX1_octet 43 = .ok (.aload_n 3, 1) := dk_45 (dk_at dksX1_octet_1 21 rfl rfl)
theorem dX1_octet_44 : decode cX1_octet 44 = .ok (.getfield 206, 3) := dk_180 0 206 (dk_at dksX1_octet_2 0 rfl rfl)
theorem dX1_octet_47 : decode cX1_octet 47 = .ok (.iload_n 2, 1) := dk_28 (dk_at dksX1_octet_2 3 rfl rfl)
theorem dX1_octet_48 : decode cX1_octet 48 = .ok (.iadd, 1) := dk_96 (dk_at dksX1_octet_2 4 rfl rfl)
theorem dX1_octet_49 : decode cX1_octet 49 = .ok (.iaload, 1) := dk_46 (dk_at dksX1_octet_2 5 rfl rfl)
theorem dX1_octet_50 : decode cX1_octet 50 = .ok (.ireturn, 1) := dk_172 (dk_at dksX1_octet_2 6 rfl rfl)
abbrev cX1_operation : ByteArray := prog_1_method_24_code
def yX1_operation : MethodName := ⟨RX1, "operation", "(ICII)V"⟩
def dkwX1_operation_2 : List UInt8 := [83, 42, 180, 0, 56, 27, 29, 79, 42, 180, 0, 59, 27, 21, 4, 79, 177]
abbrev dktX1_operation_2 : List UInt8 := dkwX1_operation_2 ++ []
def dkwX1_operation_1 : List UInt8 := [184, 0, 1, 154, 0, 7, 4, 167, 0, 4, 3, 184, 0, 163, 42, 180, 0, 52, 27, 42, 28, 182, 0, 167]
abbrev dktX1_operation_1 : List UInt8 := dkwX1_operation_1 ++ dktX1_operation_2
def dkwX1_operation_0 : List UInt8 := [27, 3, 16, 7, 184, 0, 1, 154, 0, 26, 29, 3, 5, 184, 0, 1, 154, 0, 17, 21, 4, 4, 5]
abbrev dktX1_operation_0 : List UInt8 := dkwX1_operation_0 ++ dktX1_operation_1
theorem dksX1_operation_0 : cX1_operation.data.toList.drop 0 = dktX1_operation_0 := by decide +kernel
theorem dksX1_operation_1 : cX1_operation.data.toList.drop 23 = dktX1_operation_1 := dk_seg dksX1_operation_0 23 rfl rfl
theorem dksX1_operation_2 : cX1_operation.data.toList.drop 47 = dktX1_operation_2 := dk_seg dksX1_operation_1 24 rfl rfl
theorem dX1_operation_0 : decode cX1_operation 0 = .ok (.iload_n 1, 1) := dk_27 (dk_at dksX1_operation_0 0 rfl rfl)
theorem dX1_operation_1 : decode cX1_operation 1 = .ok (.iconst 0, 1) := dk_3 (dk_at dksX1_operation_0 1 rfl rfl)
theorem dX1_operation_2 : decode cX1_operation 2 = .ok (.bipush 7, 2) := dk_16 7 (dk_at dksX1_operation_0 2 rfl rfl)
theorem dX1_operation_4 : decode cX1_operation 4 = .ok (.invokestatic 1, 3) := dk_184 0 1 (dk_at dksX1_operation_0 4 rfl rfl)
theorem dX1_operation_7 : decode cX1_operation 7 = .ok (.ifCond .ne 26, 3) := dk_154 0 26 (dk_at dksX1_operation_0 7 rfl rfl)
theorem dX1_operation_10 : decode cX1_operation 10 = .ok (.iload_n 3, 1) := dk_29 (dk_at dksX1_operation_0 10 rfl rfl)
theorem dX1_operation_11 : decode cX1_operation 11 = .ok (.iconst 0, 1) := dk_3 (dk_at dksX1_operation_0 11 rfl rfl)
theorem dX1_operation_12 : decode cX1_operation 12 = .ok (.iconst 2, 1) := dk_5 (dk_at dksX1_operation_0 12 rfl rfl)
theorem dX1_operation_13 : decode cX1_operation 13 = .ok (.invokestatic 1, 3) := dk_184 0 1 (dk_at dksX1_operation_0 13 rfl rfl)
theorem dX1_operation_16 : decode cX1_operation 16 = .ok (.ifCond .ne 17, 3) := dk_154 0 17 (dk_at dksX1_operation_0 16 rfl rfl)
theorem dX1_operation_19 : decode cX1_operation 19 = .ok (.iload 4, 2) := dk_21 4 (dk_at dksX1_operation_0 19 rfl rfl)
theorem dX1_operation_21 : decode cX1_operation 21 = .ok (.iconst 1, 1) := dk_4 (dk_at dksX1_operation_0 21 rfl rfl)
theorem dX1_operation_22 : decode cX1_operation 22 = .ok (.iconst 2, 1) := dk_5 (dk_at dksX1_operation_0 22 rfl rfl)
theorem dX1_operation_23 : decode cX1_operation 23 = .ok (.invokestatic 1, 3) := dk_184 0 1 (dk_at dksX1_operation_1 0 rfl rfl)
theorem dX1_operation_26 : decode cX1_operation 26 = .ok (.ifCond .ne 7, 3) := dk_154 0 7 (dk_at dksX1_operation_1 3 rfl rfl)
theorem dX1_operation_29 : decode cX1_operation 29 = .ok (.iconst 1, 1) := dk_4 (dk_at dksX1_operation_1 6 rfl rfl)
theorem dX1_operation_30 : decode cX1_operation 30 = .ok (.goto 4, 3) := dk_167 0 4 (dk_at dksX1_operation_1 7 rfl rfl)
theorem dX1_operation_33 : decode cX1_operation 33 = .ok (.iconst 0, 1) := dk_3 (dk_at dksX1_operation_1 10 rfl rfl)
theorem dX1_operation_34 : decode cX1_operation 34 = .ok (.invokestatic 163, 3) := dk_184 0 163 (dk_at dksX1_operation_1 11 rfl rfl)
theorem dX1_operation_37 : decode cX1_operation 37 = .ok (.aload_n 0, 1) := dk_42 (dk_at dksX1_operation_1 14 rfl rfl)
theorem dX1_operation_38 : decode cX1_operation 38 = .ok (.getfield 52, 3) := dk_180 0 52 (dk_at dksX1_operation_1 15 rfl rfl)
theorem dX1_operation_41 : decode cX1_operation 41 = .ok (.iload_n 1, 1) := dk_27 (dk_at dksX1_operation_1 18 rfl rfl)
theorem dX1_operation_42 : decode cX1_operation 42 = .ok (.aload_n 0, 1) := dk_42 (dk_at dksX1_operation_1 19 rfl rfl)
theorem dX1_operation_43 : decode cX1_operation 43 = .ok (.iload_n 2, 1) := dk_28 (dk_at dksX1_operation_1 20 rfl rfl)
theorem dX1_operation_44 : decode cX1_operation 44 = .ok (.invokevirtual 167, 3) := dk_182 0 167 (dk_at dksX1_operation_1 21 rfl rfl)
theorem dX1_operation_47 : decode cX1_operation 47 = .ok (.aastore, 1) := dk_83 (dk_at dksX1_operation_2 0 rfl rfl)
theorem dX1_operation_48 : decode cX1_operation 48 = .ok (.aload_n 0, 1) := dk_42 (dk_at dksX1_operation_2 1 rfl rfl)
theorem dX1_operation_49 : decode cX1_operation 49 = .ok (.getfield 56, 3) := dk_180 0 56 (dk_at dksX1_operation_2 2 rfl rfl)
theorem dX1_operation_52 : decode cX1_operation 52 = .ok (.iload_n 1, 1) := dk_27 (dk_at dksX1_operation_2 5 rfl rfl)
theorem dX1_operation_53 : decode cX1_operation 53 = .ok (.iload_n 3, 1) := dk_29 (dk_at dksX1_operation_2 6 rfl rfl)
theorem dX1_operation_54 : decode cX1_operation 54 = .ok (.iastore, 1) := dk_79 (dk_at dksX1_operation_2 7 rfl rfl)
theorem dX1_operation_55 : decode cX1_operation 55 = .ok (.aload_n 0, 1) := dk_42 (dk_at dksX1_operation_2 8 rfl rfl)
theorem dX1_operation_56 : decode cX1_operation 56 = .ok (.getfield 59, 3) := dk_180 0 59 (dk_at dksX1_operation_2 9 rfl rfl)
theorem dX1_operation_59 : decode cX1_operation 59 = .ok (.iload_n 1, 1) := dk_27 (dk_at dksX1_operation_2 12 rfl rfl)
theorem dX1_operation_60 : decode cX1_operation 60 = .ok (.iload 4, 2) := dk_21 4 (dk_at dksX1_operation_2 13 rfl rfl)
theorem dX1_operation_62 : decode cX1_operation 62 = .ok (.iastore, 1) := dk_79 (dk_at dksX1_operation_2 15 rfl rfl)
theorem dX1_operation_63 : decode cX1_operation 63 = .ok (.return_, 1) := dk_177 (dk_at dksX1_operation_2 16 rfl rfl)
abbrev cX1_serve : ByteArray := prog_1_method_26_code
def yX1_serve : MethodName := ⟨RX1, "serve", "()I"⟩
def dkwX1_serve_11 : List UInt8 := [182, 0, 177, 5, 172]
abbrev dktX1_serve_11 : List UInt8 := dkwX1_serve_11 ++ []
def dkwX1_serve_10 : List UInt8 := [79, 132, 4, 1, 167, 255, 222, 42, 6, 42, 180, 0, 46, 182, 0, 141, 96, 181, 0, 94, 42, 45]
abbrev dktX1_serve_10 : List UInt8 := dkwX1_serve_10 ++ dktX1_serve_11
def dkwX1_serve_9 : List UInt8 := [182, 0, 141, 162, 0, 28, 42, 180, 0, 22, 6, 21, 4, 96, 42, 180, 0, 46, 180, 0, 144, 21, 4, 46]
abbrev dktX1_serve_9 : List UInt8 := dkwX1_serve_9 ++ dktX1_serve_10
def dkwX1_serve_8 : List UInt8 := [180, 0, 62, 27, 4, 84, 42, 5, 27, 28, 182, 0, 209, 87, 3, 54, 4, 21, 4, 42, 180, 0, 46]
abbrev dktX1_serve_8 : List UInt8 := dkwX1_serve_8 ++ dktX1_serve_9
def dkwX1_serve_7 : List UInt8 := [180, 0, 46, 182, 0, 141, 6, 96, 16, 120, 164, 0, 11, 42, 7, 27, 7, 182, 0, 209, 172, 42]
abbrev dktX1_serve_7 : List UInt8 := dkwX1_serve_7 ++ dktX1_serve_8
def dkwX1_serve_6 : List UInt8 := [182, 0, 209, 172, 42, 42, 180, 0, 52, 28, 50, 45, 42, 180, 0, 59, 28, 46, 182, 0, 138, 42]
abbrev dktX1_serve_6 : List UInt8 := dkwX1_serve_6 ++ dktX1_serve_7
def dkwX1_serve_5 : List UInt8 := [180, 0, 56, 28, 46, 182, 0, 171, 78, 45, 199, 0, 18, 42, 180, 0, 62, 27, 4, 84, 42, 6, 27, 3]
abbrev dktX1_serve_5 : List UInt8 := dkwX1_serve_5 ++ dktX1_serve_6
def dkwX1_serve_4 : List UInt8 := [27, 51, 153, 0, 11, 42, 7, 27, 6, 182, 0, 209, 172, 42, 42, 180, 0, 52, 28, 50, 6, 42]
abbrev dktX1_serve_4 : List UInt8 := dkwX1_serve_4 ++ dktX1_serve_5
def dkwX1_serve_3 : List UInt8 := [162, 0, 12, 42, 180, 0, 52, 28, 50, 199, 0, 11, 42, 7, 27, 5, 182, 0, 209, 172, 42, 180, 0, 62]
abbrev dktX1_serve_3 : List UInt8 := dkwX1_serve_3 ++ dktX1_serve_4
def dkwX1_serve_2 : List UInt8 := [4, 159, 0, 11, 42, 7, 27, 4, 182, 0, 209, 172, 42, 180, 0, 22, 5, 46, 61, 28, 16, 8]
abbrev dktX1_serve_2 : List UInt8 := dkwX1_serve_2 ++ dktX1_serve_3
def dkwX1_serve_1 : List UInt8 := [167, 0, 9, 42, 180, 0, 22, 4, 46, 60, 42, 180, 0, 94, 6, 161, 0, 13, 42, 180, 0, 22, 3, 46]
abbrev dktX1_serve_1 : List UInt8 := dkwX1_serve_1 ++ dktX1_serve_2
def dkwX1_serve_0 : List UInt8 := [42, 180, 0, 69, 154, 0, 11, 187, 0, 154, 89, 183, 0, 156, 191, 42, 180, 0, 94, 5, 162, 0, 7, 3]
abbrev dktX1_serve_0 : List UInt8 := dkwX1_serve_0 ++ dktX1_serve_1
theorem dksX1_serve_0 : cX1_serve.data.toList.drop 0 = dktX1_serve_0 := by decide +kernel
theorem dksX1_serve_1 : cX1_serve.data.toList.drop 24 = dktX1_serve_1 := dk_seg dksX1_serve_0 24 rfl rfl
theorem dksX1_serve_2 : cX1_serve.data.toList.drop 48 = dktX1_serve_2 := dk_seg dksX1_serve_1 24 rfl rfl
theorem dksX1_serve_3 : cX1_serve.data.toList.drop 70 = dktX1_serve_3 := dk_seg dksX1_serve_2 22 rfl rfl
theorem dksX1_serve_4 : cX1_serve.data.toList.drop 94 = dktX1_serve_4 := dk_seg dksX1_serve_3 24 rfl rfl
theorem dksX1_serve_5 : cX1_serve.data.toList.drop 116 = dktX1_serve_5 := dk_seg dksX1_serve_4 22 rfl rfl
theorem dksX1_serve_6 : cX1_serve.data.toList.drop 140 = dktX1_serve_6 := dk_seg dksX1_serve_5 24 rfl rfl
theorem dksX1_serve_7 : cX1_serve.data.toList.drop 162 = dktX1_serve_7 := dk_seg dksX1_serve_6 22 rfl rfl
theorem dksX1_serve_8 : cX1_serve.data.toList.drop 184 = dktX1_serve_8 := dk_seg dksX1_serve_7 22 rfl rfl
theorem dksX1_serve_9 : cX1_serve.data.toList.drop 207 = dktX1_serve_9 := dk_seg dksX1_serve_8 23 rfl rfl
theorem dksX1_serve_10 : cX1_serve.data.toList.drop 231 = dktX1_serve_10 := dk_seg dksX1_serve_9 24 rfl rfl
theorem dksX1_serve_11 : cX1_serve.data.toList.drop 253 = dktX1_serve_11 := dk_seg dksX1_serve_10 22 rfl rfl
theorem dX1_serve_0 : decode cX1_serve 0 = .ok (.aload_n 0, 1) := dk_42 (dk_at dksX1_serve_0 0 rfl rfl)
theorem dX1_serve_1 : decode cX1_serve 1 = .ok (.getfield 69, 3) := dk_180 0 69 (dk_at dksX1_serve_0 1 rfl rfl)
theorem dX1_serve_4 : decode cX1_serve 4 = .ok (.ifCond .ne 11, 3) := dk_154 0 11 (dk_at dksX1_serve_0 4 rfl rfl)
theorem dX1_serve_7 : decode cX1_serve 7 = .ok (.new 154, 3) := dk_187 0 154 (dk_at dksX1_serve_0 7 rfl rfl)
theorem dX1_serve_10 : decode cX1_serve 10 = .ok (.dup, 1) := dk_89 (dk_at dksX1_serve_0 10 rfl rfl)
theorem dX1_serve_11 : decode cX1_serve 11 = .ok (.invokespecial 156, 3) := dk_183 0 156 (dk_at dksX1_serve_0 11 rfl rfl)
theorem dX1_serve_14 : decode cX1_serve 14 = .ok (.athrow, 1) := dk_191 (dk_at dksX1_serve_0 14 rfl rfl)
theorem dX1_serve_15 : decode cX1_serve 15 = .ok (.aload_n 0, 1) := dk_42 (dk_at dksX1_serve_0 15 rfl rfl)
theorem dX1_serve_16 : decode cX1_serve 16 = .ok (.getfield 94, 3) := dk_180 0 94 (dk_at dksX1_serve_0 16 rfl rfl)
theorem dX1_serve_19 : decode cX1_serve 19 = .ok (.iconst 2, 1) := dk_5 (dk_at dksX1_serve_0 19 rfl rfl)
theorem dX1_serve_20 : decode cX1_serve 20 = .ok (.if_icmp .ge 7, 3) := dk_162 0 7 (dk_at dksX1_serve_0 20 rfl rfl)
theorem dX1_serve_23 : decode cX1_serve 23 = .ok (.iconst 0, 1) := dk_3 (dk_at dksX1_serve_0 23 rfl rfl)
theorem dX1_serve_24 : decode cX1_serve 24 = .ok (.goto 9, 3) := dk_167 0 9 (dk_at dksX1_serve_1 0 rfl rfl)
theorem dX1_serve_27 : decode cX1_serve 27 = .ok (.aload_n 0, 1) := dk_42 (dk_at dksX1_serve_1 3 rfl rfl)
theorem dX1_serve_28 : decode cX1_serve 28 = .ok (.getfield 22, 3) := dk_180 0 22 (dk_at dksX1_serve_1 4 rfl rfl)
theorem dX1_serve_31 : decode cX1_serve 31 = .ok (.iconst 1, 1) := dk_4 (dk_at dksX1_serve_1 7 rfl rfl)
theorem dX1_serve_32 : decode cX1_serve 32 = .ok (.iaload, 1) := dk_46 (dk_at dksX1_serve_1 8 rfl rfl)
theorem dX1_serve_33 : decode cX1_serve 33 = .ok (.istore_n 1, 1) := dk_60 (dk_at dksX1_serve_1 9 rfl rfl)
theorem dX1_serve_34 : decode cX1_serve 34 = .ok (.aload_n 0, 1) := dk_42 (dk_at dksX1_serve_1 10 rfl rfl)
theorem dX1_serve_35 : decode cX1_serve 35 = .ok (.getfield 94, 3) := dk_180 0 94 (dk_at dksX1_serve_1 11 rfl rfl)
theorem dX1_serve_38 : decode cX1_serve 38 = .ok (.iconst 3, 1) := dk_6 (dk_at dksX1_serve_1 14 rfl rfl)
theorem dX1_serve_39 : decode cX1_serve 39 = .ok (.if_icmp .lt 13, 3) := dk_161 0 13 (dk_at dksX1_serve_1 15 rfl rfl)
theorem dX1_serve_42 : decode cX1_serve 42 = .ok (.aload_n 0, 1) := dk_42 (dk_at dksX1_serve_1 18 rfl rfl)
theorem dX1_serve_43 : decode cX1_serve 43 = .ok (.getfield 22, 3) := dk_180 0 22 (dk_at dksX1_serve_1 19 rfl rfl)
theorem dX1_serve_46 : decode cX1_serve 46 = .ok (.iconst 0, 1) := dk_3 (dk_at dksX1_serve_1 22 rfl rfl)
theorem dX1_serve_47 : decode cX1_serve 47 = .ok (.iaload, 1) := dk_46 (dk_at dksX1_serve_1 23 rfl rfl)
theorem dX1_serve_48 : decode cX1_serve 48 = .ok (.iconst 1, 1) := dk_4 (dk_at dksX1_serve_2 0 rfl rfl)
theorem dX1_serve_49 : decode cX1_serve 49 = .ok (.if_icmp .eq 11, 3) := dk_159 0 11 (dk_at dksX1_serve_2 1 rfl rfl)
theorem dX1_serve_52 : decode cX1_serve 52 = .ok (.aload_n 0, 1) := dk_42 (dk_at dksX1_serve_2 4 rfl rfl)
theorem dX1_serve_53 : decode cX1_serve 53 = .ok (.iconst 4, 1) := dk_7 (dk_at dksX1_serve_2 5 rfl rfl)
theorem dX1_serve_54 : decode cX1_serve 54 = .ok (.iload_n 1, 1) := dk_27 (dk_at dksX1_serve_2 6 rfl rfl)
theorem dX1_serve_55 : decode cX1_serve 55 = .ok (.iconst 1, 1) := dk_4 (dk_at dksX1_serve_2 7 rfl rfl)
theorem dX1_serve_56 : decode cX1_serve 56 = .ok (.invokevirtual 209, 3) := dk_182 0 209 (dk_at dksX1_serve_2 8 rfl rfl)
theorem dX1_serve_59 : decode cX1_serve 59 = .ok (.ireturn, 1) := dk_172 (dk_at dksX1_serve_2 11 rfl rfl)
theorem dX1_serve_60 : decode cX1_serve 60 = .ok (.aload_n 0, 1) := dk_42 (dk_at dksX1_serve_2 12 rfl rfl)
theorem dX1_serve_61 : decode cX1_serve 61 = .ok (.getfield 22, 3) := dk_180 0 22 (dk_at dksX1_serve_2 13 rfl rfl)
theorem dX1_serve_64 : decode cX1_serve 64 = .ok (.iconst 2, 1) := dk_5 (dk_at dksX1_serve_2 16 rfl rfl)
theorem dX1_serve_65 : decode cX1_serve 65 = .ok (.iaload, 1) := dk_46 (dk_at dksX1_serve_2 17 rfl rfl)
theorem dX1_serve_66 : decode cX1_serve 66 = .ok (.istore_n 2, 1) := dk_61 (dk_at dksX1_serve_2 18 rfl rfl)
theorem dX1_serve_67 : decode cX1_serve 67 = .ok (.iload_n 2, 1) := dk_28 (dk_at dksX1_serve_2 19 rfl rfl)
theorem dX1_serve_68 : decode cX1_serve 68 = .ok (.bipush 8, 2) := dk_16 8 (dk_at dksX1_serve_2 20 rfl rfl)
theorem dX1_serve_70 : decode cX1_serve 70 = .ok (.if_icmp .ge 12, 3) := dk_162 0 12 (dk_at dksX1_serve_3 0 rfl rfl)
theorem dX1_serve_73 : decode cX1_serve 73 = .ok (.aload_n 0, 1) := dk_42 (dk_at dksX1_serve_3 3 rfl rfl)
theorem dX1_serve_74 : decode cX1_serve 74 = .ok (.getfield 52, 3) := dk_180 0 52 (dk_at dksX1_serve_3 4 rfl rfl)
theorem dX1_serve_77 : decode cX1_serve 77 = .ok (.iload_n 2, 1) := dk_28 (dk_at dksX1_serve_3 7 rfl rfl)
theorem dX1_serve_78 : decode cX1_serve 78 = .ok (.aaload, 1) := dk_50 (dk_at dksX1_serve_3 8 rfl rfl)
theorem dX1_serve_79 : decode cX1_serve 79 = .ok (.ifnonnull 11, 3) := dk_199 0 11 (dk_at dksX1_serve_3 9 rfl rfl)
theorem dX1_serve_82 : decode cX1_serve 82 = .ok (.aload_n 0, 1) := dk_42 (dk_at dksX1_serve_3 12 rfl rfl)
theorem dX1_serve_83 : decode cX1_serve 83 = .ok (.iconst 4, 1) := dk_7 (dk_at dksX1_serve_3 13 rfl rfl)
theorem dX1_serve_84 : decode cX1_serve 84 = .ok (.iload_n 1, 1) := dk_27 (dk_at dksX1_serve_3 14 rfl rfl)
theorem dX1_serve_85 : decode cX1_serve 85 = .ok (.iconst 2, 1) := dk_5 (dk_at dksX1_serve_3 15 rfl rfl)
theorem dX1_serve_86 : decode cX1_serve 86 = .ok (.invokevirtual 209, 3) := dk_182 0 209 (dk_at dksX1_serve_3 16 rfl rfl)
theorem dX1_serve_89 : decode cX1_serve 89 = .ok (.ireturn, 1) := dk_172 (dk_at dksX1_serve_3 19 rfl rfl)
theorem dX1_serve_90 : decode cX1_serve 90 = .ok (.aload_n 0, 1) := dk_42 (dk_at dksX1_serve_3 20 rfl rfl)
theorem dX1_serve_91 : decode cX1_serve 91 = .ok (.getfield 62, 3) := dk_180 0 62 (dk_at dksX1_serve_3 21 rfl rfl)
theorem dX1_serve_94 : decode cX1_serve 94 = .ok (.iload_n 1, 1) := dk_27 (dk_at dksX1_serve_4 0 rfl rfl)
theorem dX1_serve_95 : decode cX1_serve 95 = .ok (.baload, 1) := dk_51 (dk_at dksX1_serve_4 1 rfl rfl)
theorem dX1_serve_96 : decode cX1_serve 96 = .ok (.ifCond .eq 11, 3) := dk_153 0 11 (dk_at dksX1_serve_4 2 rfl rfl)
theorem dX1_serve_99 : decode cX1_serve 99 = .ok (.aload_n 0, 1) := dk_42 (dk_at dksX1_serve_4 5 rfl rfl)
theorem dX1_serve_100 : decode cX1_serve 100 = .ok (.iconst 4, 1) := dk_7 (dk_at dksX1_serve_4 6 rfl rfl)
theorem dX1_serve_101 : decode cX1_serve 101 = .ok (.iload_n 1, 1) := dk_27 (dk_at dksX1_serve_4 7 rfl rfl)
theorem dX1_serve_102 : decode cX1_serve 102 = .ok (.iconst 3, 1) := dk_6 (dk_at dksX1_serve_4 8 rfl rfl)
theorem dX1_serve_103 : decode cX1_serve 103 = .ok (.invokevirtual 209, 3) := dk_182 0 209 (dk_at dksX1_serve_4 9 rfl rfl)
theorem dX1_serve_106 : decode cX1_serve 106 = .ok (.ireturn, 1) := dk_172 (dk_at dksX1_serve_4 12 rfl rfl)
theorem dX1_serve_107 : decode cX1_serve 107 = .ok (.aload_n 0, 1) := dk_42 (dk_at dksX1_serve_4 13 rfl rfl)
theorem dX1_serve_108 : decode cX1_serve 108 = .ok (.aload_n 0, 1) := dk_42 (dk_at dksX1_serve_4 14 rfl rfl)
theorem dX1_serve_109 : decode cX1_serve 109 = .ok (.getfield 52, 3) := dk_180 0 52 (dk_at dksX1_serve_4 15 rfl rfl)
theorem dX1_serve_112 : decode cX1_serve 112 = .ok (.iload_n 2, 1) := dk_28 (dk_at dksX1_serve_4 18 rfl rfl)
theorem dX1_serve_113 : decode cX1_serve 113 = .ok (.aaload, 1) := dk_50 (dk_at dksX1_serve_4 19 rfl rfl)
theorem dX1_serve_114 : decode cX1_serve 114 = .ok (.iconst 3, 1) := dk_6 (dk_at dksX1_serve_4 20 rfl rfl)
theorem dX1_serve_115 : decode cX1_serve 115 = .ok (.aload_n 0, 1) := dk_42 (dk_at dksX1_serve_4 21 rfl rfl)
theorem dX1_serve_116 : decode cX1_serve 116 = .ok (.getfield 56, 3) := dk_180 0 56 (dk_at dksX1_serve_5 0 rfl rfl)
theorem dX1_serve_119 : decode cX1_serve 119 = .ok (.iload_n 2, 1) := dk_28 (dk_at dksX1_serve_5 3 rfl rfl)
theorem dX1_serve_120 : decode cX1_serve 120 = .ok (.iaload, 1) := dk_46 (dk_at dksX1_serve_5 4 rfl rfl)
theorem dX1_serve_121 : decode cX1_serve 121 = .ok (.invokevirtual 171, 3) := dk_182 0 171 (dk_at dksX1_serve_5 5 rfl rfl)
theorem dX1_serve_124 : decode cX1_serve 124 = .ok (.astore_n 3, 1) := dk_78 (dk_at dksX1_serve_5 8 rfl rfl)
theorem dX1_serve_125 : decode cX1_serve 125 = .ok (.aload_n 3, 1) := dk_45 (dk_at dksX1_serve_5 9 rfl rfl)
theorem dX1_serve_126 : decode cX1_serve 126 = .ok (.ifnonnull 18, 3) := dk_199 0 18 (dk_at dksX1_serve_5 10 rfl rfl)
theorem dX1_serve_129 : decode cX1_serve 129 = .ok (.aload_n 0, 1) := dk_42 (dk_at dksX1_serve_5 13 rfl rfl)
theorem dX1_serve_130 : decode cX1_serve 130 = .ok (.getfield 62, 3) := dk_180 0 62 (dk_at dksX1_serve_5 14 rfl rfl)
theorem dX1_serve_133 : decode cX1_serve 133 = .ok (.iload_n 1, 1) := dk_27 (dk_at dksX1_serve_5 17 rfl rfl)
theorem dX1_serve_134 : decode cX1_serve 134 = .ok (.iconst 1, 1) := dk_4 (dk_at dksX1_serve_5 18 rfl rfl)
theorem dX1_serve_135 : decode cX1_serve 135 = .ok (.bastore, 1) := dk_84 (dk_at dksX1_serve_5 19 rfl rfl)
theorem dX1_serve_136 : decode cX1_serve 136 = .ok (.aload_n 0, 1) := dk_42 (dk_at dksX1_serve_5 20 rfl rfl)
theorem dX1_serve_137 : decode cX1_serve 137 = .ok (.iconst 3, 1) := dk_6 (dk_at dksX1_serve_5 21 rfl rfl)
theorem dX1_serve_138 : decode cX1_serve 138 = .ok (.iload_n 1, 1) := dk_27 (dk_at dksX1_serve_5 22 rfl rfl)
theorem dX1_serve_139 : decode cX1_serve 139 = .ok (.iconst 0, 1) := dk_3 (dk_at dksX1_serve_5 23 rfl rfl)
theorem dX1_serve_140 : decode cX1_serve 140 = .ok (.invokevirtual 209, 3) := dk_182 0 209 (dk_at dksX1_serve_6 0 rfl rfl)
theorem dX1_serve_143 : decode cX1_serve 143 = .ok (.ireturn, 1) := dk_172 (dk_at dksX1_serve_6 3 rfl rfl)
theorem dX1_serve_144 : decode cX1_serve 144 = .ok (.aload_n 0, 1) := dk_42 (dk_at dksX1_serve_6 4 rfl rfl)
theorem dX1_serve_145 : decode cX1_serve 145 = .ok (.aload_n 0, 1) := dk_42 (dk_at dksX1_serve_6 5 rfl rfl)
theorem dX1_serve_146 : decode cX1_serve 146 = .ok (.getfield 52, 3) := dk_180 0 52 (dk_at dksX1_serve_6 6 rfl rfl)
theorem dX1_serve_149 : decode cX1_serve 149 = .ok (.iload_n 2, 1) := dk_28 (dk_at dksX1_serve_6 9 rfl rfl)
theorem dX1_serve_150 : decode cX1_serve 150 = .ok (.aaload, 1) := dk_50 (dk_at dksX1_serve_6 10 rfl rfl)
theorem dX1_serve_151 : decode cX1_serve 151 = .ok (.aload_n 3, 1) := dk_45 (dk_at dksX1_serve_6 11 rfl rfl)
theorem dX1_serve_152 : decode cX1_serve 152 = .ok (.aload_n 0, 1) := dk_42 (dk_at dksX1_serve_6 12 rfl rfl)
theorem dX1_serve_153 : decode cX1_serve 153 = .ok (.getfield 59, 3) := dk_180 0 59 (dk_at dksX1_serve_6 13 rfl rfl)
theorem dX1_serve_156 : decode cX1_serve 156 = .ok (.iload_n 2, 1) := dk_28 (dk_at dksX1_serve_6 16 rfl rfl)
theorem dX1_serve_157 : decode cX1_serve 157 = .ok (.iaload, 1) := dk_46 (dk_at dksX1_serve_6 17 rfl rfl)
theorem dX1_serve_158 : decode cX1_serve 158 = .ok (.invokevirtual 138, 3) := dk_182 0 138 (dk_at dksX1_serve_6 18 rfl rfl)
theorem dX1_serve_161 : decode cX1_serve 161 = .ok (.aload_n 0, 1) := dk_42 (dk_at dksX1_serve_6 21 rfl rfl)
theorem dX1_serve_162 : decode cX1_serve 162 = .ok (.getfield 46, 3) := dk_180 0 46 (dk_at dksX1_serve_7 0 rfl rfl)
theorem dX1_serve_165 : decode cX1_serve 165 = .ok (.invokevirtual 141, 3) := dk_182 0 141 (dk_at dksX1_serve_7 3 rfl rfl)
theorem dX1_serve_168 : decode cX1_serve 168 = .ok (.iconst 3, 1) := dk_6 (dk_at dksX1_serve_7 6 rfl rfl)
theorem dX1_serve_169 : decode cX1_serve 169 = .ok (.iadd, 1) := dk_96 (dk_at dksX1_serve_7 7 rfl rfl)
theorem dX1_serve_170 : decode cX1_serve 170 = .ok (.bipush 120, 2) := dk_16 120 (dk_at dksX1_serve_7 8 rfl rfl)
theorem dX1_serve_172 : decode cX1_serve 172 = .ok (.if_icmp .le 11, 3) := dk_164 0 11 (dk_at dksX1_serve_7 10 rfl rfl)
theorem dX1_serve_175 : decode cX1_serve 175 = .ok (.aload_n 0, 1) := dk_42 (dk_at dksX1_serve_7 13 rfl rfl)
theorem dX1_serve_176 : decode cX1_serve 176 = .ok (.iconst 4, 1) := dk_7 (dk_at dksX1_serve_7 14 rfl rfl)
theorem dX1_serve_177 : decode cX1_serve 177 = .ok (.iload_n 1, 1) := dk_27 (dk_at dksX1_serve_7 15 rfl rfl)
theorem dX1_serve_178 : decode cX1_serve 178 = .ok (.iconst 4, 1) := dk_7 (dk_at dksX1_serve_7 16 rfl rfl)
theorem dX1_serve_179 : decode cX1_serve 179 = .ok (.invokevirtual 209, 3) := dk_182 0 209 (dk_at dksX1_serve_7 17 rfl rfl)
theorem dX1_serve_182 : decode cX1_serve 182 = .ok (.ireturn, 1) := dk_172 (dk_at dksX1_serve_7 20 rfl rfl)
theorem dX1_serve_183 : decode cX1_serve 183 = .ok (.aload_n 0, 1) := dk_42 (dk_at dksX1_serve_7 21 rfl rfl)
theorem dX1_serve_184 : decode cX1_serve 184 = .ok (.getfield 62, 3) := dk_180 0 62 (dk_at dksX1_serve_8 0 rfl rfl)
theorem dX1_serve_187 : decode cX1_serve 187 = .ok (.iload_n 1, 1) := dk_27 (dk_at dksX1_serve_8 3 rfl rfl)
theorem dX1_serve_188 : decode cX1_serve 188 = .ok (.iconst 1, 1) := dk_4 (dk_at dksX1_serve_8 4 rfl rfl)
theorem dX1_serve_189 : decode cX1_serve 189 = .ok (.bastore, 1) := dk_84 (dk_at dksX1_serve_8 5 rfl rfl)
theorem dX1_serve_190 : decode cX1_serve 190 = .ok (.aload_n 0, 1) := dk_42 (dk_at dksX1_serve_8 6 rfl rfl)
theorem dX1_serve_191 : decode cX1_serve 191 = .ok (.iconst 2, 1) := dk_5 (dk_at dksX1_serve_8 7 rfl rfl)
theorem dX1_serve_192 : decode cX1_serve 192 = .ok (.iload_n 1, 1) := dk_27 (dk_at dksX1_serve_8 8 rfl rfl)
theorem dX1_serve_193 : decode cX1_serve 193 = .ok (.iload_n 2, 1) := dk_28 (dk_at dksX1_serve_8 9 rfl rfl)
theorem dX1_serve_194 : decode cX1_serve 194 = .ok (.invokevirtual 209, 3) := dk_182 0 209 (dk_at dksX1_serve_8 10 rfl rfl)
theorem dX1_serve_197 : decode cX1_serve 197 = .ok (.pop, 1) := dk_87 (dk_at dksX1_serve_8 13 rfl rfl)
theorem dX1_serve_198 : decode cX1_serve 198 = .ok (.iconst 0, 1) := dk_3 (dk_at dksX1_serve_8 14 rfl rfl)
theorem dX1_serve_199 : decode cX1_serve 199 = .ok (.istore 4, 2) := dk_54 4 (dk_at dksX1_serve_8 15 rfl rfl)
theorem dX1_serve_201 : decode cX1_serve 201 = .ok (.iload 4, 2) := dk_21 4 (dk_at dksX1_serve_8 17 rfl rfl)
theorem dX1_serve_203 : decode cX1_serve 203 = .ok (.aload_n 0, 1) := dk_42 (dk_at dksX1_serve_8 19 rfl rfl)
theorem dX1_serve_204 : decode cX1_serve 204 = .ok (.getfield 46, 3) := dk_180 0 46 (dk_at dksX1_serve_8 20 rfl rfl)
theorem dX1_serve_207 : decode cX1_serve 207 = .ok (.invokevirtual 141, 3) := dk_182 0 141 (dk_at dksX1_serve_9 0 rfl rfl)
theorem dX1_serve_210 : decode cX1_serve 210 = .ok (.if_icmp .ge 28, 3) := dk_162 0 28 (dk_at dksX1_serve_9 3 rfl rfl)
theorem dX1_serve_213 : decode cX1_serve 213 = .ok (.aload_n 0, 1) := dk_42 (dk_at dksX1_serve_9 6 rfl rfl)
theorem dX1_serve_214 : decode cX1_serve 214 = .ok (.getfield 22, 3) := dk_180 0 22 (dk_at dksX1_serve_9 7 rfl rfl)
theorem dX1_serve_217 : decode cX1_serve 217 = .ok (.iconst 3, 1) := dk_6 (dk_at dksX1_serve_9 10 rfl rfl)
theorem dX1_serve_218 : decode cX1_serve 218 = .ok (.iload 4, 2) := dk_21 4 (dk_at dksX1_serve_9 11 rfl rfl)
theorem dX1_serve_220 : decode cX1_serve 220 = .ok (.iadd, 1) := dk_96 (dk_at dksX1_serve_9 13 rfl rfl)
theorem dX1_serve_221 : decode cX1_serve 221 = .ok (.aload_n 0, 1) := dk_42 (dk_at dksX1_serve_9 14 rfl rfl)
theorem dX1_serve_222 : decode cX1_serve 222 = .ok (.getfield 46, 3) := dk_180 0 46 (dk_at dksX1_serve_9 15 rfl rfl)
theorem dX1_serve_225 : decode cX1_serve 225 = .ok (.getfield 144, 3) := dk_180 0 144 (dk_at dksX1_serve_9 18 rfl rfl)
theorem dX1_serve_228 : decode cX1_serve 228 = .ok (.iload 4, 2) := dk_21 4 (dk_at dksX1_serve_9 21 rfl rfl)
theorem dX1_serve_230 : decode cX1_serve 230 = .ok (.iaload, 1) := dk_46 (dk_at dksX1_serve_9 23 rfl rfl)
theorem dX1_serve_231 : decode cX1_serve 231 = .ok (.iastore, 1) := dk_79 (dk_at dksX1_serve_10 0 rfl rfl)
theorem dX1_serve_232 : decode cX1_serve 232 = .ok (.iinc 4 1, 3) := dk_132 4 1 (dk_at dksX1_serve_10 1 rfl rfl)
theorem dX1_serve_235 : decode cX1_serve 235 = .ok (.goto (-34), 3) := dk_167 255 222 (dk_at dksX1_serve_10 4 rfl rfl)
theorem dX1_serve_238 : decode cX1_serve 238 = .ok (.aload_n 0, 1) := dk_42 (dk_at dksX1_serve_10 7 rfl rfl)
theorem dX1_serve_239 : decode cX1_serve 239 = .ok (.iconst 3, 1) := dk_6 (dk_at dksX1_serve_10 8 rfl rfl)
theorem dX1_serve_240 : decode cX1_serve 240 = .ok (.aload_n 0, 1) := dk_42 (dk_at dksX1_serve_10 9 rfl rfl)
theorem dX1_serve_241 : decode cX1_serve 241 = .ok (.getfield 46, 3) := dk_180 0 46 (dk_at dksX1_serve_10 10 rfl rfl)
theorem dX1_serve_244 : decode cX1_serve 244 = .ok (.invokevirtual 141, 3) := dk_182 0 141 (dk_at dksX1_serve_10 13 rfl rfl)
theorem dX1_serve_247 : decode cX1_serve 247 = .ok (.iadd, 1) := dk_96 (dk_at dksX1_serve_10 16 rfl rfl)
theorem dX1_serve_248 : decode cX1_serve 248 = .ok (.putfield 94, 3) := dk_181 0 94 (dk_at dksX1_serve_10 17 rfl rfl)
theorem dX1_serve_251 : decode cX1_serve 251 = .ok (.aload_n 0, 1) := dk_42 (dk_at dksX1_serve_10 20 rfl rfl)
theorem dX1_serve_252 : decode cX1_serve 252 = .ok (.aload_n 3, 1) := dk_45 (dk_at dksX1_serve_10 21 rfl rfl)
theorem dX1_serve_253 : decode cX1_serve 253 = .ok (.invokevirtual 177, 3) := dk_182 0 177 (dk_at dksX1_serve_11 0 rfl rfl)
theorem dX1_serve_256 : decode cX1_serve 256 = .ok (.iconst 2, 1) := dk_5 (dk_at dksX1_serve_11 3 rfl rfl)
theorem dX1_serve_257 : decode cX1_serve 257 = .ok (.ireturn, 1) := dk_172 (dk_at dksX1_serve_11 4 rfl rfl)
abbrev cX1_replies : ByteArray := prog_1_method_25_code
def yX1_replies : MethodName := ⟨RX1, "replies", "(III)I"⟩
def dkwX1_replies_1 : List UInt8 := [160, 0, 7, 5, 167, 0, 4, 6, 181, 0, 94, 27, 172]
abbrev dktX1_replies_1 : List UInt8 := dkwX1_replies_1 ++ []
def dkwX1_replies_0 : List UInt8 := [42, 180, 0, 22, 3, 27, 79, 42, 180, 0, 22, 4, 28, 79, 42, 180, 0, 22, 5, 29, 79, 42, 27, 6]
abbrev dktX1_replies_0 : List UInt8 := dkwX1_replies_0 ++ dktX1_replies_1
theorem dksX1_replies_0 : cX1_replies.data.toList.drop 0 = dktX1_replies_0 := by decide +kernel
theorem dksX1_replies_1 : cX1_replies.data.toList.drop 24 = dktX1_replies_1 := dk_seg dksX1_replies_0 24 rfl rfl
theorem dX1_replies_0 : decode cX1_replies 0 = .ok (.aload_n 0, 1) := dk_42 (dk_at dksX1_replies_0 0 rfl rfl)
theorem dX1_replies_1 : decode cX1_replies 1 = .ok (.getfield 22, 3) := dk_180 0 22 (dk_at dksX1_replies_0 1 rfl rfl)
theorem dX1_replies_4 : decode cX1_replies 4 = .ok (.iconst 0, 1) := dk_3 (dk_at dksX1_replies_0 4 rfl rfl)
theorem dX1_replies_5 : decode cX1_replies 5 = .ok (.iload_n 1, 1) := dk_27 (dk_at dksX1_replies_0 5 rfl rfl)
theorem dX1_replies_6 : decode cX1_replies 6 = .ok (.iastore, 1) := dk_79 (dk_at dksX1_replies_0 6 rfl rfl)
theorem dX1_replies_7 : decode cX1_replies 7 = .ok (.aload_n 0, 1) := dk_42 (dk_at dksX1_replies_0 7 rfl rfl)
theorem dX1_replies_8 : decode cX1_replies 8 = .ok (.getfield 22, 3) := dk_180 0 22 (dk_at dksX1_replies_0 8 rfl rfl)
theorem dX1_replies_11 : decode cX1_replies 11 = .ok (.iconst 1, 1) := dk_4 (dk_at dksX1_replies_0 11 rfl rfl)
theorem dX1_replies_12 : decode cX1_replies 12 = .ok (.iload_n 2, 1) := dk_28 (dk_at dksX1_replies_0 12 rfl rfl)
theorem dX1_replies_13 : decode cX1_replies 13 = .ok (.iastore, 1) := dk_79 (dk_at dksX1_replies_0 13 rfl rfl)
theorem dX1_replies_14 : decode cX1_replies 14 = .ok (.aload_n 0, 1) := dk_42 (dk_at dksX1_replies_0 14 rfl rfl)
theorem dX1_replies_15 : decode cX1_replies 15 = .ok (.getfield 22, 3) := dk_180 0 22 (dk_at dksX1_replies_0 15 rfl rfl)
theorem dX1_replies_18 : decode cX1_replies 18 = .ok (.iconst 2, 1) := dk_5 (dk_at dksX1_replies_0 18 rfl rfl)
theorem dX1_replies_19 : decode cX1_replies 19 = .ok (.iload_n 3, 1) := dk_29 (dk_at dksX1_replies_0 19 rfl rfl)
theorem dX1_replies_20 : decode cX1_replies 20 = .ok (.iastore, 1) := dk_79 (dk_at dksX1_replies_0 20 rfl rfl)
theorem dX1_replies_21 : decode cX1_replies 21 = .ok (.aload_n 0, 1) := dk_42 (dk_at dksX1_replies_0 21 rfl rfl)
theorem dX1_replies_22 : decode cX1_replies 22 = .ok (.iload_n 1, 1) := dk_27 (dk_at dksX1_replies_0 22 rfl rfl)
theorem dX1_replies_23 : decode cX1_replies 23 = .ok (.iconst 3, 1) := dk_6 (dk_at dksX1_replies_0 23 rfl rfl)
theorem dX1_replies_24 : decode cX1_replies 24 = .ok (.if_icmp .ne 7, 3) := dk_160 0 7 (dk_at dksX1_replies_1 0 rfl rfl)
theorem dX1_replies_27 : decode cX1_replies 27 = .ok (.iconst 2, 1) := dk_5 (dk_at dksX1_replies_1 3 rfl rfl)
theorem dX1_replies_28 : decode cX1_replies 28 = .ok (.goto 4, 3) := dk_167 0 4 (dk_at dksX1_replies_1 4 rfl rfl)
theorem dX1_replies_31 : decode cX1_replies 31 = .ok (.iconst 3, 1) := dk_6 (dk_at dksX1_replies_1 7 rfl rfl)
theorem dX1_replies_32 : decode cX1_replies 32 = .ok (.putfield 94, 3) := dk_181 0 94 (dk_at dksX1_replies_1 8 rfl rfl)
theorem dX1_replies_35 : decode cX1_replies 35 = .ok (.iload_n 1, 1) := dk_27 (dk_at dksX1_replies_1 11 rfl rfl)
theorem dX1_replies_36 : decode cX1_replies 36 = .ok (.ireturn, 1) := dk_172 (dk_at dksX1_replies_1 12 rfl rfl)
theorem q86 : (Jvm.Cond.initialized "NotationDesk") ∈ lw_all := lw_g (lw_at lw_m1 1 rfl) rfl
theorem q114 : (Jvm.Cond.instantiable "NotationDesk" (12 : Nat)) ∈ lw_all := lw_g (lw_at lw_m1 29 rfl) rfl
theorem q116 : (Jvm.Cond.instanceMethod ({ cls := "NotationDesk", name := "<init>", desc := "()V" } : Jvm.MethodName)) ∈ lw_all := lw_g (lw_at lw_m1 31 rfl) rfl
theorem q117 : (Jvm.Cond.code ({ cls := "NotationDesk", name := "<init>", desc := "()V" } : Jvm.MethodName) prog_1_method_6_code (1 : Nat) (Option.none : Option Jvm.ClassFile.FieldType)) ∈ lw_all := lw_g (lw_at lw_m1 32 rfl) rfl
theorem q118 : (Jvm.Cond.methodLink "NotationDesk" (9 : Nat) ({ cls := "java/lang/Object", name := "<init>", desc := "()V" } : Jvm.MethodName)) ∈ lw_all := lw_g (lw_at lw_m1 33 rfl) rfl
theorem q121 : (Jvm.Cond.classLink "NotationDesk" (15 : Nat) "NotationDesk$Compiler") ∈ lw_all := lw_g (lw_at lw_m1 36 rfl) rfl
theorem q123 : (Jvm.Cond.methodLinkNest "NotationDesk" (17 : Nat) ({ cls := "NotationDesk$Compiler", name := "<init>", desc := "()V" } : Jvm.MethodName) "NotationDesk") ∈ lw_tbl := lw_at lw_m1 38 rfl
theorem q142 : (Jvm.Cond.fieldLinkNest "NotationDesk" (80 : Nat) "NotationDesk$Compiler" "text" "[C" "NotationDesk") ∈ lw_tbl := lw_at lw_m1 57 rfl
theorem q144 : (Jvm.Cond.fieldLinkNest "NotationDesk" (76 : Nat) "NotationDesk$Compiler" "size" "I" "NotationDesk") ∈ lw_tbl := lw_at lw_m1 59 rfl
theorem q147 : (Jvm.Cond.fieldLinkNest "NotationDesk" (91 : Nat) "NotationDesk$Compiler" "fault" "I" "NotationDesk") ∈ lw_tbl := lw_at lw_m1 62 rfl
theorem q149 : (Jvm.Cond.fieldLinkNest "NotationDesk" (157 : Nat) "NotationDesk$Compiler" "names" "[LNotationDesk$Type;" "NotationDesk") ∈ lw_tbl := lw_at lw_m1 64 rfl
theorem q193 : (Jvm.Cond.classLink "NotationDesk" (26 : Nat) "NotationDesk$Store") ∈ lw_all := lw_g (lw_at lw_m1 108 rfl) rfl
theorem q195 : (Jvm.Cond.methodLinkNest "NotationDesk" (28 : Nat) ({ cls := "NotationDesk$Store", name := "<init>", desc := "()V" } : Jvm.MethodName) "NotationDesk") ∈ lw_tbl := lw_at lw_m1 110 rfl
theorem q203 : (Jvm.Cond.fieldLinkNest "NotationDesk" (181 : Nat) "NotationDesk$Store" "order" "[LNotationDesk$Part;" "NotationDesk") ∈ lw_tbl := lw_at lw_m1 118 rfl
theorem q206 : (Jvm.Cond.fieldLinkNest "NotationDesk" (203 : Nat) "NotationDesk$Store" "octets" "[I" "NotationDesk") ∈ lw_tbl := lw_at lw_m1 121 rfl
theorem q211 : (Jvm.Cond.fieldLinkNest "NotationDesk" (147 : Nat) "NotationDesk$Store" "ordered" "I" "NotationDesk") ∈ lw_tbl := lw_at lw_m1 126 rfl
theorem q225 : (Jvm.Cond.classLink "NotationDesk" (36 : Nat) "NotationDesk$Source") ∈ lw_all := lw_g (lw_at lw_m1 140 rfl) rfl
theorem q227 : (Jvm.Cond.methodLinkNest "NotationDesk" (38 : Nat) ({ cls := "NotationDesk$Source", name := "<init>", desc := "()V" } : Jvm.MethodName) "NotationDesk") ∈ lw_tbl := lw_at lw_m1 142 rfl
theorem q233 : (Jvm.Cond.fieldLinkNest "NotationDesk" (135 : Nat) "NotationDesk$Source" "at" "I" "NotationDesk") ∈ lw_tbl := lw_at lw_m1 148 rfl
theorem q264 : (Jvm.Cond.classLink "NotationDesk" (43 : Nat) "NotationDesk$Writer") ∈ lw_all := lw_g (lw_at lw_m1 179 rfl) rfl
theorem q266 : (Jvm.Cond.methodLinkNest "NotationDesk" (45 : Nat) ({ cls := "NotationDesk$Writer", name := "<init>", desc := "()V" } : Jvm.MethodName) "NotationDesk") ∈ lw_tbl := lw_at lw_m1 181 rfl
theorem q271 : (Jvm.Cond.fieldLinkNest "NotationDesk" (144 : Nat) "NotationDesk$Writer" "bytes" "[I" "NotationDesk") ∈ lw_tbl := lw_at lw_m1 186 rfl
theorem q273 : (Jvm.Cond.fieldLinkNest "NotationDesk" (114 : Nat) "NotationDesk$Writer" "bits" "I" "NotationDesk") ∈ lw_tbl := lw_at lw_m1 188 rfl
theorem q283 : (Jvm.Cond.classLink "NotationDesk" (50 : Nat) "NotationDesk$Type") ∈ lw_all := lw_g (lw_at lw_m1 198 rfl) rfl
theorem q284 : (Jvm.Cond.fieldLink "NotationDesk" (18 : Nat) "NotationDesk" "compiler" "LNotationDesk$Compiler;") ∈ lw_all := lw_g (lw_at lw_m1 199 rfl) rfl
theorem q285 : (Jvm.Cond.fieldLink "NotationDesk" (69 : Nat) "NotationDesk" "isCompiled" "Z") ∈ lw_all := lw_g (lw_at lw_m1 200 rfl) rfl
theorem q286 : (Jvm.Cond.fieldLink "NotationDesk" (22 : Nat) "NotationDesk" "buffer" "[I") ∈ lw_all := lw_g (lw_at lw_m1 201 rfl) rfl
theorem q287 : (Jvm.Cond.fieldLink "NotationDesk" (94 : Nat) "NotationDesk" "filled" "I") ∈ lw_all := lw_g (lw_at lw_m1 202 rfl) rfl
theorem q288 : (Jvm.Cond.fieldLink "NotationDesk" (29 : Nat) "NotationDesk" "value" "LNotationDesk$Store;") ∈ lw_all := lw_g (lw_at lw_m1 203 rfl) rfl
theorem q289 : (Jvm.Cond.fieldLink "NotationDesk" (33 : Nat) "NotationDesk" "trial" "LNotationDesk$Store;") ∈ lw_all := lw_g (lw_at lw_m1 204 rfl) rfl
theorem q290 : (Jvm.Cond.fieldLink "NotationDesk" (39 : Nat) "NotationDesk" "source" "LNotationDesk$Source;") ∈ lw_all := lw_g (lw_at lw_m1 205 rfl) rfl
theorem q291 : (Jvm.Cond.fieldLink "NotationDesk" (46 : Nat) "NotationDesk" "writer" "LNotationDesk$Writer;") ∈ lw_all := lw_g (lw_at lw_m1 206 rfl) rfl
theorem q292 : (Jvm.Cond.fieldLink "NotationDesk" (52 : Nat) "NotationDesk" "operations" "[LNotationDesk$Type;") ∈ lw_all := lw_g (lw_at lw_m1 207 rfl) rfl
theorem q293 : (Jvm.Cond.fieldLink "NotationDesk" (56 : Nat) "NotationDesk" "takes" "[I") ∈ lw_all := lw_g (lw_at lw_m1 208 rfl) rfl
theorem q294 : (Jvm.Cond.fieldLink "NotationDesk" (59 : Nat) "NotationDesk" "answers" "[I") ∈ lw_all := lw_g (lw_at lw_m1 209 rfl) rfl
theorem q295 : (Jvm.Cond.fieldLink "NotationDesk" (62 : Nat) "NotationDesk" "served" "[Z") ∈ lw_all := lw_g (lw_at lw_m1 210 rfl) rfl
theorem q296 : (Jvm.Cond.laysFinal "NotationDesk" "NotationDesk" "compiler" "LNotationDesk$Compiler;") ∈ lw_all := lw_g (lw_at lw_m1 211 rfl) rfl
theorem q297 : (Jvm.Cond.soleField "NotationDesk" "compiler") ∈ lw_all := lw_g (lw_at lw_m1 212 rfl) rfl
theorem q298 : (Jvm.Cond.lays "NotationDesk" "NotationDesk" "isCompiled" "Z") ∈ lw_all := lw_g (lw_at lw_m1 213 rfl) rfl
theorem q299 : (Jvm.Cond.soleField "NotationDesk" "isCompiled") ∈ lw_all := lw_g (lw_at lw_m1 214 rfl) rfl
theorem q300 : (Jvm.Cond.laysFinal "NotationDesk" "NotationDesk" "buffer" "[I") ∈ lw_all := lw_g (lw_at lw_m1 215 rfl) rfl
theorem q301 : (Jvm.Cond.soleField "NotationDesk" "buffer") ∈ lw_all := lw_g (lw_at lw_m1 216 rfl) rfl
theorem q302 : (Jvm.Cond.lays "NotationDesk" "NotationDesk" "filled" "I") ∈ lw_all := lw_g (lw_at lw_m1 217 rfl) rfl
theorem q303 : (Jvm.Cond.soleField "NotationDesk" "filled") ∈ lw_all := lw_g (lw_at lw_m1 218 rfl) rfl
theorem q304 : (Jvm.Cond.lays "NotationDesk" "NotationDesk" "value" "LNotationDesk$Store;") ∈ lw_all := lw_g (lw_at lw_m1 219 rfl) rfl
theorem q305 : (Jvm.Cond.soleField "NotationDesk" "value") ∈ lw_all := lw_g (lw_at lw_m1 220 rfl) rfl
theorem q306 : (Jvm.Cond.lays "NotationDesk" "NotationDesk" "trial" "LNotationDesk$Store;") ∈ lw_all := lw_g (lw_at lw_m1 221 rfl) rfl
theorem q307 : (Jvm.Cond.soleField "NotationDesk" "trial") ∈ lw_all := lw_g (lw_at lw_m1 222 rfl) rfl
theorem q308 : (Jvm.Cond.laysFinal "NotationDesk" "NotationDesk" "source" "LNotationDesk$Source;") ∈ lw_all := lw_g (lw_at lw_m1 223 rfl) rfl
theorem q309 : (Jvm.Cond.soleField "NotationDesk" "source") ∈ lw_all := lw_g (lw_at lw_m1 224 rfl) rfl
theorem q310 : (Jvm.Cond.laysFinal "NotationDesk" "NotationDesk" "writer" "LNotationDesk$Writer;") ∈ lw_all := lw_g (lw_at lw_m1 225 rfl) rfl
theorem q311 : (Jvm.Cond.soleField "NotationDesk" "writer") ∈ lw_all := lw_g (lw_at lw_m1 226 rfl) rfl
theorem q312 : (Jvm.Cond.laysFinal "NotationDesk" "NotationDesk" "operations" "[LNotationDesk$Type;") ∈ lw_all := lw_g (lw_at lw_m1 227 rfl) rfl
theorem q313 : (Jvm.Cond.soleField "NotationDesk" "operations") ∈ lw_all := lw_g (lw_at lw_m1 228 rfl) rfl
theorem q314 : (Jvm.Cond.laysFinal "NotationDesk" "NotationDesk" "takes" "[I") ∈ lw_all := lw_g (lw_at lw_m1 229 rfl) rfl
theorem q315 : (Jvm.Cond.soleField "NotationDesk" "takes") ∈ lw_all := lw_g (lw_at lw_m1 230 rfl) rfl
theorem q316 : (Jvm.Cond.laysFinal "NotationDesk" "NotationDesk" "answers" "[I") ∈ lw_all := lw_g (lw_at lw_m1 231 rfl) rfl
theorem q317 : (Jvm.Cond.soleField "NotationDesk" "answers") ∈ lw_all := lw_g (lw_at lw_m1 232 rfl) rfl
theorem q318 : (Jvm.Cond.laysFinal "NotationDesk" "NotationDesk" "served" "[Z") ∈ lw_all := lw_g (lw_at lw_m1 233 rfl) rfl
theorem q319 : (Jvm.Cond.soleField "NotationDesk" "served") ∈ lw_all := lw_g (lw_at lw_m1 234 rfl) rfl
theorem q320 : (Jvm.Cond.superclass "NotationDesk" "java/lang/Object") ∈ lw_all := lw_g (lw_at lw_m1 235 rfl) rfl
theorem q323 : (Jvm.Cond.instanceMethod ({ cls := "NotationDesk", name := "type", desc := "(C)Z" } : Jvm.MethodName)) ∈ lw_all := lw_g (lw_at lw_m1 238 rfl) rfl
theorem q324 : (Jvm.Cond.selects "NotationDesk" ({ cls := "NotationDesk", name := "type", desc := "(C)Z" } : Jvm.MethodName) ({ cls := "NotationDesk", name := "type", desc := "(C)Z" } : Jvm.MethodName)) ∈ lw_all := lw_g (lw_at lw_m1 239 rfl) rfl
theorem q325 : (Jvm.Cond.code ({ cls := "NotationDesk", name := "type", desc := "(C)Z" } : Jvm.MethodName) prog_1_method_9_code (2 : Nat) (Option.some Jvm.ClassFile.FieldType.boolean)) ∈ lw_all := lw_g (lw_at lw_m2 0 rfl) rfl
theorem q326 : (Jvm.Cond.methodLink "NotationDesk" (84 : Nat) ({ cls := "NotationDesk", name := "forget", desc := "()V" } : Jvm.MethodName)) ∈ lw_all := lw_g (lw_at lw_m2 1 rfl) rfl
theorem q327 : (Jvm.Cond.privateMethod ({ cls := "NotationDesk", name := "forget", desc := "()V" } : Jvm.MethodName)) ∈ lw_tbl := lw_at lw_m2 2 rfl
theorem q328 : (Jvm.Cond.instanceMethod ({ cls := "NotationDesk", name := "forget", desc := "()V" } : Jvm.MethodName)) ∈ lw_all := lw_g (lw_at lw_m2 3 rfl) rfl
theorem q329 : (Jvm.Cond.code ({ cls := "NotationDesk", name := "forget", desc := "()V" } : Jvm.MethodName) prog_1_method_8_code (2 : Nat) (Option.none : Option Jvm.ClassFile.FieldType)) ∈ lw_all := lw_g (lw_at lw_m2 4 rfl) rfl
theorem q330 : (Jvm.Cond.methodLink "NotationDesk" (73 : Nat) ({ cls := "NotationDesk$Store", name := "clear", desc := "()V" } : Jvm.MethodName)) ∈ lw_all := lw_g (lw_at lw_m2 5 rfl) rfl
theorem q335 : (Jvm.Cond.instanceMethod ({ cls := "NotationDesk", name := "clear", desc := "()I" } : Jvm.MethodName)) ∈ lw_all := lw_g (lw_at lw_m2 10 rfl) rfl
theorem q336 : (Jvm.Cond.selects "NotationDesk" ({ cls := "NotationDesk", name := "clear", desc := "()I" } : Jvm.MethodName) ({ cls := "NotationDesk", name := "clear", desc := "()I" } : Jvm.MethodName)) ∈ lw_all := lw_g (lw_at lw_m2 11 rfl) rfl
theorem q337 : (Jvm.Cond.code ({ cls := "NotationDesk", name := "clear", desc := "()I" } : Jvm.MethodName) prog_1_method_10_code (2 : Nat) (Option.some Jvm.ClassFile.FieldType.int)) ∈ lw_all := lw_g (lw_at lw_m2 12 rfl) rfl
theorem q339 : (Jvm.Cond.instanceMethod ({ cls := "NotationDesk", name := "compile", desc := "()I" } : Jvm.MethodName)) ∈ lw_all := lw_g (lw_at lw_m2 14 rfl) rfl
theorem q340 : (Jvm.Cond.selects "NotationDesk" ({ cls := "NotationDesk", name := "compile", desc := "()I" } : Jvm.MethodName) ({ cls := "NotationDesk", name := "compile", desc := "()I" } : Jvm.MethodName)) ∈ lw_all := lw_g (lw_at lw_m2 15 rfl) rfl
theorem q341 : (Jvm.Cond.code ({ cls := "NotationDesk", name := "compile", desc := "()I" } : Jvm.MethodName) prog_1_method_11_code (1 : Nat) (Option.some Jvm.ClassFile.FieldType.int)) ∈ lw_all := lw_g (lw_at lw_m2 16 rfl) rfl
theorem q342 : (Jvm.Cond.methodLink "NotationDesk" (87 : Nat) ({ cls := "NotationDesk$Compiler", name := "run", desc := "()Z" } : Jvm.MethodName)) ∈ lw_all := lw_g (lw_at lw_m2 17 rfl) rfl
theorem q373 : (Jvm.Cond.static ({ cls := "NotationDesk", name := "isDigit", desc := "(I)Z" } : Jvm.MethodName)) ∈ lw_all := lw_g (lw_at lw_m2 48 rfl) rfl
theorem q374 : (Jvm.Cond.code ({ cls := "NotationDesk", name := "isDigit", desc := "(I)Z" } : Jvm.MethodName) prog_1_method_2_code (1 : Nat) (Option.some Jvm.ClassFile.FieldType.boolean)) ∈ lw_all := lw_g (lw_at lw_m2 49 rfl) rfl
theorem q516 : (Jvm.Cond.static ({ cls := "NotationDesk", name := "outside", desc := "(III)Z" } : Jvm.MethodName)) ∈ lw_all := lw_g (lw_at lw_m2 191 rfl) rfl
theorem q517 : (Jvm.Cond.code ({ cls := "NotationDesk", name := "outside", desc := "(III)Z" } : Jvm.MethodName) prog_1_method_1_code (3 : Nat) (Option.some Jvm.ClassFile.FieldType.boolean)) ∈ lw_all := lw_g (lw_at lw_m2 192 rfl) rfl
theorem q673 : (Jvm.Cond.instanceMethod ({ cls := "NotationDesk", name := "put", desc := "(JI)Z" } : Jvm.MethodName)) ∈ lw_all := lw_g (lw_at lw_m3 108 rfl) rfl
theorem q674 : (Jvm.Cond.selects "NotationDesk" ({ cls := "NotationDesk", name := "put", desc := "(JI)Z" } : Jvm.MethodName) ({ cls := "NotationDesk", name := "put", desc := "(JI)Z" } : Jvm.MethodName)) ∈ lw_all := lw_g (lw_at lw_m3 109 rfl) rfl
theorem q675 : (Jvm.Cond.code ({ cls := "NotationDesk", name := "put", desc := "(JI)Z" } : Jvm.MethodName) prog_1_method_12_code (5 : Nat) (Option.some Jvm.ClassFile.FieldType.boolean)) ∈ lw_all := lw_g (lw_at lw_m3 110 rfl) rfl
theorem q676 : (Jvm.Cond.methodLink "NotationDesk" (1 : Nat) ({ cls := "NotationDesk", name := "outside", desc := "(III)Z" } : Jvm.MethodName)) ∈ lw_all := lw_g (lw_at lw_m3 111 rfl) rfl
theorem q677 : (Jvm.Cond.constantLong "NotationDesk" (97 : Nat) (255 : Int64)) ∈ lw_all := lw_g (lw_at lw_m3 112 rfl) rfl
theorem q679 : (Jvm.Cond.instanceMethod ({ cls := "NotationDesk", name := "wipe", desc := "()I" } : Jvm.MethodName)) ∈ lw_all := lw_g (lw_at lw_m3 114 rfl) rfl
theorem q680 : (Jvm.Cond.selects "NotationDesk" ({ cls := "NotationDesk", name := "wipe", desc := "()I" } : Jvm.MethodName) ({ cls := "NotationDesk", name := "wipe", desc := "()I" } : Jvm.MethodName)) ∈ lw_all := lw_g (lw_at lw_m3 115 rfl) rfl
theorem q681 : (Jvm.Cond.code ({ cls := "NotationDesk", name := "wipe", desc := "()I" } : Jvm.MethodName) prog_1_method_13_code (2 : Nat) (Option.some Jvm.ClassFile.FieldType.int)) ∈ lw_all := lw_g (lw_at lw_m3 116 rfl) rfl
theorem q683 : (Jvm.Cond.instanceMethod ({ cls := "NotationDesk", name := "parts", desc := "()I" } : Jvm.MethodName)) ∈ lw_all := lw_g (lw_at lw_m3 118 rfl) rfl
theorem q684 : (Jvm.Cond.selects "NotationDesk" ({ cls := "NotationDesk", name := "parts", desc := "()I" } : Jvm.MethodName) ({ cls := "NotationDesk", name := "parts", desc := "()I" } : Jvm.MethodName)) ∈ lw_all := lw_g (lw_at lw_m3 119 rfl) rfl
theorem q685 : (Jvm.Cond.code ({ cls := "NotationDesk", name := "parts", desc := "()I" } : Jvm.MethodName) prog_1_method_20_code (1 : Nat) (Option.some Jvm.ClassFile.FieldType.int)) ∈ lw_all := lw_g (lw_at lw_m3 120 rfl) rfl
theorem q769 : (Jvm.Cond.instanceMethod ({ cls := "NotationDesk", name := "at", desc := "(I)I" } : Jvm.MethodName)) ∈ lw_all := lw_g (lw_at lw_m3 204 rfl) rfl
theorem q770 : (Jvm.Cond.selects "NotationDesk" ({ cls := "NotationDesk", name := "at", desc := "(I)I" } : Jvm.MethodName) ({ cls := "NotationDesk", name := "at", desc := "(I)I" } : Jvm.MethodName)) ∈ lw_all := lw_g (lw_at lw_m3 205 rfl) rfl
theorem q771 : (Jvm.Cond.code ({ cls := "NotationDesk", name := "at", desc := "(I)I" } : Jvm.MethodName) prog_1_method_14_code (2 : Nat) (Option.some Jvm.ClassFile.FieldType.int)) ∈ lw_all := lw_g (lw_at lw_m3 206 rfl) rfl
theorem q772 : (Jvm.Cond.classLink "NotationDesk" (99 : Nat) "java/lang/IndexOutOfBoundsException") ∈ lw_all := lw_g (lw_at lw_m3 207 rfl) rfl
theorem q781 : (Jvm.Cond.methodLink "NotationDesk" (101 : Nat) ({ cls := "java/lang/IndexOutOfBoundsException", name := "<init>", desc := "()V" } : Jvm.MethodName)) ∈ lw_all := lw_g (lw_at lw_m3 216 rfl) rfl
theorem q801 : (Jvm.Cond.instanceMethod ({ cls := "NotationDesk", name := "transcode", desc := "(CII)I" } : Jvm.MethodName)) ∈ lw_all := lw_g (lw_at lw_m3 236 rfl) rfl
theorem q802 : (Jvm.Cond.selects "NotationDesk" ({ cls := "NotationDesk", name := "transcode", desc := "(CII)I" } : Jvm.MethodName) ({ cls := "NotationDesk", name := "transcode", desc := "(CII)I" } : Jvm.MethodName)) ∈ lw_all := lw_g (lw_at lw_m3 237 rfl) rfl
theorem q803 : (Jvm.Cond.code ({ cls := "NotationDesk", name := "transcode", desc := "(CII)I" } : Jvm.MethodName) prog_1_method_19_code (7 : Nat) (Option.some Jvm.ClassFile.FieldType.int)) ∈ lw_all := lw_g (lw_at lw_m3 238 rfl) rfl
theorem q804 : (Jvm.Cond.methodLink "NotationDesk" (163 : Nat) ({ cls := "NotationDesk", name := "need", desc := "(Z)V" } : Jvm.MethodName)) ∈ lw_all := lw_g (lw_at lw_m3 239 rfl) rfl
theorem q805 : (Jvm.Cond.static ({ cls := "NotationDesk", name := "need", desc := "(Z)V" } : Jvm.MethodName)) ∈ lw_all := lw_g (lw_at lw_m4 0 rfl) rfl
theorem q806 : (Jvm.Cond.code ({ cls := "NotationDesk", name := "need", desc := "(Z)V" } : Jvm.MethodName) prog_1_method_7_code (1 : Nat) (Option.none : Option Jvm.ClassFile.FieldType)) ∈ lw_all := lw_g (lw_at lw_m4 1 rfl) rfl
theorem q807 : (Jvm.Cond.classLink "NotationDesk" (66 : Nat) "java/lang/IllegalArgumentException") ∈ lw_all := lw_g (lw_at lw_m4 2 rfl) rfl
theorem q816 : (Jvm.Cond.methodLink "NotationDesk" (68 : Nat) ({ cls := "java/lang/IllegalArgumentException", name := "<init>", desc := "()V" } : Jvm.MethodName)) ∈ lw_all := lw_g (lw_at lw_m4 11 rfl) rfl
theorem q822 : (Jvm.Cond.methodLink "NotationDesk" (167 : Nat) ({ cls := "NotationDesk", name := "named", desc := "(C)LNotationDesk$Type;" } : Jvm.MethodName)) ∈ lw_all := lw_g (lw_at lw_m4 17 rfl) rfl
theorem q823 : (Jvm.Cond.privateMethod ({ cls := "NotationDesk", name := "named", desc := "(C)LNotationDesk$Type;" } : Jvm.MethodName)) ∈ lw_tbl := lw_at lw_m4 18 rfl
theorem q824 : (Jvm.Cond.instanceMethod ({ cls := "NotationDesk", name := "named", desc := "(C)LNotationDesk$Type;" } : Jvm.MethodName)) ∈ lw_all := lw_g (lw_at lw_m4 19 rfl) rfl
theorem q825 : (Jvm.Cond.code ({ cls := "NotationDesk", name := "named", desc := "(C)LNotationDesk$Type;" } : Jvm.MethodName) prog_1_method_18_code (3 : Nat) (Option.some (Jvm.ClassFile.FieldType.object "NotationDesk$Type"))) ∈ lw_all := lw_g (lw_at lw_m4 20 rfl) rfl
theorem q826 : (Jvm.Cond.classLink "NotationDesk" (154 : Nat) "java/lang/IllegalStateException") ∈ lw_all := lw_g (lw_at lw_m4 21 rfl) rfl
theorem q835 : (Jvm.Cond.methodLink "NotationDesk" (156 : Nat) ({ cls := "java/lang/IllegalStateException", name := "<init>", desc := "()V" } : Jvm.MethodName)) ∈ lw_all := lw_g (lw_at lw_m4 30 rfl) rfl
theorem q841 : (Jvm.Cond.classLink "NotationDesk" (160 : Nat) "java/util/NoSuchElementException") ∈ lw_all := lw_g (lw_at lw_m4 36 rfl) rfl
theorem q850 : (Jvm.Cond.methodLink "NotationDesk" (162 : Nat) ({ cls := "java/util/NoSuchElementException", name := "<init>", desc := "()V" } : Jvm.MethodName)) ∈ lw_all := lw_g (lw_at lw_m4 45 rfl) rfl
theorem q856 : (Jvm.Cond.methodLink "NotationDesk" (171 : Nat) ({ cls := "NotationDesk", name := "read", desc := "(LNotationDesk$Type;II)LNotationDesk$Part;" } : Jvm.MethodName)) ∈ lw_all := lw_g (lw_at lw_m4 51 rfl) rfl
theorem q857 : (Jvm.Cond.privateMethod ({ cls := "NotationDesk", name := "read", desc := "(LNotationDesk$Type;II)LNotationDesk$Part;" } : Jvm.MethodName)) ∈ lw_tbl := lw_at lw_m4 52 rfl
theorem q858 : (Jvm.Cond.instanceMethod ({ cls := "NotationDesk", name := "read", desc := "(LNotationDesk$Type;II)LNotationDesk$Part;" } : Jvm.MethodName)) ∈ lw_all := lw_g (lw_at lw_m4 53 rfl) rfl
theorem q859 : (Jvm.Cond.code ({ cls := "NotationDesk", name := "read", desc := "(LNotationDesk$Type;II)LNotationDesk$Part;" } : Jvm.MethodName) prog_1_method_16_code (7 : Nat) (Option.some (Jvm.ClassFile.FieldType.object "NotationDesk$Part"))) ∈ lw_all := lw_g (lw_at lw_m4 54 rfl) rfl
theorem q860 : (Jvm.Cond.methodLink "NotationDesk" (124 : Nat) ({ cls := "NotationDesk$Source", name := "begin", desc := "([IIILNotationDesk$Store;)V" } : Jvm.MethodName)) ∈ lw_all := lw_g (lw_at lw_m4 55 rfl) rfl
theorem q864 : (Jvm.Cond.methodLink "NotationDesk" (127 : Nat) ({ cls := "NotationDesk$Type", name := "unpack", desc := "(LNotationDesk$Source;)LNotationDesk$Part;" } : Jvm.MethodName)) ∈ lw_all := lw_g (lw_at lw_m4 59 rfl) rfl
theorem q883 : (Jvm.Cond.static ({ cls := "NotationDesk", name := "width", desc := "(I)I" } : Jvm.MethodName)) ∈ lw_all := lw_g (lw_at lw_m4 78 rfl) rfl
theorem q884 : (Jvm.Cond.code ({ cls := "NotationDesk", name := "width", desc := "(I)I" } : Jvm.MethodName) prog_1_method_3_code (2 : Nat) (Option.some Jvm.ClassFile.FieldType.int)) ∈ lw_all := lw_g (lw_at lw_m4 79 rfl) rfl
theorem q906 : (Jvm.Cond.fieldLinkNest "NotationDesk" (189 : Nat) "NotationDesk$Part" "kind" "I" "NotationDesk") ∈ lw_tbl := lw_at lw_m4 101 rfl
theorem q913 : (Jvm.Cond.fieldLinkNest "NotationDesk" (194 : Nat) "NotationDesk$Part" "number" "I" "NotationDesk") ∈ lw_tbl := lw_at lw_m4 108 rfl
theorem q916 : (Jvm.Cond.fieldLinkNest "NotationDesk" (206 : Nat) "NotationDesk$Part" "from" "I" "NotationDesk") ∈ lw_tbl := lw_at lw_m4 111 rfl
theorem q919 : (Jvm.Cond.fieldLinkNest "NotationDesk" (197 : Nat) "NotationDesk$Part" "which" "I" "NotationDesk") ∈ lw_tbl := lw_at lw_m4 114 rfl
theorem q921 : (Jvm.Cond.fieldLinkNest "NotationDesk" (200 : Nat) "NotationDesk$Part" "above" "I" "NotationDesk") ∈ lw_tbl := lw_at lw_m4 116 rfl
theorem q963 : (Jvm.Cond.static ({ cls := "NotationDesk", name := "bytesOf", desc := "(I)I" } : Jvm.MethodName)) ∈ lw_all := lw_g (lw_at lw_m4 158 rfl) rfl
theorem q964 : (Jvm.Cond.code ({ cls := "NotationDesk", name := "bytesOf", desc := "(I)I" } : Jvm.MethodName) prog_1_method_4_code (1 : Nat) (Option.some Jvm.ClassFile.FieldType.int)) ∈ lw_all := lw_g (lw_at lw_m4 159 rfl) rfl
theorem q965 : (Jvm.Cond.constant "NotationDesk" (7 : Nat) (-8388608 : Int32)) ∈ lw_all := lw_g (lw_at lw_m4 160 rfl) rfl
theorem q966 : (Jvm.Cond.constant "NotationDesk" (8 : Nat) (8388607 : Int32)) ∈ lw_all := lw_g (lw_at lw_m4 161 rfl) rfl
theorem q1040 : (Jvm.Cond.methodLink "NotationDesk" (131 : Nat) ({ cls := "NotationDesk$Type", name := "read", desc := "(LNotationDesk$Source;I)LNotationDesk$Part;" } : Jvm.MethodName)) ∈ lw_all := lw_g (lw_at lw_m4 235 rfl) rfl
theorem q1105 : (Jvm.Cond.methodLink "NotationDesk" (138 : Nat) ({ cls := "NotationDesk", name := "write", desc := "(LNotationDesk$Type;LNotationDesk$Part;I)V" } : Jvm.MethodName)) ∈ lw_all := lw_g (lw_at lw_m5 60 rfl) rfl
theorem q1106 : (Jvm.Cond.privateMethod ({ cls := "NotationDesk", name := "write", desc := "(LNotationDesk$Type;LNotationDesk$Part;I)V" } : Jvm.MethodName)) ∈ lw_tbl := lw_at lw_m5 61 rfl
theorem q1107 : (Jvm.Cond.instanceMethod ({ cls := "NotationDesk", name := "write", desc := "(LNotationDesk$Type;LNotationDesk$Part;I)V" } : Jvm.MethodName)) ∈ lw_all := lw_g (lw_at lw_m5 62 rfl) rfl
theorem q1108 : (Jvm.Cond.code ({ cls := "NotationDesk", name := "write", desc := "(LNotationDesk$Type;LNotationDesk$Part;I)V" } : Jvm.MethodName) prog_1_method_15_code (4 : Nat) (Option.none : Option Jvm.ClassFile.FieldType)) ∈ lw_all := lw_g (lw_at lw_m5 63 rfl) rfl
theorem q1109 : (Jvm.Cond.methodLink "NotationDesk" (102 : Nat) ({ cls := "NotationDesk$Writer", name := "begin", desc := "(LNotationDesk$Store;)V" } : Jvm.MethodName)) ∈ lw_all := lw_g (lw_at lw_m5 64 rfl) rfl
theorem q1113 : (Jvm.Cond.methodLink "NotationDesk" (106 : Nat) ({ cls := "NotationDesk$Type", name := "write", desc := "(LNotationDesk$Part;LNotationDesk$Writer;I)V" } : Jvm.MethodName)) ∈ lw_all := lw_g (lw_at lw_m5 68 rfl) rfl
theorem q1183 : (Jvm.Cond.static ({ cls := "NotationDesk", name := "headed", desc := "(I)I" } : Jvm.MethodName)) ∈ lw_all := lw_g (lw_at lw_m5 138 rfl) rfl
theorem q1184 : (Jvm.Cond.code ({ cls := "NotationDesk", name := "headed", desc := "(I)I" } : Jvm.MethodName) prog_1_method_5_code (1 : Nat) (Option.some Jvm.ClassFile.FieldType.int)) ∈ lw_all := lw_g (lw_at lw_m5 139 rfl) rfl
theorem q1220 : (Jvm.Cond.methodLink "NotationDesk" (110 : Nat) ({ cls := "NotationDesk$Type", name := "pack", desc := "(LNotationDesk$Part;LNotationDesk$Writer;)V" } : Jvm.MethodName)) ∈ lw_all := lw_g (lw_at lw_m5 175 rfl) rfl
theorem q1268 : (Jvm.Cond.methodLink "NotationDesk" (117 : Nat) ({ cls := "NotationDesk$Writer", name := "put", desc := "(II)V" } : Jvm.MethodName)) ∈ lw_all := lw_g (lw_at lw_m5 223 rfl) rfl
theorem q1269 : (Jvm.Cond.methodLink "NotationDesk" (121 : Nat) ({ cls := "NotationDesk$Writer", name := "align", desc := "()V" } : Jvm.MethodName)) ∈ lw_all := lw_g (lw_at lw_m5 224 rfl) rfl
theorem q1270 : (Jvm.Cond.methodLink "NotationDesk" (141 : Nat) ({ cls := "NotationDesk$Writer", name := "size", desc := "()I" } : Jvm.MethodName)) ∈ lw_all := lw_g (lw_at lw_m5 225 rfl) rfl
theorem q1271 : (Jvm.Cond.classLink "NotationDesk" (174 : Nat) "java/lang/UnsupportedOperationException") ∈ lw_all := lw_g (lw_at lw_m5 226 rfl) rfl
theorem q1280 : (Jvm.Cond.methodLink "NotationDesk" (176 : Nat) ({ cls := "java/lang/UnsupportedOperationException", name := "<init>", desc := "()V" } : Jvm.MethodName)) ∈ lw_all := lw_g (lw_at lw_m5 235 rfl) rfl
theorem q1286 : (Jvm.Cond.methodLink "NotationDesk" (177 : Nat) ({ cls := "NotationDesk", name := "keep", desc := "(LNotationDesk$Part;)V" } : Jvm.MethodName)) ∈ lw_all := lw_g (lw_at lw_m6 1 rfl) rfl
theorem q1287 : (Jvm.Cond.privateMethod ({ cls := "NotationDesk", name := "keep", desc := "(LNotationDesk$Part;)V" } : Jvm.MethodName)) ∈ lw_tbl := lw_at lw_m6 2 rfl
theorem q1288 : (Jvm.Cond.instanceMethod ({ cls := "NotationDesk", name := "keep", desc := "(LNotationDesk$Part;)V" } : Jvm.MethodName)) ∈ lw_all := lw_g (lw_at lw_m6 3 rfl) rfl
theorem q1289 : (Jvm.Cond.code ({ cls := "NotationDesk", name := "keep", desc := "(LNotationDesk$Part;)V" } : Jvm.MethodName) prog_1_method_17_code (3 : Nat) (Option.none : Option Jvm.ClassFile.FieldType)) ∈ lw_all := lw_g (lw_at lw_m6 4 rfl) rfl
theorem q1290 : (Jvm.Cond.methodLinkNest "NotationDesk" (150 : Nat) ({ cls := "NotationDesk$Store", name := "arrange", desc := "(LNotationDesk$Store;LNotationDesk$Part;I)V" } : Jvm.MethodName) "NotationDesk") ∈ lw_tbl := lw_at lw_m6 5 rfl
theorem q1298 : (Jvm.Cond.instanceMethod ({ cls := "NotationDesk", name := "part", desc := "(II)I" } : Jvm.MethodName)) ∈ lw_all := lw_g (lw_at lw_m6 13 rfl) rfl
theorem q1299 : (Jvm.Cond.selects "NotationDesk" ({ cls := "NotationDesk", name := "part", desc := "(II)I" } : Jvm.MethodName) ({ cls := "NotationDesk", name := "part", desc := "(II)I" } : Jvm.MethodName)) ∈ lw_all := lw_g (lw_at lw_m6 14 rfl) rfl
theorem q1300 : (Jvm.Cond.code ({ cls := "NotationDesk", name := "part", desc := "(II)I" } : Jvm.MethodName) prog_1_method_22_code (4 : Nat) (Option.some Jvm.ClassFile.FieldType.int)) ∈ lw_all := lw_g (lw_at lw_m6 15 rfl) rfl
theorem q1301 : (Jvm.Cond.methodLink "NotationDesk" (185 : Nat) ({ cls := "NotationDesk", name := "known", desc := "(I)LNotationDesk$Part;" } : Jvm.MethodName)) ∈ lw_all := lw_g (lw_at lw_m6 16 rfl) rfl
theorem q1302 : (Jvm.Cond.privateMethod ({ cls := "NotationDesk", name := "known", desc := "(I)LNotationDesk$Part;" } : Jvm.MethodName)) ∈ lw_tbl := lw_at lw_m6 17 rfl
theorem q1303 : (Jvm.Cond.instanceMethod ({ cls := "NotationDesk", name := "known", desc := "(I)LNotationDesk$Part;" } : Jvm.MethodName)) ∈ lw_all := lw_g (lw_at lw_m6 18 rfl) rfl
theorem q1304 : (Jvm.Cond.code ({ cls := "NotationDesk", name := "known", desc := "(I)LNotationDesk$Part;" } : Jvm.MethodName) prog_1_method_21_code (2 : Nat) (Option.some (Jvm.ClassFile.FieldType.object "NotationDesk$Part"))) ∈ lw_all := lw_g (lw_at lw_m6 19 rfl) rfl
theorem q1309 : (Jvm.Cond.instanceMethod ({ cls := "NotationDesk", name := "octet", desc := "(II)I" } : Jvm.MethodName)) ∈ lw_all := lw_g (lw_at lw_m6 24 rfl) rfl
theorem q1310 : (Jvm.Cond.selects "NotationDesk" ({ cls := "NotationDesk", name := "octet", desc := "(II)I" } : Jvm.MethodName) ({ cls := "NotationDesk", name := "octet", desc := "(II)I" } : Jvm.MethodName)) ∈ lw_all := lw_g (lw_at lw_m6 25 rfl) rfl
theorem q1311 : (Jvm.Cond.code ({ cls := "NotationDesk", name := "octet", desc := "(II)I" } : Jvm.MethodName) prog_1_method_23_code (4 : Nat) (Option.some Jvm.ClassFile.FieldType.int)) ∈ lw_all := lw_g (lw_at lw_m6 26 rfl) rfl
theorem q1316 : (Jvm.Cond.instanceMethod ({ cls := "NotationDesk", name := "operation", desc := "(ICII)V" } : Jvm.MethodName)) ∈ lw_all := lw_g (lw_at lw_m6 31 rfl) rfl
theorem q1317 : (Jvm.Cond.selects "NotationDesk" ({ cls := "NotationDesk", name := "operation", desc := "(ICII)V" } : Jvm.MethodName) ({ cls := "NotationDesk", name := "operation", desc := "(ICII)V" } : Jvm.MethodName)) ∈ lw_all := lw_g (lw_at lw_m6 32 rfl) rfl
theorem q1318 : (Jvm.Cond.code ({ cls := "NotationDesk", name := "operation", desc := "(ICII)V" } : Jvm.MethodName) prog_1_method_24_code (5 : Nat) (Option.none : Option Jvm.ClassFile.FieldType)) ∈ lw_all := lw_g (lw_at lw_m6 33 rfl) rfl
theorem q1323 : (Jvm.Cond.instanceMethod ({ cls := "NotationDesk", name := "serve", desc := "()I" } : Jvm.MethodName)) ∈ lw_all := lw_g (lw_at lw_m6 38 rfl) rfl
theorem q1324 : (Jvm.Cond.selects "NotationDesk" ({ cls := "NotationDesk", name := "serve", desc := "()I" } : Jvm.MethodName) ({ cls := "NotationDesk", name := "serve", desc := "()I" } : Jvm.MethodName)) ∈ lw_all := lw_g (lw_at lw_m6 39 rfl) rfl
theorem q1325 : (Jvm.Cond.code ({ cls := "NotationDesk", name := "serve", desc := "()I" } : Jvm.MethodName) prog_1_method_26_code (5 : Nat) (Option.some Jvm.ClassFile.FieldType.int)) ∈ lw_all := lw_g (lw_at lw_m6 40 rfl) rfl
theorem q1326 : (Jvm.Cond.methodLink "NotationDesk" (209 : Nat) ({ cls := "NotationDesk", name := "replies", desc := "(III)I" } : Jvm.MethodName)) ∈ lw_all := lw_g (lw_at lw_m6 41 rfl) rfl
theorem q1327 : (Jvm.Cond.privateMethod ({ cls := "NotationDesk", name := "replies", desc := "(III)I" } : Jvm.MethodName)) ∈ lw_tbl := lw_at lw_m6 42 rfl
theorem q1328 : (Jvm.Cond.instanceMethod ({ cls := "NotationDesk", name := "replies", desc := "(III)I" } : Jvm.MethodName)) ∈ lw_all := lw_g (lw_at lw_m6 43 rfl) rfl
theorem q1329 : (Jvm.Cond.code ({ cls := "NotationDesk", name := "replies", desc := "(III)I" } : Jvm.MethodName) prog_1_method_25_code (4 : Nat) (Option.some Jvm.ClassFile.FieldType.int)) ∈ lw_all := lw_g (lw_at lw_m6 44 rfl) rfl
theorem q1811 : (Jvm.Cond.castable "NotationDesk" "java/lang/Object") ∈ lw_tbl := lw_at lw_m8 46 rfl
theorem in_X1 : ∀ w ∈ wsX10, w ∈ lw_all := lw_in wsX10 [296, 298, 300, 302, 304, 306, 308, 310, 312, 314, 316, 318] (by decide +kernel) (by decide +kernel)
/-! NotationDesk$Compiler -/
set_option maxRecDepth 100000
def RX2 : String := "NotationDesk$Compiler"
def TX2 : u_T := fun k => match k with
  | 0 => ("NotationDesk$Compiler", "text", "[C", true)
  | 1 => ("NotationDesk$Compiler", "size", "I", false)
  | 2 => ("NotationDesk$Compiler", "at", "I", false)
  | 3 => ("NotationDesk$Compiler", "fault", "I", false)
  | 4 => ("NotationDesk$Compiler", "names", "[LNotationDesk$Type;", true)
  | 5 => ("NotationDesk$Compiler", "numerics", "[LNotationDesk$Numeric;", true)
  | 6 => ("NotationDesk$Compiler", "octets", "[LNotationDesk$Octets;", true)
  | 7 => ("NotationDesk$Compiler", "sequences", "[LNotationDesk$Sequence;", true)
  | 8 => ("NotationDesk$Compiler", "series", "[LNotationDesk$Series;", true)
  | 9 => ("NotationDesk$Compiler", "choices", "[LNotationDesk$Choice;", true)
  | 10 => ("NotationDesk$Compiler", "tagged", "[LNotationDesk$Tagged;", true)
  | 11 => ("NotationDesk$Compiler", "places", "[I", true)
  | 12 => ("NotationDesk$Compiler", "open", "I", false)
  | 13 => ("NotationDesk$Compiler", "low", "I", false)
  | _ => ("NotationDesk$Compiler", "high", "I", false)
def tyX2 : Nat → FieldType := fun k => match k with
  | 0 => .array .char
  | 1 => .int
  | 2 => .int
  | 3 => .int
  | 4 => .array (.object "NotationDesk$Type")
  | 5 => .array (.object "NotationDesk$Numeric")
  | 6 => .array (.object "NotationDesk$Octets")
  | 7 => .array (.object "NotationDesk$Sequence")
  | 8 => .array (.object "NotationDesk$Series")
  | 9 => .array (.object "NotationDesk$Choice")
  | 10 => .array (.object "NotationDesk$Tagged")
  | 11 => .array .int
  | 12 => .int
  | 13 => .int
  | _ => .int
abbrev wsX20 : List Cond := u_ws RX2 TX2 15
set_option maxRecDepth 100000 in
theorem nmX2 : ∀ a, a < 15 → ∀ b, b < 15 → a ≠ b → (TX2 a).2.1 ≠ (TX2 b).2.1 := by decide +kernel
set_option maxRecDepth 100000 in
theorem tyX2_ok : ∀ k, k < 15 → parseFieldDescriptor (TX2 k).2.2.1 = some (tyX2 k) := by decide +kernel
abbrev cX2_init : ByteArray := prog_3_method_1_code
def yX2_init : MethodName := ⟨RX2, "<init>", "()V"⟩
def dkwX2_init_3 : List UInt8 := [181, 0, 47, 42, 17, 0, 150, 189, 0, 51, 181, 0, 53, 42, 16, 50, 188, 10, 181, 0, 57, 177]
abbrev dktX2_init_3 : List UInt8 := dkwX2_init_3 ++ []
def dkwX2_init_2 : List UInt8 := [189, 0, 33, 181, 0, 35, 42, 17, 0, 150, 189, 0, 39, 181, 0, 41, 42, 17, 0, 150, 189, 0, 45]
abbrev dktX2_init_2 : List UInt8 := dkwX2_init_2 ++ dktX2_init_3
def dkwX2_init_1 : List UInt8 := [17, 0, 150, 189, 0, 21, 181, 0, 23, 42, 17, 0, 150, 189, 0, 27, 181, 0, 29, 42, 17, 0, 150]
abbrev dktX2_init_1 : List UInt8 := dkwX2_init_1 ++ dktX2_init_2
def dkwX2_init_0 : List UInt8 := [42, 183, 0, 3, 42, 17, 0, 150, 188, 5, 181, 0, 9, 42, 16, 26, 189, 0, 15, 181, 0, 17, 42]
abbrev dktX2_init_0 : List UInt8 := dkwX2_init_0 ++ dktX2_init_1
theorem dksX2_init_0 : cX2_init.data.toList.drop 0 = dktX2_init_0 := by decide +kernel
theorem dksX2_init_1 : cX2_init.data.toList.drop 23 = dktX2_init_1 := dk_seg dksX2_init_0 23 rfl rfl
theorem dksX2_init_2 : cX2_init.data.toList.drop 46 = dktX2_init_2 := dk_seg dksX2_init_1 23 rfl rfl
theorem dksX2_init_3 : cX2_init.data.toList.drop 69 = dktX2_init_3 := dk_seg dksX2_init_2 23 rfl rfl
theorem dX2_init_0 : decode cX2_init 0 = .ok (.aload_n 0, 1) := dk_42 (dk_at dksX2_init_0 0 rfl rfl)
theorem dX2_init_1 : decode cX2_init 1 = .ok (.invokespecial 3, 3) := dk_183 0 3 (dk_at dksX2_init_0 1 rfl rfl)
theorem dX2_init_4 : decode cX2_init 4 = .ok (.aload_n 0, 1) := dk_42 (dk_at dksX2_init_0 4 rfl rfl)
theorem dX2_init_5 : decode cX2_init 5 = .ok (.sipush 150, 3) := dk_17 0 150 (dk_at dksX2_init_0 5 rfl rfl)
theorem dX2_init_8 : decode cX2_init 8 = .ok (.newarray .char, 2) := dk_188_5 (dk_at dksX2_init_0 8 rfl rfl)
theorem dX2_init_10 : decode cX2_init 10 = .ok (.putfield 9, 3) := dk_181 0 9 (dk_at dksX2_init_0 10 rfl rfl)
theorem dX2_init_13 : decode cX2_init 13 = .ok (.aload_n 0, 1) := dk_42 (dk_at dksX2_init_0 13 rfl rfl)
theorem dX2_init_14 : decode cX2_init 14 = .ok (.bipush 26, 2) := dk_16 26 (dk_at dksX2_init_0 14 rfl rfl)
theorem dX2_init_16 : decode cX2_init 16 = .ok (.anewarray 15, 3) := dk_189 0 15 (dk_at dksX2_init_0 16 rfl rfl)
theorem dX2_init_19 : decode cX2_init 19 = .ok (.putfield 17, 3) := dk_181 0 17 (dk_at dksX2_init_0 19 rfl rfl)
theorem dX2_init_22 : decode cX2_init 22 = .ok (.aload_n 0, 1) := dk_42 (dk_at dksX2_init_0 22 rfl rfl)
theorem dX2_init_23 : decode cX2_init 23 = .ok (.sipush 150, 3) := dk_17 0 150 (dk_at dksX2_init_1 0 rfl rfl)
theorem dX2_init_26 : decode cX2_init 26 = .ok (.anewarray 21, 3) := dk_189 0 21 (dk_at dksX2_init_1 3 rfl rfl)
theorem dX2_init_29 : decode cX2_init 29 = .ok (.putfield 23, 3) := dk_181 0 23 (dk_at dksX2_init_1 6 rfl rfl)
theorem dX2_init_32 : decode cX2_init 32 = .ok (.aload_n 0, 1) := dk_42 (dk_at dksX2_init_1 9 rfl rfl)
theorem dX2_init_33 : decode cX2_init 33 = .ok (.sipush 150, 3) := dk_17 0 150 (dk_at dksX2_init_1 10 rfl rfl)
theorem dX2_init_36 : decode cX2_init 36 = .ok (.anewarray 27, 3) := dk_189 0 27 (dk_at dksX2_init_1 13 rfl rfl)
theorem dX2_init_39 : decode cX2_init 39 = .ok (.putfield 29, 3) := dk_181 0 29 (dk_at dksX2_init_1 16 rfl rfl)
theorem dX2_init_42 : decode cX2_init 42 = .ok (.aload_n 0, 1) := dk_42 (dk_at dksX2_init_1 19 rfl rfl)
theorem dX2_init_43 : decode cX2_init 43 = .ok (.sipush 150, 3) := dk_17 0 150 (dk_at dksX2_init_1 20 rfl rfl)
theorem dX2_init_46 : decode cX2_init 46 = .ok (.anewarray 33, 3) := dk_189 0 33 (dk_at dksX2_init_2 0 rfl rfl)
theorem dX2_init_49 : decode cX2_init 49 = .ok (.putfield 35, 3) := dk_181 0 35 (dk_at dksX2_init_2 3 rfl rfl)
theorem dX2_init_52 : decode cX2_init 52 = .ok (.aload_n 0, 1) := dk_42 (dk_at dksX2_init_2 6 rfl rfl)
theorem dX2_init_53 : decode cX2_init 53 = .ok (.sipush 150, 3) := dk_17 0 150 (dk_at dksX2_init_2 7 rfl rfl)
theorem dX2_init_56 : decode cX2_init 56 = .ok (.anewarray 39, 3) := dk_189 0 39 (dk_at dksX2_init_2 10 rfl rfl)
theorem dX2_init_59 : decode cX2_init 59 = .ok (.putfield 41, 3) := dk_181 0 41 (dk_at dksX2_init_2 13 rfl rfl)
theorem dX2_init_62 : decode cX2_init 62 = .ok (.aload_n 0, 1) := dk_42 (dk_at dksX2_init_2 16 rfl rfl)
theorem dX2_init_63 : decode cX2_init 63 = .ok (.sipush 150, 3) := dk_17 0 150 (dk_at dksX2_init_2 17 rfl rfl)
theorem dX2_init_66 : decode cX2_init 66 = .ok (.anewarray 45, 3) := dk_189 0 45 (dk_at dksX2_init_2 20 rfl rfl)
theorem dX2_init_69 : decode cX2_init 69 = .ok (.putfield 47, 3) := dk_181 0 47 (dk_at dksX2_init_3 0 rfl rfl)
theorem dX2_init_72 : decode cX2_init 72 = .ok (.aload_n 0, 1) := dk_42 (dk_at dksX2_init_3 3 rfl rfl)
theorem dX2_init_73 : decode cX2_init 73 = .ok (.sipush 150, 3) := dk_17 0 150 (dk_at dksX2_init_3 4 rfl rfl)
theorem dX2_init_76 : decode cX2_init 76 = .ok (.anewarray 51, 3) := dk_189 0 51 (dk_at dksX2_init_3 7 rfl rfl)
theorem dX2_init_79 : decode cX2_init 79 = .ok (.putfield 53, 3) := dk_181 0 53 (dk_at dksX2_init_3 10 rfl rfl)
theorem dX2_init_82 : decode cX2_init 82 = .ok (.aload_n 0, 1) := dk_42 (dk_at dksX2_init_3 13 rfl rfl)
theorem dX2_init_83 : decode cX2_init 83 = .ok (.bipush 50, 2) := dk_16 50 (dk_at dksX2_init_3 14 rfl rfl)
theorem dX2_init_85 : decode cX2_init 85 = .ok (.newarray .int, 2) := dk_188_10 (dk_at dksX2_init_3 16 rfl rfl)
theorem dX2_init_87 : decode cX2_init 87 = .ok (.putfield 57, 3) := dk_181 0 57 (dk_at dksX2_init_3 18 rfl rfl)
theorem dX2_init_90 : decode cX2_init 90 = .ok (.return_, 1) := dk_177 (dk_at dksX2_init_3 21 rfl rfl)
abbrev cX2_run : ByteArray := prog_3_method_2_code
def yX2_run : MethodName := ⟨RX2, "run", "()Z"⟩
def dkwX2_run_2 : List UInt8 := [180, 0, 75, 161, 255, 241, 4, 172, 3, 172]
abbrev dktX2_run_2 : List UInt8 := dkwX2_run_2 ++ []
def dkwX2_run_1 : List UInt8 := [180, 0, 17, 27, 1, 83, 132, 1, 1, 167, 255, 240, 42, 184, 0, 71, 153, 0, 16, 42, 180, 0, 61, 42]
abbrev dktX2_run_1 : List UInt8 := dkwX2_run_1 ++ dktX2_run_2
def dkwX2_run_0 : List UInt8 := [42, 3, 181, 0, 61, 42, 3, 181, 0, 65, 42, 3, 181, 0, 68, 3, 60, 27, 16, 26, 162, 0, 16, 42]
abbrev dktX2_run_0 : List UInt8 := dkwX2_run_0 ++ dktX2_run_1
theorem dksX2_run_0 : cX2_run.data.toList.drop 0 = dktX2_run_0 := by decide +kernel
theorem dksX2_run_1 : cX2_run.data.toList.drop 24 = dktX2_run_1 := dk_seg dksX2_run_0 24 rfl rfl
theorem dksX2_run_2 : cX2_run.data.toList.drop 48 = dktX2_run_2 := dk_seg dksX2_run_1 24 rfl rfl
theorem dX2_run_0 : decode cX2_run 0 = .ok (.aload_n 0, 1) := dk_42 (dk_at dksX2_run_0 0 rfl rfl)
theorem dX2_run_1 : decode cX2_run 1 = .ok (.iconst 0, 1) := dk_3 (dk_at dksX2_run_0 1 rfl rfl)
theorem dX2_run_2 : decode cX2_run 2 = .ok (.putfield 61, 3) := dk_181 0 61 (dk_at dksX2_run_0 2 rfl rfl)
theorem dX2_run_5 : decode cX2_run 5 = .ok (.aload_n 0, 1) := dk_42 (dk_at dksX2_run_0 5 rfl rfl)
theorem dX2_run_6 : decode cX2_run 6 = .ok (.iconst 0, 1) := dk_3 (dk_at dksX2_run_0 6 rfl rfl)
theorem dX2_run_7 : decode cX2_run 7 = .ok (.putfield 65, 3) := dk_181 0 65 (dk_at dksX2_run_0 7 rfl rfl)
theorem dX2_run_10 : decode cX2_run 10 = .ok (.aload_n 0, 1) := dk_42 (dk_at dksX2_run_0 10 rfl rfl)
theorem dX2_run_11 : decode cX2_run 11 = .ok (.iconst 0, 1) := dk_3 (dk_at dksX2_run_0 11 rfl rfl)
theorem dX2_run_12 : decode cX2_run 12 = .ok (.putfield 68, 3) := dk_181 0 68 (dk_at dksX2_run_0 12 rfl rfl)
theorem dX2_run_15 : decode cX2_run 15 = .ok (.iconst 0, 1) := dk_3 (dk_at dksX2_run_0 15 rfl rfl)
theorem dX2_run_16 : decode cX2_run 16 = .ok (.istore_n 1, 1) := dk_60 (dk_at dksX2_run_0 16 rfl rfl)
theorem dX2_run_17 : decode cX2_run 17 = .ok (.iload_n 1, 1) := dk_27 (dk_at dksX2_run_0 17 rfl rfl)
theorem dX2_run_18 : decode cX2_run 18 = .ok (.bipush 26, 2) := dk_16 26 (dk_at dksX2_run_0 18 rfl rfl)
theorem dX2_run_20 : decode cX2_run 20 = .ok (.if_icmp .ge 16, 3) := dk_162 0 16 (dk_at dksX2_run_0 20 rfl rfl)
theorem dX2_run_23 : decode cX2_run 23 = .ok (.aload_n 0, 1) := dk_42 (dk_at dksX2_run_0 23 rfl rfl)
theorem dX2_run_24 : decode cX2_run 24 = .ok (.getfield 17, 3) := dk_180 0 17 (dk_at dksX2_run_1 0 rfl rfl)
theorem dX2_run_27 : decode cX2_run 27 = .ok (.iload_n 1, 1) := dk_27 (dk_at dksX2_run_1 3 rfl rfl)
theorem dX2_run_28 : decode cX2_run 28 = .ok (.aconst_null, 1) := dk_1 (dk_at dksX2_run_1 4 rfl rfl)
theorem dX2_run_29 : decode cX2_run 29 = .ok (.aastore, 1) := dk_83 (dk_at dksX2_run_1 5 rfl rfl)
theorem dX2_run_30 : decode cX2_run 30 = .ok (.iinc 1 1, 3) := dk_132 1 1 (dk_at dksX2_run_1 6 rfl rfl)
theorem dX2_run_33 : decode cX2_run 33 = .ok (.goto (-16), 3) := dk_167 255 240 (dk_at dksX2_run_1 9 rfl rfl)
theorem dX2_run_36 : decode cX2_run 36 = .ok (.aload_n 0, 1) := dk_42 (dk_at dksX2_run_1 12 rfl rfl)
theorem dX2_run_37 : decode cX2_run 37 = .ok (.invokestatic 71, 3) := dk_184 0 71 (dk_at dksX2_run_1 13 rfl rfl)
theorem dX2_run_40 : decode cX2_run 40 = .ok (.ifCond .eq 16, 3) := dk_153 0 16 (dk_at dksX2_run_1 16 rfl rfl)
theorem dX2_run_43 : decode cX2_run 43 = .ok (.aload_n 0, 1) := dk_42 (dk_at dksX2_run_1 19 rfl rfl)
theorem dX2_run_44 : decode cX2_run 44 = .ok (.getfield 61, 3) := dk_180 0 61 (dk_at dksX2_run_1 20 rfl rfl)
theorem dX2_run_47 : decode cX2_run 47 = .ok (.aload_n 0, 1) := dk_42 (dk_at dksX2_run_1 23 rfl rfl)
theorem dX2_run_48 : decode cX2_run 48 = .ok (.getfield 75, 3) := dk_180 0 75 (dk_at dksX2_run_2 0 rfl rfl)
theorem dX2_run_51 : decode cX2_run 51 = .ok (.if_icmp .lt (-15), 3) := dk_161 255 241 (dk_at dksX2_run_2 3 rfl rfl)
theorem dX2_run_54 : decode cX2_run 54 = .ok (.iconst 1, 1) := dk_4 (dk_at dksX2_run_2 6 rfl rfl)
theorem dX2_run_55 : decode cX2_run 55 = .ok (.ireturn, 1) := dk_172 (dk_at dksX2_run_2 7 rfl rfl)
theorem dX2_run_56 : decode cX2_run 56 = .ok (.iconst 0, 1) := dk_3 (dk_at dksX2_run_2 8 rfl rfl)
theorem dX2_run_57 : decode cX2_run 57 = .ok (.ireturn, 1) := dk_172 (dk_at dksX2_run_2 9 rfl rfl)
abbrev cX2_define : ByteArray := prog_3_method_8_code
def yX2_define : MethodName := ⟨RX2, "define", "(LNotationDesk$Compiler;)Z"⟩
def dkwX2_define_4 : List UInt8 := [27, 44, 83, 4, 172]
abbrev dktX2_define_4 : List UInt8 := dkwX2_define_4 ++ []
def dkwX2_define_3 : List UInt8 := [167, 0, 4, 1, 77, 44, 198, 0, 12, 42, 16, 59, 182, 0, 90, 154, 0, 5, 3, 172, 42, 180, 0, 17]
abbrev dktX2_define_3 : List UInt8 := dkwX2_define_3 ++ dktX2_define_4
def dkwX2_define_2 : List UInt8 := [180, 0, 61, 4, 96, 181, 0, 61, 42, 16, 61, 182, 0, 90, 153, 0, 11, 42, 3, 184, 0, 94]
abbrev dktX2_define_2 : List UInt8 := dkwX2_define_2 ++ dktX2_define_3
def dkwX2_define_1 : List UInt8 := [60, 42, 180, 0, 17, 27, 50, 198, 0, 13, 42, 5, 42, 180, 0, 61, 182, 0, 78, 172, 42, 89]
abbrev dktX2_define_1 : List UInt8 := dkwX2_define_1 ++ dktX2_define_2
def dkwX2_define_0 : List UInt8 := [42, 182, 0, 86, 154, 0, 13, 42, 4, 42, 180, 0, 61, 182, 0, 78, 172, 42, 182, 0, 82, 16, 65, 100]
abbrev dktX2_define_0 : List UInt8 := dkwX2_define_0 ++ dktX2_define_1
theorem dksX2_define_0 : cX2_define.data.toList.drop 0 = dktX2_define_0 := by decide +kernel
theorem dksX2_define_1 : cX2_define.data.toList.drop 24 = dktX2_define_1 := dk_seg dksX2_define_0 24 rfl rfl
theorem dksX2_define_2 : cX2_define.data.toList.drop 46 = dktX2_define_2 := dk_seg dksX2_define_1 22 rfl rfl
theorem dksX2_define_3 : cX2_define.data.toList.drop 68 = dktX2_define_3 := dk_seg dksX2_define_2 22 rfl rfl
theorem dksX2_define_4 : cX2_define.data.toList.drop 92 = dktX2_define_4 := dk_seg dksX2_define_3 24 rfl rfl
theorem dX2_define_0 : decode cX2_define 0 = .ok (.aload_n 0, 1) := dk_42 (dk_at dksX2_define_0 0 rfl rfl)
theorem dX2_define_1 : decode cX2_define 1 = .ok (.invokevirtual 86, 3) := dk_182 0 86 (dk_at dksX2_define_0 1 rfl rfl)
theorem dX2_define_4 : decode cX2_define 4 = .ok (.ifCond .ne 13, 3) := dk_154 0 13 (dk_at dksX2_define_0 4 rfl rfl)
theorem dX2_define_7 : decode cX2_define 7 = .ok (.aload_n 0, 1) := dk_42 (dk_at dksX2_define_0 7 rfl rfl)
theorem dX2_define_8 : decode cX2_define 8 = .ok (.iconst 1, 1) := dk_4 (dk_at dksX2_define_0 8 rfl rfl)
theorem dX2_define_9 : decode cX2_define 9 = .ok (.aload_n 0, 1) := dk_42 (dk_at dksX2_define_0 9 rfl rfl)
theorem dX2_define_10 : decode cX2_define 10 = .ok (.getfield 61, 3) := dk_180 0 61 (dk_at dksX2_define_0 10 rfl rfl)
theorem dX2_define_13 : decode cX2_define 13 = .ok (.invokevirtual 78, 3) := dk_182 0 78 (dk_at dksX2_define_0 13 rfl rfl)
theorem dX2_define_16 : decode cX2_define 16 = .ok (.ireturn, 1) := dk_172 (dk_at dksX2_define_0 16 rfl rfl)
theorem dX2_define_17 : decode cX2_define 17 = .ok (.aload_n 0, 1) := dk_42 (dk_at dksX2_define_0 17 rfl rfl)
theorem dX2_define_18 : decode cX2_define 18 = .ok (.invokevirtual 82, 3) := dk_182 0 82 (dk_at dksX2_define_0 18 rfl rfl)
theorem dX2_define_21 : decode cX2_define 21 = .ok (.bipush 65, 2) := dk_16 65 (dk_at dksX2_define_0 21 rfl rfl)
theorem dX2_define_23 : decode cX2_define 23 = .ok (.isub, 1) := dk_100 (dk_at dksX2_define_0 23 rfl rfl)
theorem dX2_define_24 : decode cX2_define 24 = .ok (.istore_n 1, 1) := dk_60 (dk_at dksX2_define_1 0 rfl rfl)
theorem dX2_define_25 : decode cX2_define 25 = .ok (.aload_n 0, 1) := dk_42 (dk_at dksX2_define_1 1 rfl rfl)
theorem dX2_define_26 : decode cX2_define 26 = .ok (.getfield 17, 3) := dk_180 0 17 (dk_at dksX2_define_1 2 rfl rfl)
theorem dX2_define_29 : decode cX2_define 29 = .ok (.iload_n 1, 1) := dk_27 (dk_at dksX2_define_1 5 rfl rfl)
theorem dX2_define_30 : decode cX2_define 30 = .ok (.aaload, 1) := dk_50 (dk_at dksX2_define_1 6 rfl rfl)
theorem dX2_define_31 : decode cX2_define 31 = .ok (.ifnull 13, 3) := dk_198 0 13 (dk_at dksX2_define_1 7 rfl rfl)
theorem dX2_define_34 : decode cX2_define 34 = .ok (.aload_n 0, 1) := dk_42 (dk_at dksX2_define_1 10 rfl rfl)
theorem dX2_define_35 : decode cX2_define 35 = .ok (.iconst 2, 1) := dk_5 (dk_at dksX2_define_1 11 rfl rfl)
theorem dX2_define_36 : decode cX2_define 36 = .ok (.aload_n 0, 1) := dk_42 (dk_at dksX2_define_1 12 rfl rfl)
theorem dX2_define_37 : decode cX2_define 37 = .ok (.getfield 61, 3) := dk_180 0 61 (dk_at dksX2_define_1 13 rfl rfl)
theorem dX2_define_40 : decode cX2_define 40 = .ok (.invokevirtual 78, 3) := dk_182 0 78 (dk_at dksX2_define_1 16 rfl rfl)
theorem dX2_define_43 : decode cX2_define 43 = .ok (.ireturn, 1) := dk_172 (dk_at dksX2_define_1 19 rfl rfl)
theorem dX2_define_44 : decode cX2_define 44 = .ok (.aload_n 0, 1) := dk_42 (dk_at dksX2_define_1 20 rfl rfl)
theorem dX2_define_45 : decode cX2_define 45 = .ok (.dup, 1) := dk_89 (dk_at dksX2_define_1 21 rfl rfl)
theorem dX2_define_46 : decode cX2_define 46 = .ok (.getfield 61, 3) := dk_180 0 61 (dk_at dksX2_define_2 0 rfl rfl)
theorem dX2_define_49 : decode cX2_define 49 = .ok (.iconst 1, 1) := dk_4 (dk_at dksX2_define_2 3 rfl rfl)
theorem dX2_define_50 : decode cX2_define 50 = .ok (.iadd, 1) := dk_96 (dk_at dksX2_define_2 4 rfl rfl)
theorem dX2_define_51 : decode cX2_define 51 = .ok (.putfield 61, 3) := dk_181 0 61 (dk_at dksX2_define_2 5 rfl rfl)
theorem dX2_define_54 : decode cX2_define 54 = .ok (.aload_n 0, 1) := dk_42 (dk_at dksX2_define_2 8 rfl rfl)
theorem dX2_define_55 : decode cX2_define 55 = .ok (.bipush 61, 2) := dk_16 61 (dk_at dksX2_define_2 9 rfl rfl)
theorem dX2_define_57 : decode cX2_define 57 = .ok (.invokevirtual 90, 3) := dk_182 0 90 (dk_at dksX2_define_2 11 rfl rfl)
theorem dX2_define_60 : decode cX2_define 60 = .ok (.ifCond .eq 11, 3) := dk_153 0 11 (dk_at dksX2_define_2 14 rfl rfl)
theorem dX2_define_63 : decode cX2_define 63 = .ok (.aload_n 0, 1) := dk_42 (dk_at dksX2_define_2 17 rfl rfl)
theorem dX2_define_64 : decode cX2_define 64 = .ok (.iconst 0, 1) := dk_3 (dk_at dksX2_define_2 18 rfl rfl)
theorem dX2_define_65 : decode cX2_define 65 = .ok (.invokestatic 94, 3) := dk_184 0 94 (dk_at dksX2_define_2 19 rfl rfl)
theorem dX2_define_68 : decode cX2_define 68 = .ok (.goto 4, 3) := dk_167 0 4 (dk_at dksX2_define_3 0 rfl rfl)
theorem dX2_define_71 : decode cX2_define 71 = .ok (.aconst_null, 1) := dk_1 (dk_at dksX2_define_3 3 rfl rfl)
theorem dX2_define_72 : decode cX2_define 72 = .ok (.astore_n 2, 1) := dk_77 (dk_at dksX2_define_3 4 rfl rfl)
theorem dX2_define_73 : decode cX2_define 73 = .ok (.aload_n 2, 1) := dk_44 (dk_at dksX2_define_3 5 rfl rfl)
theorem dX2_define_74 : decode cX2_define 74 = .ok (.ifnull 12, 3) := dk_198 0 12 (dk_at dksX2_define_3 6 rfl rfl)
theorem dX2_define_77 : decode cX2_define 77 = .ok (.aload_n 0, 1) := dk_42 (dk_at dksX2_define_3 9 rfl rfl)
theorem dX2_define_78 : decode cX2_define 78 = .ok (.bipush 59, 2) := dk_16 59 (dk_at dksX2_define_3 10 rfl rfl)
theorem dX2_define_80 : decode cX2_define 80 = .ok (.invokevirtual 90, 3) := dk_182 0 90 (dk_at dksX2_define_3 12 rfl rfl)
theorem dX2_define_83 : decode cX2_define 83 = .ok (.ifCond .ne 5, 3) := dk_154 0 5 (dk_at dksX2_define_3 15 rfl rfl)
theorem dX2_define_86 : decode cX2_define 86 = .ok (.iconst 0, 1) := dk_3 (dk_at dksX2_define_3 18 rfl rfl)
theorem dX2_define_87 : decode cX2_define 87 = .ok (.ireturn, 1) := dk_172 (dk_at dksX2_define_3 19 rfl rfl)
theorem dX2_define_88 : decode cX2_define 88 = .ok (.aload_n 0, 1) := dk_42 (dk_at dksX2_define_3 20 rfl rfl)
theorem dX2_define_89 : decode cX2_define 89 = .ok (.getfield 17, 3) := dk_180 0 17 (dk_at dksX2_define_3 21 rfl rfl)
theorem dX2_define_92 : decode cX2_define 92 = .ok (.iload_n 1, 1) := dk_27 (dk_at dksX2_define_4 0 rfl rfl)
theorem dX2_define_93 : decode cX2_define 93 = .ok (.aload_n 2, 1) := dk_44 (dk_at dksX2_define_4 1 rfl rfl)
theorem dX2_define_94 : decode cX2_define 94 = .ok (.aastore, 1) := dk_83 (dk_at dksX2_define_4 2 rfl rfl)
theorem dX2_define_95 : decode cX2_define 95 = .ok (.iconst 1, 1) := dk_4 (dk_at dksX2_define_4 3 rfl rfl)
theorem dX2_define_96 : decode cX2_define 96 = .ok (.ireturn, 1) := dk_172 (dk_at dksX2_define_4 4 rfl rfl)
abbrev cX2_isName : ByteArray := prog_3_method_7_code
def yX2_isName : MethodName := ⟨RX2, "isName", "()Z"⟩
def dkwX2_isName_1 : List UInt8 := [16, 90, 163, 0, 7, 4, 167, 0, 4, 3, 172]
abbrev dktX2_isName_1 : List UInt8 := dkwX2_isName_1 ++ []
def dkwX2_isName_0 : List UInt8 := [42, 180, 0, 61, 42, 180, 0, 75, 162, 0, 25, 42, 182, 0, 82, 16, 65, 161, 0, 16, 42, 182, 0, 82]
abbrev dktX2_isName_0 : List UInt8 := dkwX2_isName_0 ++ dktX2_isName_1
theorem dksX2_isName_0 : cX2_isName.data.toList.drop 0 = dktX2_isName_0 := by decide +kernel
theorem dksX2_isName_1 : cX2_isName.data.toList.drop 24 = dktX2_isName_1 := dk_seg dksX2_isName_0 24 rfl rfl
theorem dX2_isName_0 : decode cX2_isName 0 = .ok (.aload_n 0, 1) := dk_42 (dk_at dksX2_isName_0 0 rfl rfl)
theorem dX2_isName_1 : decode cX2_isName 1 = .ok (.getfield 61, 3) := dk_180 0 61 (dk_at dksX2_isName_0 1 rfl rfl)
theorem dX2_isName_4 : decode cX2_isName 4 = .ok (.aload_n 0, 1) := dk_42 (dk_at dksX2_isName_0 4 rfl rfl)
theorem dX2_isName_5 : decode cX2_isName 5 = .ok (.getfield 75, 3) := dk_180 0 75 (dk_at dksX2_isName_0 5 rfl rfl)
theorem dX2_isName_8 : decode cX2_isName 8 = .ok (.if_icmp .ge 25, 3) := dk_162 0 25 (dk_at dksX2_isName_0 8 rfl rfl)
theorem dX2_isName_11 : decode cX2_isName 11 = .ok (.aload_n 0, 1) := dk_42 (dk_at dksX2_isName_0 11 rfl rfl)
theorem dX2_isName_12 : decode cX2_isName 12 = .ok (.invokevirtual 82, 3) := dk_182 0 82 (dk_at dksX2_isName_0 12 rfl rfl)
theorem dX2_isName_15 : decode cX2_isName 15 = .ok (.bipush 65, 2) := dk_16 65 (dk_at dksX2_isName_0 15 rfl rfl)
theorem dX2_isName_17 : decode cX2_isName 17 = .ok (.if_icmp .lt 16, 3) := dk_161 0 16 (dk_at dksX2_isName_0 17 rfl rfl)
theorem dX2_isName_20 : decode cX2_isName 20 = .ok (.aload_n 0, 1) := dk_42 (dk_at dksX2_isName_0 20 rfl rfl)
theorem dX2_isName_21 : decode cX2_isName 21 = .ok (.invokevirtual 82, 3) := dk_182 0 82 (dk_at dksX2_isName_0 21 rfl rfl)
theorem dX2_isName_24 : decode cX2_isName 24 = .ok (.bipush 90, 2) := dk_16 90 (dk_at dksX2_isName_1 0 rfl rfl)
theorem dX2_isName_26 : decode cX2_isName 26 = .ok (.if_icmp .gt 7, 3) := dk_163 0 7 (dk_at dksX2_isName_1 2 rfl rfl)
theorem dX2_isName_29 : decode cX2_isName 29 = .ok (.iconst 1, 1) := dk_4 (dk_at dksX2_isName_1 5 rfl rfl)
theorem dX2_isName_30 : decode cX2_isName 30 = .ok (.goto 4, 3) := dk_167 0 4 (dk_at dksX2_isName_1 6 rfl rfl)
theorem dX2_isName_33 : decode cX2_isName 33 = .ok (.iconst 0, 1) := dk_3 (dk_at dksX2_isName_1 9 rfl rfl)
theorem dX2_isName_34 : decode cX2_isName 34 = .ok (.ireturn, 1) := dk_172 (dk_at dksX2_isName_1 10 rfl rfl)
abbrev cX2_look : ByteArray := prog_3_method_3_code
def yX2_look : MethodName := ⟨RX2, "look", "()I"⟩
def dkwX2_look_1 : List UInt8 := [172]
abbrev dktX2_look_1 : List UInt8 := dkwX2_look_1 ++ []
def dkwX2_look_0 : List UInt8 := [42, 180, 0, 61, 42, 180, 0, 75, 162, 0, 15, 42, 180, 0, 9, 42, 180, 0, 61, 52, 167, 0, 4, 3]
abbrev dktX2_look_0 : List UInt8 := dkwX2_look_0 ++ dktX2_look_1
theorem dksX2_look_0 : cX2_look.data.toList.drop 0 = dktX2_look_0 := by decide +kernel
theorem dksX2_look_1 : cX2_look.data.toList.drop 24 = dktX2_look_1 := dk_seg dksX2_look_0 24 rfl rfl
theorem dX2_look_0 : decode cX2_look 0 = .ok (.aload_n 0, 1) := dk_42 (dk_at dksX2_look_0 0 rfl rfl)
theorem dX2_look_1 : decode cX2_look 1 = .ok (.getfield 61, 3) := dk_180 0 61 (dk_at dksX2_look_0 1 rfl rfl)
theorem dX2_look_4 : decode cX2_look 4 = .ok (.aload_n 0, 1) := dk_42 (dk_at dksX2_look_0 4 rfl rfl)
theorem dX2_look_5 : decode cX2_look 5 = .ok (.getfield 75, 3) := dk_180 0 75 (dk_at dksX2_look_0 5 rfl rfl)
theorem dX2_look_8 : decode cX2_look 8 = .ok (.if_icmp .ge 15, 3) := dk_162 0 15 (dk_at dksX2_look_0 8 rfl rfl)
theorem dX2_look_11 : decode cX2_look 11 = .ok (.aload_n 0, 1) := dk_42 (dk_at dksX2_look_0 11 rfl rfl)
theorem dX2_look_12 : decode cX2_look 12 = .ok (.getfield 9, 3) := dk_180 0 9 (dk_at dksX2_look_0 12 rfl rfl)
theorem dX2_look_15 : decode cX2_look 15 = .ok (.aload_n 0, 1) := dk_42 (dk_at dksX2_look_0 15 rfl rfl)
theorem dX2_look_16 : decode cX2_look 16 = .ok (.getfield 61, 3) := dk_180 0 61 (dk_at dksX2_look_0 16 rfl rfl)
theorem dX2_look_19 : decode cX2_look 19 = .ok (.caload, 1) := dk_52 (dk_at dksX2_look_0 19 rfl rfl)
theorem dX2_look_20 : decode cX2_look 20 = .ok (.goto 4, 3) := dk_167 0 4 (dk_at dksX2_look_0 20 rfl rfl)
theorem dX2_look_23 : decode cX2_look 23 = .ok (.iconst 0, 1) := dk_3 (dk_at dksX2_look_0 23 rfl rfl)
theorem dX2_look_24 : decode cX2_look 24 = .ok (.ireturn, 1) := dk_172 (dk_at dksX2_look_1 0 rfl rfl)
abbrev cX2_wrong : ByteArray := prog_3_method_4_code
def yX2_wrong : MethodName := ⟨RX2, "wrong", "(II)Z"⟩
def dkwX2_wrong_0 : List UInt8 := [42, 180, 0, 65, 154, 0, 13, 42, 27, 16, 16, 28, 104, 96, 181, 0, 65, 3, 172]
abbrev dktX2_wrong_0 : List UInt8 := dkwX2_wrong_0 ++ []
theorem dksX2_wrong_0 : cX2_wrong.data.toList.drop 0 = dktX2_wrong_0 := by decide +kernel
theorem dX2_wrong_0 : decode cX2_wrong 0 = .ok (.aload_n 0, 1) := dk_42 (dk_at dksX2_wrong_0 0 rfl rfl)
theorem dX2_wrong_1 : decode cX2_wrong 1 = .ok (.getfield 65, 3) := dk_180 0 65 (dk_at dksX2_wrong_0 1 rfl rfl)
theorem dX2_wrong_4 : decode cX2_wrong 4 = .ok (.ifCond .ne 13, 3) := dk_154 0 13 (dk_at dksX2_wrong_0 4 rfl rfl)
theorem dX2_wrong_7 : decode cX2_wrong 7 = .ok (.aload_n 0, 1) := dk_42 (dk_at dksX2_wrong_0 7 rfl rfl)
theorem dX2_wrong_8 : decode cX2_wrong 8 = .ok (.iload_n 1, 1) := dk_27 (dk_at dksX2_wrong_0 8 rfl rfl)
theorem dX2_wrong_9 : decode cX2_wrong 9 = .ok (.bipush 16, 2) := dk_16 16 (dk_at dksX2_wrong_0 9 rfl rfl)
theorem dX2_wrong_11 : decode cX2_wrong 11 = .ok (.iload_n 2, 1) := dk_28 (dk_at dksX2_wrong_0 11 rfl rfl)
theorem dX2_wrong_12 : decode cX2_wrong 12 = .ok (.imul, 1) := dk_104 (dk_at dksX2_wrong_0 12 rfl rfl)
theorem dX2_wrong_13 : decode cX2_wrong 13 = .ok (.iadd, 1) := dk_96 (dk_at dksX2_wrong_0 13 rfl rfl)
theorem dX2_wrong_14 : decode cX2_wrong 14 = .ok (.putfield 65, 3) := dk_181 0 65 (dk_at dksX2_wrong_0 14 rfl rfl)
theorem dX2_wrong_17 : decode cX2_wrong 17 = .ok (.iconst 0, 1) := dk_3 (dk_at dksX2_wrong_0 17 rfl rfl)
theorem dX2_wrong_18 : decode cX2_wrong 18 = .ok (.ireturn, 1) := dk_172 (dk_at dksX2_wrong_0 18 rfl rfl)
abbrev cX2_expect : ByteArray := prog_3_method_6_code
def yX2_expect : MethodName := ⟨RX2, "expect", "(I)Z"⟩
def dkwX2_expect_1 : List UInt8 := [96, 181, 0, 61, 4, 172]
abbrev dktX2_expect_1 : List UInt8 := dkwX2_expect_1 ++ []
def dkwX2_expect_0 : List UInt8 := [42, 182, 0, 82, 27, 159, 0, 13, 42, 4, 42, 180, 0, 61, 182, 0, 78, 172, 42, 89, 180, 0, 61, 4]
abbrev dktX2_expect_0 : List UInt8 := dkwX2_expect_0 ++ dktX2_expect_1
theorem dksX2_expect_0 : cX2_expect.data.toList.drop 0 = dktX2_expect_0 := by decide +kernel
theorem dksX2_expect_1 : cX2_expect.data.toList.drop 24 = dktX2_expect_1 := dk_seg dksX2_expect_0 24 rfl rfl
theorem dX2_expect_0 : decode cX2_expect 0 = .ok (.aload_n 0, 1) := dk_42 (dk_at dksX2_expect_0 0 rfl rfl)
theorem dX2_expect_1 : decode cX2_expect 1 = .ok (.invokevirtual 82, 3) := dk_182 0 82 (dk_at dksX2_expect_0 1 rfl rfl)
theorem dX2_expect_4 : decode cX2_expect 4 = .ok (.iload_n 1, 1) := dk_27 (dk_at dksX2_expect_0 4 rfl rfl)
theorem dX2_expect_5 : decode cX2_expect 5 = .ok (.if_icmp .eq 13, 3) := dk_159 0 13 (dk_at dksX2_expect_0 5 rfl rfl)
theorem dX2_expect_8 : decode cX2_expect 8 = .ok (.aload_n 0, 1) := dk_42 (dk_at dksX2_expect_0 8 rfl rfl)
theorem dX2_expect_9 : decode cX2_expect 9 = .ok (.iconst 1, 1) := dk_4 (dk_at dksX2_expect_0 9 rfl rfl)
theorem dX2_expect_10 : decode cX2_expect 10 = .ok (.aload_n 0, 1) := dk_42 (dk_at dksX2_expect_0 10 rfl rfl)
theorem dX2_expect_11 : decode cX2_expect 11 = .ok (.getfield 61, 3) := dk_180 0 61 (dk_at dksX2_expect_0 11 rfl rfl)
theorem dX2_expect_14 : decode cX2_expect 14 = .ok (.invokevirtual 78, 3) := dk_182 0 78 (dk_at dksX2_expect_0 14 rfl rfl)
theorem dX2_expect_17 : decode cX2_expect 17 = .ok (.ireturn, 1) := dk_172 (dk_at dksX2_expect_0 17 rfl rfl)
theorem dX2_expect_18 : decode cX2_expect 18 = .ok (.aload_n 0, 1) := dk_42 (dk_at dksX2_expect_0 18 rfl rfl)
theorem dX2_expect_19 : decode cX2_expect 19 = .ok (.dup, 1) := dk_89 (dk_at dksX2_expect_0 19 rfl rfl)
theorem dX2_expect_20 : decode cX2_expect 20 = .ok (.getfield 61, 3) := dk_180 0 61 (dk_at dksX2_expect_0 20 rfl rfl)
theorem dX2_expect_23 : decode cX2_expect 23 = .ok (.iconst 1, 1) := dk_4 (dk_at dksX2_expect_0 23 rfl rfl)
theorem dX2_expect_24 : decode cX2_expect 24 = .ok (.iadd, 1) := dk_96 (dk_at dksX2_expect_1 0 rfl rfl)
theorem dX2_expect_25 : decode cX2_expect 25 = .ok (.putfield 61, 3) := dk_181 0 61 (dk_at dksX2_expect_1 1 rfl rfl)
theorem dX2_expect_28 : decode cX2_expect 28 = .ok (.iconst 1, 1) := dk_4 (dk_at dksX2_expect_1 4 rfl rfl)
theorem dX2_expect_29 : decode cX2_expect 29 = .ok (.ireturn, 1) := dk_172 (dk_at dksX2_expect_1 5 rfl rfl)
abbrev cX2_typeOf : ByteArray := prog_3_method_12_code
def yX2_typeOf : MethodName := ⟨RX2, "typeOf", "(LNotationDesk$Compiler;I)LNotationDesk$Type;"⟩
def dkwX2_typeOf_6 : List UInt8 := [58, 4, 167, 255, 153, 25, 4, 176]
abbrev dktX2_typeOf_6 : List UInt8 := dkwX2_typeOf_6 ++ []
def dkwX2_typeOf_5 : List UInt8 := [180, 0, 9, 21, 5, 5, 96, 52, 16, 33, 159, 0, 7, 4, 167, 0, 4, 3, 25, 4, 182, 0, 126]
abbrev dktX2_typeOf_5 : List UInt8 := dkwX2_typeOf_5 ++ dktX2_typeOf_6
def dkwX2_typeOf_4 : List UInt8 := [183, 0, 125, 83, 42, 180, 0, 53, 21, 5, 50, 42, 180, 0, 9, 21, 5, 4, 96, 52, 16, 48, 100, 42]
abbrev dktX2_typeOf_4 : List UInt8 := dkwX2_typeOf_4 ++ dktX2_typeOf_5
def dkwX2_typeOf_3 : List UInt8 := [54, 5, 42, 180, 0, 53, 21, 5, 50, 199, 0, 17, 42, 180, 0, 53, 21, 5, 187, 0, 51, 89]
abbrev dktX2_typeOf_3 : List UInt8 := dkwX2_typeOf_3 ++ dktX2_typeOf_4
def dkwX2_typeOf_2 : List UInt8 := [28, 164, 0, 96, 42, 89, 180, 0, 68, 4, 100, 181, 0, 68, 42, 180, 0, 57, 42, 180, 0, 68, 46]
abbrev dktX2_typeOf_2 : List UInt8 := dkwX2_typeOf_2 ++ dktX2_typeOf_3
def dkwX2_typeOf_1 : List UInt8 := [180, 0, 68, 28, 100, 62, 42, 27, 29, 96, 184, 0, 122, 58, 4, 25, 4, 198, 0, 104, 42, 180, 0, 68]
abbrev dktX2_typeOf_1 : List UInt8 := dkwX2_typeOf_1 ++ dktX2_typeOf_2
def dkwX2_typeOf_0 : List UInt8 := [42, 180, 0, 68, 61, 42, 182, 0, 82, 16, 91, 160, 0, 12, 42, 182, 0, 119, 154, 255, 243, 1, 176, 42]
abbrev dktX2_typeOf_0 : List UInt8 := dkwX2_typeOf_0 ++ dktX2_typeOf_1
theorem dksX2_typeOf_0 : cX2_typeOf.data.toList.drop 0 = dktX2_typeOf_0 := by decide +kernel
theorem dksX2_typeOf_1 : cX2_typeOf.data.toList.drop 24 = dktX2_typeOf_1 := dk_seg dksX2_typeOf_0 24 rfl rfl
theorem dksX2_typeOf_2 : cX2_typeOf.data.toList.drop 48 = dktX2_typeOf_2 := dk_seg dksX2_typeOf_1 24 rfl rfl
theorem dksX2_typeOf_3 : cX2_typeOf.data.toList.drop 71 = dktX2_typeOf_3 := dk_seg dksX2_typeOf_2 23 rfl rfl
theorem dksX2_typeOf_4 : cX2_typeOf.data.toList.drop 93 = dktX2_typeOf_4 := dk_seg dksX2_typeOf_3 22 rfl rfl
theorem dksX2_typeOf_5 : cX2_typeOf.data.toList.drop 117 = dktX2_typeOf_5 := dk_seg dksX2_typeOf_4 24 rfl rfl
theorem dksX2_typeOf_6 : cX2_typeOf.data.toList.drop 140 = dktX2_typeOf_6 := dk_seg dksX2_typeOf_5 23 rfl rfl
theorem dX2_typeOf_0 : decode cX2_typeOf 0 = .ok (.aload_n 0, 1) := dk_42 (dk_at dksX2_typeOf_0 0 rfl rfl)
theorem dX2_typeOf_1 : decode cX2_typeOf 1 = .ok (.getfield 68, 3) := dk_180 0 68 (dk_at dksX2_typeOf_0 1 rfl rfl)
theorem dX2_typeOf_4 : decode cX2_typeOf 4 = .ok (.istore_n 2, 1) := dk_61 (dk_at dksX2_typeOf_0 4 rfl rfl)
theorem dX2_typeOf_5 : decode cX2_typeOf 5 = .ok (.aload_n 0, 1) := dk_42 (dk_at dksX2_typeOf_0 5 rfl rfl)
theorem dX2_typeOf_6 : decode cX2_typeOf 6 = .ok (.invokevirtual 82, 3) := dk_182 0 82 (dk_at dksX2_typeOf_0 6 rfl rfl)
theorem dX2_typeOf_9 : decode cX2_typeOf 9 = .ok (.bipush 91, 2) := dk_16 91 (dk_at dksX2_typeOf_0 9 rfl rfl)
theorem dX2_typeOf_11 : decode cX2_typeOf 11 = .ok (.if_icmp .ne 12, 3) := dk_160 0 12 (dk_at dksX2_typeOf_0 11 rfl rfl)
theorem dX2_typeOf_14 : decode cX2_typeOf 14 = .ok (.aload_n 0, 1) := dk_42 (dk_at dksX2_typeOf_0 14 rfl rfl)
theorem dX2_typeOf_15 : decode cX2_typeOf 15 = .ok (.invokevirtual 119, 3) := dk_182 0 119 (dk_at dksX2_typeOf_0 15 rfl rfl)
theorem dX2_typeOf_18 : decode cX2_typeOf 18 = .ok (.ifCond .ne (-13), 3) := dk_154 255 243 (dk_at dksX2_typeOf_0 18 rfl rfl)
theorem dX2_typeOf_21 : decode cX2_typeOf 21 = .ok (.aconst_null, 1) := dk_1 (dk_at dksX2_typeOf_0 21 rfl rfl)
theorem dX2_typeOf_22 : decode cX2_typeOf 22 = .ok (.areturn, 1) := dk_176 (dk_at dksX2_typeOf_0 22 rfl rfl)
theorem dX2_typeOf_23 : decode cX2_typeOf 23 = .ok (.aload_n 0, 1) := dk_42 (dk_at dksX2_typeOf_0 23 rfl rfl)
theorem dX2_typeOf_24 : decode cX2_typeOf 24 = .ok (.getfield 68, 3) := dk_180 0 68 (dk_at dksX2_typeOf_1 0 rfl rfl)
theorem dX2_typeOf_27 : decode cX2_typeOf 27 = .ok (.iload_n 2, 1) := dk_28 (dk_at dksX2_typeOf_1 3 rfl rfl)
theorem dX2_typeOf_28 : decode cX2_typeOf 28 = .ok (.isub, 1) := dk_100 (dk_at dksX2_typeOf_1 4 rfl rfl)
theorem dX2_typeOf_29 : decode cX2_typeOf 29 = .ok (.istore_n 3, 1) := dk_62 (dk_at dksX2_typeOf_1 5 rfl rfl)
theorem dX2_typeOf_30 : decode cX2_typeOf 30 = .ok (.aload_n 0, 1) := dk_42 (dk_at dksX2_typeOf_1 6 rfl rfl)
theorem dX2_typeOf_31 : decode cX2_typeOf 31 = .ok (.iload_n 1, 1) := dk_27 (dk_at dksX2_typeOf_1 7 rfl rfl)
theorem dX2_typeOf_32 : decode cX2_typeOf 32 = .ok (.iload_n 3, 1) := dk_29 (dk_at dksX2_typeOf_1 8 rfl rfl)
theorem dX2_typeOf_33 : decode cX2_typeOf 33 = .ok (.iadd, 1) := dk_96 (dk_at dksX2_typeOf_1 9 rfl rfl)
theorem dX2_typeOf_34 : decode cX2_typeOf 34 = .ok (.invokestatic 122, 3) := dk_184 0 122 (dk_at dksX2_typeOf_1 10 rfl rfl)
theorem dX2_typeOf_37 : decode cX2_typeOf 37 = .ok (.astore 4, 2) := dk_58 4 (dk_at dksX2_typeOf_1 13 rfl rfl)
theorem dX2_typeOf_39 : decode cX2_typeOf 39 = .ok (.aload 4, 2) := dk_25 4 (dk_at dksX2_typeOf_1 15 rfl rfl)
theorem dX2_typeOf_41 : decode cX2_typeOf 41 = .ok (.ifnull 104, 3) := dk_198 0 104 (dk_at dksX2_typeOf_1 17 rfl rfl)
theorem dX2_typeOf_44 : decode cX2_typeOf 44 = .ok (.aload_n 0, 1) := dk_42 (dk_at dksX2_typeOf_1 20 rfl rfl)
theorem dX2_typeOf_45 : decode cX2_typeOf 45 = .ok (.getfield 68, 3) := dk_180 0 68 (dk_at dksX2_typeOf_1 21 rfl rfl)
theorem dX2_typeOf_48 : decode cX2_typeOf 48 = .ok (.iload_n 2, 1) := dk_28 (dk_at dksX2_typeOf_2 0 rfl rfl)
theorem dX2_typeOf_49 : decode cX2_typeOf 49 = .ok (.if_icmp .le 96, 3) := dk_164 0 96 (dk_at dksX2_typeOf_2 1 rfl rfl)
theorem dX2_typeOf_52 : decode cX2_typeOf 52 = .ok (.aload_n 0, 1) := dk_42 (dk_at dksX2_typeOf_2 4 rfl rfl)
theorem dX2_typeOf_53 : decode cX2_typeOf 53 = .ok (.dup, 1) := dk_89 (dk_at dksX2_typeOf_2 5 rfl rfl)
theorem dX2_typeOf_54 : decode cX2_typeOf 54 = .ok (.getfield 68, 3) := dk_180 0 68 (dk_at dksX2_typeOf_2 6 rfl rfl)
theorem dX2_typeOf_57 : decode cX2_typeOf 57 = .ok (.iconst 1, 1) := dk_4 (dk_at dksX2_typeOf_2 9 rfl rfl)
theorem dX2_typeOf_58 : decode cX2_typeOf 58 = .ok (.isub, 1) := dk_100 (dk_at dksX2_typeOf_2 10 rfl rfl)
theorem dX2_typeOf_59 : decode cX2_typeOf 59 = .ok (.putfield 68, 3) := dk_181 0 68 (dk_at dksX2_typeOf_2 11 rfl rfl)
theorem dX2_typeOf_62 : decode cX2_typeOf 62 = .ok (.aload_n 0, 1) := dk_42 (dk_at dksX2_typeOf_2 14 rfl rfl)
theorem dX2_typeOf_63 : decode cX2_typeOf 63 = .ok (.getfield 57, 3) := dk_180 0 57 (dk_at dksX2_typeOf_2 15 rfl rfl)
theorem dX2_typeOf_66 : decode cX2_typeOf 66 = .ok (.aload_n 0, 1) := dk_42 (dk_at dksX2_typeOf_2 18 rfl rfl)
theorem dX2_typeOf_67 : decode cX2_typeOf 67 = .ok (.getfield 68, 3) := dk_180 0 68 (dk_at dksX2_typeOf_2 19 rfl rfl)
theorem dX2_typeOf_70 : decode cX2_typeOf 70 = .ok (.iaload, 1) := dk_46 (dk_at dksX2_typeOf_2 22 rfl rfl)
theorem dX2_typeOf_71 : decode cX2_typeOf 71 = .ok (.istore 5, 2) := dk_54 5 (dk_at dksX2_typeOf_3 0 rfl rfl)
theorem dX2_typeOf_73 : decode cX2_typeOf 73 = .ok (.aload_n 0, 1) := dk_42 (dk_at dksX2_typeOf_3 2 rfl rfl)
theorem dX2_typeOf_74 : decode cX2_typeOf 74 = .ok (.getfield 53, 3) := dk_180 0 53 (dk_at dksX2_typeOf_3 3 rfl rfl)
theorem dX2_typeOf_77 : decode cX2_typeOf 77 = .ok (.iload 5, 2) := dk_21 5 (dk_at dksX2_typeOf_3 6 rfl rfl)
theorem dX2_typeOf_79 : decode cX2_typeOf 79 = .ok (.aaload, 1) := dk_50 (dk_at dksX2_typeOf_3 8 rfl rfl)
theorem dX2_typeOf_80 : decode cX2_typeOf 80 = .ok (.ifnonnull 17, 3) := dk_199 0 17 (dk_at dksX2_typeOf_3 9 rfl rfl)
theorem dX2_typeOf_83 : decode cX2_typeOf 83 = .ok (.aload_n 0, 1) := dk_42 (dk_at dksX2_typeOf_3 12 rfl rfl)
theorem dX2_typeOf_84 : decode cX2_typeOf 84 = .ok (.getfield 53, 3) := dk_180 0 53 (dk_at dksX2_typeOf_3 13 rfl rfl)
theorem dX2_typeOf_87 : decode cX2_typeOf 87 = .ok (.iload 5, 2) := dk_21 5 (dk_at dksX2_typeOf_3 16 rfl rfl)
theorem dX2_typeOf_89 : decode cX2_typeOf 89 = .ok (.new 51, 3) := dk_187 0 51 (dk_at dksX2_typeOf_3 18 rfl rfl)
theorem dX2_typeOf_92 : decode cX2_typeOf 92 = .ok (.dup, 1) := dk_89 (dk_at dksX2_typeOf_3 21 rfl rfl)
theorem dX2_typeOf_93 : decode cX2_typeOf 93 = .ok (.invokespecial 125, 3) := dk_183 0 125 (dk_at dksX2_typeOf_4 0 rfl rfl)
theorem dX2_typeOf_96 : decode cX2_typeOf 96 = .ok (.aastore, 1) := dk_83 (dk_at dksX2_typeOf_4 3 rfl rfl)
theorem dX2_typeOf_97 : decode cX2_typeOf 97 = .ok (.aload_n 0, 1) := dk_42 (dk_at dksX2_typeOf_4 4 rfl rfl)
theorem dX2_typeOf_98 : decode cX2_typeOf 98 = .ok (.getfield 53, 3) := dk_180 0 53 (dk_at dksX2_typeOf_4 5 rfl rfl)
theorem dX2_typeOf_101 : decode cX2_typeOf 101 = .ok (.iload 5, 2) := dk_21 5 (dk_at dksX2_typeOf_4 8 rfl rfl)
theorem dX2_typeOf_103 : decode cX2_typeOf 103 = .ok (.aaload, 1) := dk_50 (dk_at dksX2_typeOf_4 10 rfl rfl)
theorem dX2_typeOf_104 : decode cX2_typeOf 104 = .ok (.aload_n 0, 1) := dk_42 (dk_at dksX2_typeOf_4 11 rfl rfl)
theorem dX2_typeOf_105 : decode cX2_typeOf 105 = .ok (.getfield 9, 3) := dk_180 0 9 (dk_at dksX2_typeOf_4 12 rfl rfl)
theorem dX2_typeOf_108 : decode cX2_typeOf 108 = .ok (.iload 5, 2) := dk_21 5 (dk_at dksX2_typeOf_4 15 rfl rfl)
theorem dX2_typeOf_110 : decode cX2_typeOf 110 = .ok (.iconst 1, 1) := dk_4 (dk_at dksX2_typeOf_4 17 rfl rfl)
theorem dX2_typeOf_111 : decode cX2_typeOf 111 = .ok (.iadd, 1) := dk_96 (dk_at dksX2_typeOf_4 18 rfl rfl)
theorem dX2_typeOf_112 : decode cX2_typeOf 112 = .ok (.caload, 1) := dk_52 (dk_at dksX2_typeOf_4 19 rfl rfl)
theorem dX2_typeOf_113 : decode cX2_typeOf 113 = .ok (.bipush 48, 2) := dk_16 48 (dk_at dksX2_typeOf_4 20 rfl rfl)
theorem dX2_typeOf_115 : decode cX2_typeOf 115 = .ok (.isub, 1) := dk_100 (dk_at dksX2_typeOf_4 22 rfl rfl)
theorem dX2_typeOf_116 : decode cX2_typeOf 116 = .ok (.aload_n 0, 1) := dk_42 (dk_at dksX2_typeOf_4 23 rfl rfl)
theorem dX2_typeOf_117 : decode cX2_typeOf 117 = .ok (.getfield 9, 3) := dk_180 0 9 (dk_at dksX2_typeOf_5 0 rfl rfl)
theorem dX2_typeOf_120 : decode cX2_typeOf 120 = .ok (.iload 5, 2) := dk_21 5 (dk_at dksX2_typeOf_5 3 rfl rfl)
theorem dX2_typeOf_122 : decode cX2_typeOf 122 = .ok (.iconst 2, 1) := dk_5 (dk_at dksX2_typeOf_5 5 rfl rfl)
theorem dX2_typeOf_123 : decode cX2_typeOf 123 = .ok (.iadd, 1) := dk_96 (dk_at dksX2_typeOf_5 6 rfl rfl)
theorem dX2_typeOf_124 : decode cX2_typeOf 124 = .ok (.caload, 1) := dk_52 (dk_at dksX2_typeOf_5 7 rfl rfl)
theorem dX2_typeOf_125 : decode cX2_typeOf 125 = .ok (.bipush 33, 2) := dk_16 33 (dk_at dksX2_typeOf_5 8 rfl rfl)
theorem dX2_typeOf_127 : decode cX2_typeOf 127 = .ok (.if_icmp .eq 7, 3) := dk_159 0 7 (dk_at dksX2_typeOf_5 10 rfl rfl)
theorem dX2_typeOf_130 : decode cX2_typeOf 130 = .ok (.iconst 1, 1) := dk_4 (dk_at dksX2_typeOf_5 13 rfl rfl)
theorem dX2_typeOf_131 : decode cX2_typeOf 131 = .ok (.goto 4, 3) := dk_167 0 4 (dk_at dksX2_typeOf_5 14 rfl rfl)
theorem dX2_typeOf_134 : decode cX2_typeOf 134 = .ok (.iconst 0, 1) := dk_3 (dk_at dksX2_typeOf_5 17 rfl rfl)
theorem dX2_typeOf_135 : decode cX2_typeOf 135 = .ok (.aload 4, 2) := dk_25 4 (dk_at dksX2_typeOf_5 18 rfl rfl)
theorem dX2_typeOf_137 : decode cX2_typeOf 137 = .ok (.invokevirtual 126, 3) := dk_182 0 126 (dk_at dksX2_typeOf_5 20 rfl rfl)
theorem dX2_typeOf_140 : decode cX2_typeOf 140 = .ok (.astore 4, 2) := dk_58 4 (dk_at dksX2_typeOf_6 0 rfl rfl)
theorem dX2_typeOf_142 : decode cX2_typeOf 142 = .ok (.goto (-103), 3) := dk_167 255 153 (dk_at dksX2_typeOf_6 2 rfl rfl)
theorem dX2_typeOf_145 : decode cX2_typeOf 145 = .ok (.aload 4, 2) := dk_25 4 (dk_at dksX2_typeOf_6 5 rfl rfl)
theorem dX2_typeOf_147 : decode cX2_typeOf 147 = .ok (.areturn, 1) := dk_176 (dk_at dksX2_typeOf_6 7 rfl rfl)
abbrev cX2_isTag : ByteArray := prog_3_method_13_code
def yX2_isTag : MethodName := ⟨RX2, "isTag", "()Z"⟩
def dkwX2_isTag_3 : List UInt8 := [160, 0, 13, 42, 89, 180, 0, 61, 4, 96, 181, 0, 61, 42, 16, 93, 182, 0, 90, 172]
abbrev dktX2_isTag_3 : List UInt8 := dkwX2_isTag_3 ++ []
def dkwX2_isTag_2 : List UInt8 := [180, 0, 61, 182, 0, 78, 172, 42, 89, 180, 0, 61, 4, 96, 181, 0, 61, 42, 182, 0, 82, 16, 33]
abbrev dktX2_isTag_2 : List UInt8 := dkwX2_isTag_2 ++ dktX2_isTag_3
def dkwX2_isTag_1 : List UInt8 := [89, 180, 0, 61, 4, 96, 181, 0, 61, 42, 182, 0, 82, 184, 0, 98, 154, 0, 13, 42, 4, 42]
abbrev dktX2_isTag_1 : List UInt8 := dkwX2_isTag_1 ++ dktX2_isTag_2
def dkwX2_isTag_0 : List UInt8 := [42, 180, 0, 57, 42, 180, 0, 68, 42, 180, 0, 61, 79, 42, 89, 180, 0, 68, 4, 96, 181, 0, 68, 42]
abbrev dktX2_isTag_0 : List UInt8 := dkwX2_isTag_0 ++ dktX2_isTag_1
theorem dksX2_isTag_0 : cX2_isTag.data.toList.drop 0 = dktX2_isTag_0 := by decide +kernel
theorem dksX2_isTag_1 : cX2_isTag.data.toList.drop 24 = dktX2_isTag_1 := dk_seg dksX2_isTag_0 24 rfl rfl
theorem dksX2_isTag_2 : cX2_isTag.data.toList.drop 46 = dktX2_isTag_2 := dk_seg dksX2_isTag_1 22 rfl rfl
theorem dksX2_isTag_3 : cX2_isTag.data.toList.drop 69 = dktX2_isTag_3 := dk_seg dksX2_isTag_2 23 rfl rfl
theorem dX2_isTag_0 : decode cX2_isTag 0 = .ok (.aload_n 0, 1) := dk_42 (dk_at dksX2_isTag_0 0 rfl rfl)
theorem dX2_isTag_1 : decode cX2_isTag 1 = .ok (.getfield 57, 3) := dk_180 0 57 (dk_at dksX2_isTag_0 1 rfl rfl)
theorem dX2_isTag_4 : decode cX2_isTag 4 = .ok (.aload_n 0, 1) := dk_42 (dk_at dksX2_isTag_0 4 rfl rfl)
theorem dX2_isTag_5 : decode cX2_isTag 5 = .ok (.getfield 68, 3) := dk_180 0 68 (dk_at dksX2_isTag_0 5 rfl rfl)
theorem dX2_isTag_8 : decode cX2_isTag 8 = .ok (.aload_n 0, 1) := dk_42 (dk_at dksX2_isTag_0 8 rfl rfl)
theorem dX2_isTag_9 : decode cX2_isTag 9 = .ok (.getfield 61, 3) := dk_180 0 61 (dk_at dksX2_isTag_0 9 rfl rfl)
theorem dX2_isTag_12 : decode cX2_isTag 12 = .ok (.iastore, 1) := dk_79 (dk_at dksX2_isTag_0 12 rfl rfl)
theorem dX2_isTag_13 : decode cX2_isTag 13 = .ok (.aload_n 0, 1) := dk_42 (dk_at dksX2_isTag_0 13 rfl rfl)
theorem dX2_isTag_14 : decode cX2_isTag 14 = .ok (.dup, 1) := dk_89 (dk_at dksX2_isTag_0 14 rfl rfl)
theorem dX2_isTag_15 : decode cX2_isTag 15 = .ok (.getfield 68, 3) := dk_180 0 68 (dk_at dksX2_isTag_0 15 rfl rfl)
theorem dX2_isTag_18 : decode cX2_isTag 18 = .ok (.iconst 1, 1) := dk_4 (dk_at dksX2_isTag_0 18 rfl rfl)
theorem dX2_isTag_19 : decode cX2_isTag 19 = .ok (.iadd, 1) := dk_96 (dk_at dksX2_isTag_0 19 rfl rfl)
theorem dX2_isTag_20 : decode cX2_isTag 20 = .ok (.putfield 68, 3) := dk_181 0 68 (dk_at dksX2_isTag_0 20 rfl rfl)
theorem dX2_isTag_23 : decode cX2_isTag 23 = .ok (.aload_n 0, 1) := dk_42 (dk_at dksX2_isTag_0 23 rfl rfl)
theorem dX2_isTag_24 : decode cX2_isTag 24 = .ok (.dup, 1) := dk_89 (dk_at dksX2_isTag_1 0 rfl rfl)
theorem dX2_isTag_25 : decode cX2_isTag 25 = .ok (.getfield 61, 3) := dk_180 0 61 (dk_at dksX2_isTag_1 1 rfl rfl)
theorem dX2_isTag_28 : decode cX2_isTag 28 = .ok (.iconst 1, 1) := dk_4 (dk_at dksX2_isTag_1 4 rfl rfl)
theorem dX2_isTag_29 : decode cX2_isTag 29 = .ok (.iadd, 1) := dk_96 (dk_at dksX2_isTag_1 5 rfl rfl)
theorem dX2_isTag_30 : decode cX2_isTag 30 = .ok (.putfield 61, 3) := dk_181 0 61 (dk_at dksX2_isTag_1 6 rfl rfl)
theorem dX2_isTag_33 : decode cX2_isTag 33 = .ok (.aload_n 0, 1) := dk_42 (dk_at dksX2_isTag_1 9 rfl rfl)
theorem dX2_isTag_34 : decode cX2_isTag 34 = .ok (.invokevirtual 82, 3) := dk_182 0 82 (dk_at dksX2_isTag_1 10 rfl rfl)
theorem dX2_isTag_37 : decode cX2_isTag 37 = .ok (.invokestatic 98, 3) := dk_184 0 98 (dk_at dksX2_isTag_1 13 rfl rfl)
theorem dX2_isTag_40 : decode cX2_isTag 40 = .ok (.ifCond .ne 13, 3) := dk_154 0 13 (dk_at dksX2_isTag_1 16 rfl rfl)
theorem dX2_isTag_43 : decode cX2_isTag 43 = .ok (.aload_n 0, 1) := dk_42 (dk_at dksX2_isTag_1 19 rfl rfl)
theorem dX2_isTag_44 : decode cX2_isTag 44 = .ok (.iconst 1, 1) := dk_4 (dk_at dksX2_isTag_1 20 rfl rfl)
theorem dX2_isTag_45 : decode cX2_isTag 45 = .ok (.aload_n 0, 1) := dk_42 (dk_at dksX2_isTag_1 21 rfl rfl)
theorem dX2_isTag_46 : decode cX2_isTag 46 = .ok (.getfield 61, 3) := dk_180 0 61 (dk_at dksX2_isTag_2 0 rfl rfl)
theorem dX2_isTag_49 : decode cX2_isTag 49 = .ok (.invokevirtual 78, 3) := dk_182 0 78 (dk_at dksX2_isTag_2 3 rfl rfl)
theorem dX2_isTag_52 : decode cX2_isTag 52 = .ok (.ireturn, 1) := dk_172 (dk_at dksX2_isTag_2 6 rfl rfl)
theorem dX2_isTag_53 : decode cX2_isTag 53 = .ok (.aload_n 0, 1) := dk_42 (dk_at dksX2_isTag_2 7 rfl rfl)
theorem dX2_isTag_54 : decode cX2_isTag 54 = .ok (.dup, 1) := dk_89 (dk_at dksX2_isTag_2 8 rfl rfl)
theorem dX2_isTag_55 : decode cX2_isTag 55 = .ok (.getfield 61, 3) := dk_180 0 61 (dk_at dksX2_isTag_2 9 rfl rfl)
theorem dX2_isTag_58 : decode cX2_isTag 58 = .ok (.iconst 1, 1) := dk_4 (dk_at dksX2_isTag_2 12 rfl rfl)
theorem dX2_isTag_59 : decode cX2_isTag 59 = .ok (.iadd, 1) := dk_96 (dk_at dksX2_isTag_2 13 rfl rfl)
theorem dX2_isTag_60 : decode cX2_isTag 60 = .ok (.putfield 61, 3) := dk_181 0 61 (dk_at dksX2_isTag_2 14 rfl rfl)
theorem dX2_isTag_63 : decode cX2_isTag 63 = .ok (.aload_n 0, 1) := dk_42 (dk_at dksX2_isTag_2 17 rfl rfl)
theorem dX2_isTag_64 : decode cX2_isTag 64 = .ok (.invokevirtual 82, 3) := dk_182 0 82 (dk_at dksX2_isTag_2 18 rfl rfl)
theorem dX2_isTag_67 : decode cX2_isTag 67 = .ok (.bipush 33, 2) := dk_16 33 (dk_at dksX2_isTag_2 21 rfl rfl)
theorem dX2_isTag_69 : decode cX2_isTag 69 = .ok (.if_icmp .ne 13, 3) := dk_160 0 13 (dk_at dksX2_isTag_3 0 rfl rfl)
theorem dX2_isTag_72 : decode cX2_isTag 72 = .ok (.aload_n 0, 1) := dk_42 (dk_at dksX2_isTag_3 3 rfl rfl)
theorem dX2_isTag_73 : decode cX2_isTag 73 = .ok (.dup, 1) := dk_89 (dk_at dksX2_isTag_3 4 rfl rfl)
theorem dX2_isTag_74 : decode cX2_isTag 74 = .ok (.getfield 61, 3) := dk_180 0 61 (dk_at dksX2_isTag_3 5 rfl rfl)
theorem dX2_isTag_77 : decode cX2_isTag 77 = .ok (.iconst 1, 1) := dk_4 (dk_at dksX2_isTag_3 8 rfl rfl)
theorem dX2_isTag_78 : decode cX2_isTag 78 = .ok (.iadd, 1) := dk_96 (dk_at dksX2_isTag_3 9 rfl rfl)
theorem dX2_isTag_79 : decode cX2_isTag 79 = .ok (.putfield 61, 3) := dk_181 0 61 (dk_at dksX2_isTag_3 10 rfl rfl)
theorem dX2_isTag_82 : decode cX2_isTag 82 = .ok (.aload_n 0, 1) := dk_42 (dk_at dksX2_isTag_3 13 rfl rfl)
theorem dX2_isTag_83 : decode cX2_isTag 83 = .ok (.bipush 93, 2) := dk_16 93 (dk_at dksX2_isTag_3 14 rfl rfl)
theorem dX2_isTag_85 : decode cX2_isTag 85 = .ok (.invokevirtual 90, 3) := dk_182 0 90 (dk_at dksX2_isTag_3 16 rfl rfl)
theorem dX2_isTag_88 : decode cX2_isTag 88 = .ok (.ireturn, 1) := dk_172 (dk_at dksX2_isTag_3 19 rfl rfl)
abbrev cX2_bodyOf : ByteArray := prog_3_method_15_code
def yX2_bodyOf : MethodName := ⟨RX2, "bodyOf", "(LNotationDesk$Compiler;I)LNotationDesk$Type;"⟩
def dkwX2_bodyOf_6 : List UInt8 := [4, 96, 184, 0, 154, 176, 42, 29, 182, 0, 157, 176, 42, 29, 27, 4, 96, 184, 0, 160, 176]
abbrev dktX2_bodyOf_6 : List UInt8 := dkwX2_bodyOf_6 ++ []
def dkwX2_bodyOf_5 : List UInt8 := [182, 0, 140, 8, 8, 4, 3, 3, 182, 0, 144, 176, 42, 29, 27, 4, 96, 184, 0, 150, 176, 42, 29, 27]
abbrev dktX2_bodyOf_5 : List UInt8 := dkwX2_bodyOf_5 ++ dktX2_bodyOf_6
def dkwX2_bodyOf_4 : List UInt8 := [42, 29, 182, 0, 140, 4, 4, 4, 3, 4, 182, 0, 144, 176, 42, 29, 182, 0, 147, 176, 42, 29]
abbrev dktX2_bodyOf_4 : List UInt8 := dkwX2_bodyOf_4 ++ dktX2_bodyOf_5
def dkwX2_bodyOf_3 : List UInt8 := [170, 0, 0, 0, 135, 0, 0, 0, 98, 0, 0, 0, 113, 0, 0, 0, 77, 0, 0, 0, 120, 0, 0, 0, 135, 0, 0, 0, 135, 0, 0, 0, 135, 0, 0, 0, 135, 0, 0, 0, 135, 0, 0, 0, 91, 0, 0, 0, 135, 0, 0, 0, 135, 0, 0, 0, 135, 0, 0, 0, 135, 0, 0, 0, 97, 0, 0, 0, 129, 0, 0, 0, 135, 0, 0, 0, 111]
abbrev dktX2_bodyOf_3 : List UInt8 := dkwX2_bodyOf_3 ++ dktX2_bodyOf_4
def dkwX2_bodyOf_2 : List UInt8 := [180, 0, 61, 182, 0, 136, 176, 42, 180, 0, 61, 62, 42, 89, 180, 0, 61, 4, 96, 181, 0, 61, 28]
abbrev dktX2_bodyOf_2 : List UInt8 := dkwX2_bodyOf_2 ++ dktX2_bodyOf_3
def dkwX2_bodyOf_1 : List UInt8 := [154, 0, 13, 42, 4, 42, 180, 0, 61, 182, 0, 136, 176, 27, 16, 6, 161, 0, 13, 42, 8, 42]
abbrev dktX2_bodyOf_1 : List UInt8 := dkwX2_bodyOf_1 ++ dktX2_bodyOf_2
def dkwX2_bodyOf_0 : List UInt8 := [42, 182, 0, 86, 153, 0, 9, 42, 27, 182, 0, 129, 176, 42, 182, 0, 82, 61, 28, 184, 0, 133]
abbrev dktX2_bodyOf_0 : List UInt8 := dkwX2_bodyOf_0 ++ dktX2_bodyOf_1
theorem dksX2_bodyOf_0 : cX2_bodyOf.data.toList.drop 0 = dktX2_bodyOf_0 := by decide +kernel
theorem dksX2_bodyOf_1 : cX2_bodyOf.data.toList.drop 22 = dktX2_bodyOf_1 := dk_seg dksX2_bodyOf_0 22 rfl rfl
theorem dksX2_bodyOf_2 : cX2_bodyOf.data.toList.drop 44 = dktX2_bodyOf_2 := dk_seg dksX2_bodyOf_1 22 rfl rfl
theorem dksX2_bodyOf_3 : cX2_bodyOf.data.toList.drop 67 = dktX2_bodyOf_3 := dk_seg dksX2_bodyOf_2 23 rfl rfl
theorem dksX2_bodyOf_4 : cX2_bodyOf.data.toList.drop 144 = dktX2_bodyOf_4 := dk_seg dksX2_bodyOf_3 77 rfl rfl
theorem dksX2_bodyOf_5 : cX2_bodyOf.data.toList.drop 166 = dktX2_bodyOf_5 := dk_seg dksX2_bodyOf_4 22 rfl rfl
theorem dksX2_bodyOf_6 : cX2_bodyOf.data.toList.drop 190 = dktX2_bodyOf_6 := dk_seg dksX2_bodyOf_5 24 rfl rfl
theorem dX2_bodyOf_0 : decode cX2_bodyOf 0 = .ok (.aload_n 0, 1) := dk_42 (dk_at dksX2_bodyOf_0 0 rfl rfl)
theorem dX2_bodyOf_1 : decode cX2_bodyOf 1 = .ok (.invokevirtual 86, 3) := dk_182 0 86 (dk_at dksX2_bodyOf_0 1 rfl rfl)
theorem dX2_bodyOf_4 : decode cX2_bodyOf 4 = .ok (.ifCond .eq 9, 3) := dk_153 0 9 (dk_at dksX2_bodyOf_0 4 rfl rfl)
theorem dX2_bodyOf_7 : decode cX2_bodyOf 7 = .ok (.aload_n 0, 1) := dk_42 (dk_at dksX2_bodyOf_0 7 rfl rfl)
theorem dX2_bodyOf_8 : decode cX2_bodyOf 8 = .ok (.iload_n 1, 1) := dk_27 (dk_at dksX2_bodyOf_0 8 rfl rfl)
theorem dX2_bodyOf_9 : decode cX2_bodyOf 9 = .ok (.invokevirtual 129, 3) := dk_182 0 129 (dk_at dksX2_bodyOf_0 9 rfl rfl)
theorem dX2_bodyOf_12 : decode cX2_bodyOf 12 = .ok (.areturn, 1) := dk_176 (dk_at dksX2_bodyOf_0 12 rfl rfl)
theorem dX2_bodyOf_13 : decode cX2_bodyOf 13 = .ok (.aload_n 0, 1) := dk_42 (dk_at dksX2_bodyOf_0 13 rfl rfl)
theorem dX2_bodyOf_14 : decode cX2_bodyOf 14 = .ok (.invokevirtual 82, 3) := dk_182 0 82 (dk_at dksX2_bodyOf_0 14 rfl rfl)
theorem dX2_bodyOf_17 : decode cX2_bodyOf 17 = .ok (.istore_n 2, 1) := dk_61 (dk_at dksX2_bodyOf_0 17 rfl rfl)
theorem dX2_bodyOf_18 : decode cX2_bodyOf 18 = .ok (.iload_n 2, 1) := dk_28 (dk_at dksX2_bodyOf_0 18 rfl rfl)
theorem dX2_bodyOf_19 : decode cX2_bodyOf 19 = .ok (.invokestatic 133, 3) := dk_184 0 133 (dk_at dksX2_bodyOf_0 19 rfl rfl)
theorem dX2_bodyOf_22 : decode cX2_bodyOf 22 = .ok (.ifCond .ne 13, 3) := dk_154 0 13 (dk_at dksX2_bodyOf_1 0 rfl rfl)
theorem dX2_bodyOf_25 : decode cX2_bodyOf 25 = .ok (.aload_n 0, 1) := dk_42 (dk_at dksX2_bodyOf_1 3 rfl rfl)
theorem dX2_bodyOf_26 : decode cX2_bodyOf 26 = .ok (.iconst 1, 1) := dk_4 (dk_at dksX2_bodyOf_1 4 rfl rfl)
theorem dX2_bodyOf_27 : decode cX2_bodyOf 27 = .ok (.aload_n 0, 1) := dk_42 (dk_at dksX2_bodyOf_1 5 rfl rfl)
theorem dX2_bodyOf_28 : decode cX2_bodyOf 28 = .ok (.getfield 61, 3) := dk_180 0 61 (dk_at dksX2_bodyOf_1 6 rfl rfl)
theorem dX2_bodyOf_31 : decode cX2_bodyOf 31 = .ok (.invokevirtual 136, 3) := dk_182 0 136 (dk_at dksX2_bodyOf_1 9 rfl rfl)
theorem dX2_bodyOf_34 : decode cX2_bodyOf 34 = .ok (.areturn, 1) := dk_176 (dk_at dksX2_bodyOf_1 12 rfl rfl)
theorem dX2_bodyOf_35 : decode cX2_bodyOf 35 = .ok (.iload_n 1, 1) := dk_27 (dk_at dksX2_bodyOf_1 13 rfl rfl)
theorem dX2_bodyOf_36 : decode cX2_bodyOf 36 = .ok (.bipush 6, 2) := dk_16 6 (dk_at dksX2_bodyOf_1 14 rfl rfl)
theorem dX2_bodyOf_38 : decode cX2_bodyOf 38 = .ok (.if_icmp .lt 13, 3) := dk_161 0 13 (dk_at dksX2_bodyOf_1 16 rfl rfl)
theorem dX2_bodyOf_41 : decode cX2_bodyOf 41 = .ok (.aload_n 0, 1) := dk_42 (dk_at dksX2_bodyOf_1 19 rfl rfl)
theorem dX2_bodyOf_42 : decode cX2_bodyOf 42 = .ok (.iconst 5, 1) := dk_8 (dk_at dksX2_bodyOf_1 20 rfl rfl)
theorem dX2_bodyOf_43 : decode cX2_bodyOf 43 = .ok (.aload_n 0, 1) := dk_42 (dk_at dksX2_bodyOf_1 21 rfl rfl)
theorem dX2_bodyOf_44 : decode cX2_bodyOf 44 = .ok (.getfield 61, 3) := dk_180 0 61 (dk_at dksX2_bodyOf_2 0 rfl rfl)
theorem dX2_bodyOf_47 : decode cX2_bodyOf 47 = .ok (.invokevirtual 136, 3) := dk_182 0 136 (dk_at dksX2_bodyOf_2 3 rfl rfl)
theorem dX2_bodyOf_50 : decode cX2_bodyOf 50 = .ok (.areturn, 1) := dk_176 (dk_at dksX2_bodyOf_2 6 rfl rfl)
theorem dX2_bodyOf_51 : decode cX2_bodyOf 51 = .ok (.aload_n 0, 1) := dk_42 (dk_at dksX2_bodyOf_2 7 rfl rfl)
theorem dX2_bodyOf_52 : decode cX2_bodyOf 52 = .ok (.getfield 61, 3) := dk_180 0 61 (dk_at dksX2_bodyOf_2 8 rfl rfl)
theorem dX2_bodyOf_55 : decode cX2_bodyOf 55 = .ok (.istore_n 3, 1) := dk_62 (dk_at dksX2_bodyOf_2 11 rfl rfl)
theorem dX2_bodyOf_56 : decode cX2_bodyOf 56 = .ok (.aload_n 0, 1) := dk_42 (dk_at dksX2_bodyOf_2 12 rfl rfl)
theorem dX2_bodyOf_57 : decode cX2_bodyOf 57 = .ok (.dup, 1) := dk_89 (dk_at dksX2_bodyOf_2 13 rfl rfl)
theorem dX2_bodyOf_58 : decode cX2_bodyOf 58 = .ok (.getfield 61, 3) := dk_180 0 61 (dk_at dksX2_bodyOf_2 14 rfl rfl)
theorem dX2_bodyOf_61 : decode cX2_bodyOf 61 = .ok (.iconst 1, 1) := dk_4 (dk_at dksX2_bodyOf_2 17 rfl rfl)
theorem dX2_bodyOf_62 : decode cX2_bodyOf 62 = .ok (.iadd, 1) := dk_96 (dk_at dksX2_bodyOf_2 18 rfl rfl)
theorem dX2_bodyOf_63 : decode cX2_bodyOf 63 = .ok (.putfield 61, 3) := dk_181 0 61 (dk_at dksX2_bodyOf_2 19 rfl rfl)
theorem dX2_bodyOf_66 : decode cX2_bodyOf 66 = .ok (.iload_n 2, 1) := dk_28 (dk_at dksX2_bodyOf_2 22 rfl rfl)
theorem dX2_bodyOf_67 : decode cX2_bodyOf 67 = .ok (.tableswitch 135 98 113 #[77, 120, 135, 135, 135, 135, 135, 91, 135, 135, 135, 135, 97, 129, 135, 111], 77) := by decide +kernel
theorem dX2_bodyOf_144 : decode cX2_bodyOf 144 = .ok (.aload_n 0, 1) := dk_42 (dk_at dksX2_bodyOf_4 0 rfl rfl)
theorem dX2_bodyOf_145 : decode cX2_bodyOf 145 = .ok (.iload_n 3, 1) := dk_29 (dk_at dksX2_bodyOf_4 1 rfl rfl)
theorem dX2_bodyOf_146 : decode cX2_bodyOf 146 = .ok (.invokevirtual 140, 3) := dk_182 0 140 (dk_at dksX2_bodyOf_4 2 rfl rfl)
theorem dX2_bodyOf_149 : decode cX2_bodyOf 149 = .ok (.iconst 1, 1) := dk_4 (dk_at dksX2_bodyOf_4 5 rfl rfl)
theorem dX2_bodyOf_150 : decode cX2_bodyOf 150 = .ok (.iconst 1, 1) := dk_4 (dk_at dksX2_bodyOf_4 6 rfl rfl)
theorem dX2_bodyOf_151 : decode cX2_bodyOf 151 = .ok (.iconst 1, 1) := dk_4 (dk_at dksX2_bodyOf_4 7 rfl rfl)
theorem dX2_bodyOf_152 : decode cX2_bodyOf 152 = .ok (.iconst 0, 1) := dk_3 (dk_at dksX2_bodyOf_4 8 rfl rfl)
theorem dX2_bodyOf_153 : decode cX2_bodyOf 153 = .ok (.iconst 1, 1) := dk_4 (dk_at dksX2_bodyOf_4 9 rfl rfl)
theorem dX2_bodyOf_154 : decode cX2_bodyOf 154 = .ok (.invokevirtual 144, 3) := dk_182 0 144 (dk_at dksX2_bodyOf_4 10 rfl rfl)
theorem dX2_bodyOf_157 : decode cX2_bodyOf 157 = .ok (.areturn, 1) := dk_176 (dk_at dksX2_bodyOf_4 13 rfl rfl)
theorem dX2_bodyOf_158 : decode cX2_bodyOf 158 = .ok (.aload_n 0, 1) := dk_42 (dk_at dksX2_bodyOf_4 14 rfl rfl)
theorem dX2_bodyOf_159 : decode cX2_bodyOf 159 = .ok (.iload_n 3, 1) := dk_29 (dk_at dksX2_bodyOf_4 15 rfl rfl)
theorem dX2_bodyOf_160 : decode cX2_bodyOf 160 = .ok (.invokevirtual 147, 3) := dk_182 0 147 (dk_at dksX2_bodyOf_4 16 rfl rfl)
theorem dX2_bodyOf_163 : decode cX2_bodyOf 163 = .ok (.areturn, 1) := dk_176 (dk_at dksX2_bodyOf_4 19 rfl rfl)
theorem dX2_bodyOf_164 : decode cX2_bodyOf 164 = .ok (.aload_n 0, 1) := dk_42 (dk_at dksX2_bodyOf_4 20 rfl rfl)
theorem dX2_bodyOf_165 : decode cX2_bodyOf 165 = .ok (.iload_n 3, 1) := dk_29 (dk_at dksX2_bodyOf_4 21 rfl rfl)
theorem dX2_bodyOf_166 : decode cX2_bodyOf 166 = .ok (.invokevirtual 140, 3) := dk_182 0 140 (dk_at dksX2_bodyOf_5 0 rfl rfl)
theorem dX2_bodyOf_169 : decode cX2_bodyOf 169 = .ok (.iconst 5, 1) := dk_8 (dk_at dksX2_bodyOf_5 3 rfl rfl)
theorem dX2_bodyOf_170 : decode cX2_bodyOf 170 = .ok (.iconst 5, 1) := dk_8 (dk_at dksX2_bodyOf_5 4 rfl rfl)
theorem dX2_bodyOf_171 : decode cX2_bodyOf 171 = .ok (.iconst 1, 1) := dk_4 (dk_at dksX2_bodyOf_5 5 rfl rfl)
theorem dX2_bodyOf_172 : decode cX2_bodyOf 172 = .ok (.iconst 0, 1) := dk_3 (dk_at dksX2_bodyOf_5 6 rfl rfl)
theorem dX2_bodyOf_173 : decode cX2_bodyOf 173 = .ok (.iconst 0, 1) := dk_3 (dk_at dksX2_bodyOf_5 7 rfl rfl)
theorem dX2_bodyOf_174 : decode cX2_bodyOf 174 = .ok (.invokevirtual 144, 3) := dk_182 0 144 (dk_at dksX2_bodyOf_5 8 rfl rfl)
theorem dX2_bodyOf_177 : decode cX2_bodyOf 177 = .ok (.areturn, 1) := dk_176 (dk_at dksX2_bodyOf_5 11 rfl rfl)
theorem dX2_bodyOf_178 : decode cX2_bodyOf 178 = .ok (.aload_n 0, 1) := dk_42 (dk_at dksX2_bodyOf_5 12 rfl rfl)
theorem dX2_bodyOf_179 : decode cX2_bodyOf 179 = .ok (.iload_n 3, 1) := dk_29 (dk_at dksX2_bodyOf_5 13 rfl rfl)
theorem dX2_bodyOf_180 : decode cX2_bodyOf 180 = .ok (.iload_n 1, 1) := dk_27 (dk_at dksX2_bodyOf_5 14 rfl rfl)
theorem dX2_bodyOf_181 : decode cX2_bodyOf 181 = .ok (.iconst 1, 1) := dk_4 (dk_at dksX2_bodyOf_5 15 rfl rfl)
theorem dX2_bodyOf_182 : decode cX2_bodyOf 182 = .ok (.iadd, 1) := dk_96 (dk_at dksX2_bodyOf_5 16 rfl rfl)
theorem dX2_bodyOf_183 : decode cX2_bodyOf 183 = .ok (.invokestatic 150, 3) := dk_184 0 150 (dk_at dksX2_bodyOf_5 17 rfl rfl)
theorem dX2_bodyOf_186 : decode cX2_bodyOf 186 = .ok (.areturn, 1) := dk_176 (dk_at dksX2_bodyOf_5 20 rfl rfl)
theorem dX2_bodyOf_187 : decode cX2_bodyOf 187 = .ok (.aload_n 0, 1) := dk_42 (dk_at dksX2_bodyOf_5 21 rfl rfl)
theorem dX2_bodyOf_188 : decode cX2_bodyOf 188 = .ok (.iload_n 3, 1) := dk_29 (dk_at dksX2_bodyOf_5 22 rfl rfl)
theorem dX2_bodyOf_189 : decode cX2_bodyOf 189 = .ok (.iload_n 1, 1) := dk_27 (dk_at dksX2_bodyOf_5 23 rfl rfl)
theorem dX2_bodyOf_190 : decode cX2_bodyOf 190 = .ok (.iconst 1, 1) := dk_4 (dk_at dksX2_bodyOf_6 0 rfl rfl)
theorem dX2_bodyOf_191 : decode cX2_bodyOf 191 = .ok (.iadd, 1) := dk_96 (dk_at dksX2_bodyOf_6 1 rfl rfl)
theorem dX2_bodyOf_192 : decode cX2_bodyOf 192 = .ok (.invokestatic 154, 3) := dk_184 0 154 (dk_at dksX2_bodyOf_6 2 rfl rfl)
theorem dX2_bodyOf_195 : decode cX2_bodyOf 195 = .ok (.areturn, 1) := dk_176 (dk_at dksX2_bodyOf_6 5 rfl rfl)
theorem dX2_bodyOf_196 : decode cX2_bodyOf 196 = .ok (.aload_n 0, 1) := dk_42 (dk_at dksX2_bodyOf_6 6 rfl rfl)
theorem dX2_bodyOf_197 : decode cX2_bodyOf 197 = .ok (.iload_n 3, 1) := dk_29 (dk_at dksX2_bodyOf_6 7 rfl rfl)
theorem dX2_bodyOf_198 : decode cX2_bodyOf 198 = .ok (.invokevirtual 157, 3) := dk_182 0 157 (dk_at dksX2_bodyOf_6 8 rfl rfl)
theorem dX2_bodyOf_201 : decode cX2_bodyOf 201 = .ok (.areturn, 1) := dk_176 (dk_at dksX2_bodyOf_6 11 rfl rfl)
theorem dX2_bodyOf_202 : decode cX2_bodyOf 202 = .ok (.aload_n 0, 1) := dk_42 (dk_at dksX2_bodyOf_6 12 rfl rfl)
theorem dX2_bodyOf_203 : decode cX2_bodyOf 203 = .ok (.iload_n 3, 1) := dk_29 (dk_at dksX2_bodyOf_6 13 rfl rfl)
theorem dX2_bodyOf_204 : decode cX2_bodyOf 204 = .ok (.iload_n 1, 1) := dk_27 (dk_at dksX2_bodyOf_6 14 rfl rfl)
theorem dX2_bodyOf_205 : decode cX2_bodyOf 205 = .ok (.iconst 1, 1) := dk_4 (dk_at dksX2_bodyOf_6 15 rfl rfl)
theorem dX2_bodyOf_206 : decode cX2_bodyOf 206 = .ok (.iadd, 1) := dk_96 (dk_at dksX2_bodyOf_6 16 rfl rfl)
theorem dX2_bodyOf_207 : decode cX2_bodyOf 207 = .ok (.invokestatic 160, 3) := dk_184 0 160 (dk_at dksX2_bodyOf_6 17 rfl rfl)
theorem dX2_bodyOf_210 : decode cX2_bodyOf 210 = .ok (.areturn, 1) := dk_176 (dk_at dksX2_bodyOf_6 20 rfl rfl)
abbrev cX2_named : ByteArray := prog_3_method_17_code
def yX2_named : MethodName := ⟨RX2, "named", "(I)LNotationDesk$Type;"⟩
def dkwX2_named_2 : List UInt8 := [176, 42, 89, 180, 0, 61, 4, 96, 181, 0, 61, 44, 176]
abbrev dktX2_named_2 : List UInt8 := dkwX2_named_2 ++ []
def dkwX2_named_1 : List UInt8 := [182, 0, 136, 176, 27, 44, 182, 0, 164, 96, 16, 6, 161, 0, 13, 42, 8, 42, 180, 0, 61, 182, 0, 136]
abbrev dktX2_named_1 : List UInt8 := dkwX2_named_1 ++ dktX2_named_2
def dkwX2_named_0 : List UInt8 := [42, 180, 0, 17, 42, 182, 0, 82, 16, 65, 100, 50, 77, 44, 199, 0, 13, 42, 6, 42, 180, 0, 61]
abbrev dktX2_named_0 : List UInt8 := dkwX2_named_0 ++ dktX2_named_1
theorem dksX2_named_0 : cX2_named.data.toList.drop 0 = dktX2_named_0 := by decide +kernel
theorem dksX2_named_1 : cX2_named.data.toList.drop 23 = dktX2_named_1 := dk_seg dksX2_named_0 23 rfl rfl
theorem dksX2_named_2 : cX2_named.data.toList.drop 47 = dktX2_named_2 := dk_seg dksX2_named_1 24 rfl rfl
theorem dX2_named_0 : decode cX2_named 0 = .ok (.aload_n 0, 1) := dk_42 (dk_at dksX2_named_0 0 rfl rfl)
theorem dX2_named_1 : decode cX2_named 1 = .ok (.getfield 17, 3) := dk_180 0 17 (dk_at dksX2_named_0 1 rfl rfl)
theorem dX2_named_4 : decode cX2_named 4 = .ok (.aload_n 0, 1) := dk_42 (dk_at dksX2_named_0 4 rfl rfl)
theorem dX2_named_5 : decode cX2_named 5 = .ok (.invokevirtual 82, 3) := dk_182 0 82 (dk_at dksX2_named_0 5 rfl rfl)
theorem dX2_named_8 : decode cX2_named 8 = .ok (.bipush 65, 2) := dk_16 65 (dk_at dksX2_named_0 8 rfl rfl)
theorem dX2_named_10 : decode cX2_named 10 = .ok (.isub, 1) := dk_100 (dk_at dksX2_named_0 10 rfl rfl)
theorem dX2_named_11 : decode cX2_named 11 = .ok (.aaload, 1) := dk_50 (dk_at dksX2_named_0 11 rfl rfl)
theorem dX2_named_12 : decode cX2_named 12 = .ok (.astore_n 2, 1) := dk_77 (dk_at dksX2_named_0 12 rfl rfl)
theorem dX2_named_13 : decode cX2_named 13 = .ok (.aload_n 2, 1) := dk_44 (dk_at dksX2_named_0 13 rfl rfl)
theorem dX2_named_14 : decode cX2_named 14 = .ok (.ifnonnull 13, 3) := dk_199 0 13 (dk_at dksX2_named_0 14 rfl rfl)
theorem dX2_named_17 : decode cX2_named 17 = .ok (.aload_n 0, 1) := dk_42 (dk_at dksX2_named_0 17 rfl rfl)
theorem dX2_named_18 : decode cX2_named 18 = .ok (.iconst 3, 1) := dk_6 (dk_at dksX2_named_0 18 rfl rfl)
theorem dX2_named_19 : decode cX2_named 19 = .ok (.aload_n 0, 1) := dk_42 (dk_at dksX2_named_0 19 rfl rfl)
theorem dX2_named_20 : decode cX2_named 20 = .ok (.getfield 61, 3) := dk_180 0 61 (dk_at dksX2_named_0 20 rfl rfl)
theorem dX2_named_23 : decode cX2_named 23 = .ok (.invokevirtual 136, 3) := dk_182 0 136 (dk_at dksX2_named_1 0 rfl rfl)
theorem dX2_named_26 : decode cX2_named 26 = .ok (.areturn, 1) := dk_176 (dk_at dksX2_named_1 3 rfl rfl)
theorem dX2_named_27 : decode cX2_named 27 = .ok (.iload_n 1, 1) := dk_27 (dk_at dksX2_named_1 4 rfl rfl)
theorem dX2_named_28 : decode cX2_named 28 = .ok (.aload_n 2, 1) := dk_44 (dk_at dksX2_named_1 5 rfl rfl)
theorem dX2_named_29 : decode cX2_named 29 = .ok (.invokevirtual 164, 3) := dk_182 0 164 (dk_at dksX2_named_1 6 rfl rfl)
theorem dX2_named_32 : decode cX2_named 32 = .ok (.iadd, 1) := dk_96 (dk_at dksX2_named_1 9 rfl rfl)
theorem dX2_named_33 : decode cX2_named 33 = .ok (.bipush 6, 2) := dk_16 6 (dk_at dksX2_named_1 10 rfl rfl)
theorem dX2_named_35 : decode cX2_named 35 = .ok (.if_icmp .lt 13, 3) := dk_161 0 13 (dk_at dksX2_named_1 12 rfl rfl)
theorem dX2_named_38 : decode cX2_named 38 = .ok (.aload_n 0, 1) := dk_42 (dk_at dksX2_named_1 15 rfl rfl)
theorem dX2_named_39 : decode cX2_named 39 = .ok (.iconst 5, 1) := dk_8 (dk_at dksX2_named_1 16 rfl rfl)
theorem dX2_named_40 : decode cX2_named 40 = .ok (.aload_n 0, 1) := dk_42 (dk_at dksX2_named_1 17 rfl rfl)
theorem dX2_named_41 : decode cX2_named 41 = .ok (.getfield 61, 3) := dk_180 0 61 (dk_at dksX2_named_1 18 rfl rfl)
theorem dX2_named_44 : decode cX2_named 44 = .ok (.invokevirtual 136, 3) := dk_182 0 136 (dk_at dksX2_named_1 21 rfl rfl)
theorem dX2_named_47 : decode cX2_named 47 = .ok (.areturn, 1) := dk_176 (dk_at dksX2_named_2 0 rfl rfl)
theorem dX2_named_48 : decode cX2_named 48 = .ok (.aload_n 0, 1) := dk_42 (dk_at dksX2_named_2 1 rfl rfl)
theorem dX2_named_49 : decode cX2_named 49 = .ok (.dup, 1) := dk_89 (dk_at dksX2_named_2 2 rfl rfl)
theorem dX2_named_50 : decode cX2_named 50 = .ok (.getfield 61, 3) := dk_180 0 61 (dk_at dksX2_named_2 3 rfl rfl)
theorem dX2_named_53 : decode cX2_named 53 = .ok (.iconst 1, 1) := dk_4 (dk_at dksX2_named_2 6 rfl rfl)
theorem dX2_named_54 : decode cX2_named 54 = .ok (.iadd, 1) := dk_96 (dk_at dksX2_named_2 7 rfl rfl)
theorem dX2_named_55 : decode cX2_named 55 = .ok (.putfield 61, 3) := dk_181 0 61 (dk_at dksX2_named_2 8 rfl rfl)
theorem dX2_named_58 : decode cX2_named 58 = .ok (.aload_n 2, 1) := dk_44 (dk_at dksX2_named_2 11 rfl rfl)
theorem dX2_named_59 : decode cX2_named 59 = .ok (.areturn, 1) := dk_176 (dk_at dksX2_named_2 12 rfl rfl)
abbrev cX2_noType : ByteArray := prog_3_method_5_code
def yX2_noType : MethodName := ⟨RX2, "noType", "(II)LNotationDesk$Type;"⟩
def dkwX2_noType_0 : List UInt8 := [42, 27, 28, 182, 0, 78, 87, 1, 176]
abbrev dktX2_noType_0 : List UInt8 := dkwX2_noType_0 ++ []
theorem dksX2_noType_0 : cX2_noType.data.toList.drop 0 = dktX2_noType_0 := by decide +kernel
theorem dX2_noType_0 : decode cX2_noType 0 = .ok (.aload_n 0, 1) := dk_42 (dk_at dksX2_noType_0 0 rfl rfl)
theorem dX2_noType_1 : decode cX2_noType 1 = .ok (.iload_n 1, 1) := dk_27 (dk_at dksX2_noType_0 1 rfl rfl)
theorem dX2_noType_2 : decode cX2_noType 2 = .ok (.iload_n 2, 1) := dk_28 (dk_at dksX2_noType_0 2 rfl rfl)
theorem dX2_noType_3 : decode cX2_noType 3 = .ok (.invokevirtual 78, 3) := dk_182 0 78 (dk_at dksX2_noType_0 3 rfl rfl)
theorem dX2_noType_6 : decode cX2_noType 6 = .ok (.pop, 1) := dk_87 (dk_at dksX2_noType_0 6 rfl rfl)
theorem dX2_noType_7 : decode cX2_noType 7 = .ok (.aconst_null, 1) := dk_1 (dk_at dksX2_noType_0 7 rfl rfl)
theorem dX2_noType_8 : decode cX2_noType 8 = .ok (.areturn, 1) := dk_176 (dk_at dksX2_noType_0 8 rfl rfl)
abbrev cX2_isLetter : ByteArray := prog_3_method_14_code
def yX2_isLetter : MethodName := ⟨RX2, "isLetter", "(I)Z"⟩
def dkwX2_isLetter_1 : List UInt8 := [26, 16, 113, 159, 0, 15, 26, 16, 108, 159, 0, 9, 26, 16, 99, 160, 0, 7, 4, 167, 0, 4, 3, 172]
abbrev dktX2_isLetter_1 : List UInt8 := dkwX2_isLetter_1 ++ []
def dkwX2_isLetter_0 : List UInt8 := [26, 16, 98, 159, 0, 39, 26, 16, 105, 159, 0, 33, 26, 16, 111, 159, 0, 27, 26, 16, 110, 159, 0, 21]
abbrev dktX2_isLetter_0 : List UInt8 := dkwX2_isLetter_0 ++ dktX2_isLetter_1
theorem dksX2_isLetter_0 : cX2_isLetter.data.toList.drop 0 = dktX2_isLetter_0 := by decide +kernel
theorem dksX2_isLetter_1 : cX2_isLetter.data.toList.drop 24 = dktX2_isLetter_1 := dk_seg dksX2_isLetter_0 24 rfl rfl
theorem dX2_isLetter_0 : decode cX2_isLetter 0 = .ok (.iload_n 0, 1) := dk_26 (dk_at dksX2_isLetter_0 0 rfl rfl)
theorem dX2_isLetter_1 : decode cX2_isLetter 1 = .ok (.bipush 98, 2) := dk_16 98 (dk_at dksX2_isLetter_0 1 rfl rfl)
theorem dX2_isLetter_3 : decode cX2_isLetter 3 = .ok (.if_icmp .eq 39, 3) := dk_159 0 39 (dk_at dksX2_isLetter_0 3 rfl rfl)
theorem dX2_isLetter_6 : decode cX2_isLetter 6 = .ok (.iload_n 0, 1) := dk_26 (dk_at dksX2_isLetter_0 6 rfl rfl)
theorem dX2_isLetter_7 : decode cX2_isLetter 7 = .ok (.bipush 105, 2) := dk_16 105 (dk_at dksX2_isLetter_0 7 rfl rfl)
theorem dX2_isLetter_9 : decode cX2_isLetter 9 = .ok (.if_icmp .eq 33, 3) := dk_159 0 33 (dk_at dksX2_isLetter_0 9 rfl rfl)
theorem dX2_isLetter_12 : decode cX2_isLetter 12 = .ok (.iload_n 0, 1) := dk_26 (dk_at dksX2_isLetter_0 12 rfl rfl)
theorem dX2_isLetter_13 : decode cX2_isLetter 13 = .ok (.bipush 111, 2) := dk_16 111 (dk_at dksX2_isLetter_0 13 rfl rfl)
theorem dX2_isLetter_15 : decode cX2_isLetter 15 = .ok (.if_icmp .eq 27, 3) := dk_159 0 27 (dk_at dksX2_isLetter_0 15 rfl rfl)
theorem dX2_isLetter_18 : decode cX2_isLetter 18 = .ok (.iload_n 0, 1) := dk_26 (dk_at dksX2_isLetter_0 18 rfl rfl)
theorem dX2_isLetter_19 : decode cX2_isLetter 19 = .ok (.bipush 110, 2) := dk_16 110 (dk_at dksX2_isLetter_0 19 rfl rfl)
theorem dX2_isLetter_21 : decode cX2_isLetter 21 = .ok (.if_icmp .eq 21, 3) := dk_159 0 21 (dk_at dksX2_isLetter_0 21 rfl rfl)
theorem dX2_isLetter_24 : decode cX2_isLetter 24 = .ok (.iload_n 0, 1) := dk_26 (dk_at dksX2_isLetter_1 0 rfl rfl)
theorem dX2_isLetter_25 : decode cX2_isLetter 25 = .ok (.bipush 113, 2) := dk_16 113 (dk_at dksX2_isLetter_1 1 rfl rfl)
theorem dX2_isLetter_27 : decode cX2_isLetter 27 = .ok (.if_icmp .eq 15, 3) := dk_159 0 15 (dk_at dksX2_isLetter_1 3 rfl rfl)
theorem dX2_isLetter_30 : decode cX2_isLetter 30 = .ok (.iload_n 0, 1) := dk_26 (dk_at dksX2_isLetter_1 6 rfl rfl)
theorem dX2_isLetter_31 : decode cX2_isLetter 31 = .ok (.bipush 108, 2) := dk_16 108 (dk_at dksX2_isLetter_1 7 rfl rfl)
theorem dX2_isLetter_33 : decode cX2_isLetter 33 = .ok (.if_icmp .eq 9, 3) := dk_159 0 9 (dk_at dksX2_isLetter_1 9 rfl rfl)
theorem dX2_isLetter_36 : decode cX2_isLetter 36 = .ok (.iload_n 0, 1) := dk_26 (dk_at dksX2_isLetter_1 12 rfl rfl)
theorem dX2_isLetter_37 : decode cX2_isLetter 37 = .ok (.bipush 99, 2) := dk_16 99 (dk_at dksX2_isLetter_1 13 rfl rfl)
theorem dX2_isLetter_39 : decode cX2_isLetter 39 = .ok (.if_icmp .ne 7, 3) := dk_160 0 7 (dk_at dksX2_isLetter_1 15 rfl rfl)
theorem dX2_isLetter_42 : decode cX2_isLetter 42 = .ok (.iconst 1, 1) := dk_4 (dk_at dksX2_isLetter_1 18 rfl rfl)
theorem dX2_isLetter_43 : decode cX2_isLetter 43 = .ok (.goto 4, 3) := dk_167 0 4 (dk_at dksX2_isLetter_1 19 rfl rfl)
theorem dX2_isLetter_46 : decode cX2_isLetter 46 = .ok (.iconst 0, 1) := dk_3 (dk_at dksX2_isLetter_1 22 rfl rfl)
theorem dX2_isLetter_47 : decode cX2_isLetter 47 = .ok (.ireturn, 1) := dk_172 (dk_at dksX2_isLetter_1 23 rfl rfl)
abbrev cX2_numeric : ByteArray := prog_3_method_16_code
def yX2_numeric : MethodName := ⟨RX2, "numeric", "(I)LNotationDesk$Numeric;"⟩
def dkwX2_numeric_1 : List UInt8 := [180, 0, 23, 27, 50, 176]
abbrev dktX2_numeric_1 : List UInt8 := dkwX2_numeric_1 ++ []
def dkwX2_numeric_0 : List UInt8 := [42, 180, 0, 23, 27, 50, 199, 0, 16, 42, 180, 0, 23, 27, 187, 0, 21, 89, 183, 0, 163, 83, 42]
abbrev dktX2_numeric_0 : List UInt8 := dkwX2_numeric_0 ++ dktX2_numeric_1
theorem dksX2_numeric_0 : cX2_numeric.data.toList.drop 0 = dktX2_numeric_0 := by decide +kernel
theorem dksX2_numeric_1 : cX2_numeric.data.toList.drop 23 = dktX2_numeric_1 := dk_seg dksX2_numeric_0 23 rfl rfl
theorem dX2_numeric_0 : decode cX2_numeric 0 = .ok (.aload_n 0, 1) := dk_42 (dk_at dksX2_numeric_0 0 rfl rfl)
theorem dX2_numeric_1 : decode cX2_numeric 1 = .ok (.getfield 23, 3) := dk_180 0 23 (dk_at dksX2_numeric_0 1 rfl rfl)
theorem dX2_numeric_4 : decode cX2_numeric 4 = .ok (.iload_n 1, 1) := dk_27 (dk_at dksX2_numeric_0 4 rfl rfl)
theorem dX2_numeric_5 : decode cX2_numeric 5 = .ok (.aaload, 1) := dk_50 (dk_at dksX2_numeric_0 5 rfl rfl)
theorem dX2_numeric_6 : decode cX2_numeric 6 = .ok (.ifnonnull 16, 3) := dk_199 0 16 (dk_at dksX2_numeric_0 6 rfl rfl)
theorem dX2_numeric_9 : decode cX2_numeric 9 = .ok (.aload_n 0, 1) := dk_42 (dk_at dksX2_numeric_0 9 rfl rfl)
theorem dX2_numeric_10 : decode cX2_numeric 10 = .ok (.getfield 23, 3) := dk_180 0 23 (dk_at dksX2_numeric_0 10 rfl rfl)
theorem dX2_numeric_13 : decode cX2_numeric 13 = .ok (.iload_n 1, 1) := dk_27 (dk_at dksX2_numeric_0 13 rfl rfl)
theorem dX2_numeric_14 : decode cX2_numeric 14 = .ok (.new 21, 3) := dk_187 0 21 (dk_at dksX2_numeric_0 14 rfl rfl)
theorem dX2_numeric_17 : decode cX2_numeric 17 = .ok (.dup, 1) := dk_89 (dk_at dksX2_numeric_0 17 rfl rfl)
theorem dX2_numeric_18 : decode cX2_numeric 18 = .ok (.invokespecial 163, 3) := dk_183 0 163 (dk_at dksX2_numeric_0 18 rfl rfl)
theorem dX2_numeric_21 : decode cX2_numeric 21 = .ok (.aastore, 1) := dk_83 (dk_at dksX2_numeric_0 21 rfl rfl)
theorem dX2_numeric_22 : decode cX2_numeric 22 = .ok (.aload_n 0, 1) := dk_42 (dk_at dksX2_numeric_0 22 rfl rfl)
theorem dX2_numeric_23 : decode cX2_numeric 23 = .ok (.getfield 23, 3) := dk_180 0 23 (dk_at dksX2_numeric_1 0 rfl rfl)
theorem dX2_numeric_26 : decode cX2_numeric 26 = .ok (.iload_n 1, 1) := dk_27 (dk_at dksX2_numeric_1 3 rfl rfl)
theorem dX2_numeric_27 : decode cX2_numeric 27 = .ok (.aaload, 1) := dk_50 (dk_at dksX2_numeric_1 4 rfl rfl)
theorem dX2_numeric_28 : decode cX2_numeric 28 = .ok (.areturn, 1) := dk_176 (dk_at dksX2_numeric_1 5 rfl rfl)
abbrev cX2_integer : ByteArray := prog_3_method_18_code
def yX2_integer : MethodName := ⟨RX2, "integer", "(I)LNotationDesk$Type;"⟩
def dkwX2_integer_3 : List UInt8 := [182, 0, 140, 5, 5, 4, 42, 180, 0, 101, 42, 180, 0, 107, 182, 0, 144, 176]
abbrev dktX2_integer_3 : List UInt8 := dkwX2_integer_3 ++ []
def dkwX2_integer_2 : List UInt8 := [180, 0, 101, 100, 18, 167, 164, 0, 15, 42, 7, 42, 180, 0, 61, 4, 100, 182, 0, 136, 176, 42, 27]
abbrev dktX2_integer_2 : List UInt8 := dkwX2_integer_2 ++ dktX2_integer_3
def dkwX2_integer_1 : List UInt8 := [182, 0, 116, 154, 0, 5, 1, 176, 42, 180, 0, 107, 42, 180, 0, 101, 161, 0, 17, 42, 180, 0, 107, 42]
abbrev dktX2_integer_1 : List UInt8 := dkwX2_integer_1 ++ dktX2_integer_2
def dkwX2_integer_0 : List UInt8 := [42, 182, 0, 82, 16, 40, 159, 0, 17, 42, 27, 182, 0, 140, 5, 5, 3, 3, 3, 182, 0, 144, 176, 42]
abbrev dktX2_integer_0 : List UInt8 := dkwX2_integer_0 ++ dktX2_integer_1
theorem dksX2_integer_0 : cX2_integer.data.toList.drop 0 = dktX2_integer_0 := by decide +kernel
theorem dksX2_integer_1 : cX2_integer.data.toList.drop 24 = dktX2_integer_1 := dk_seg dksX2_integer_0 24 rfl rfl
theorem dksX2_integer_2 : cX2_integer.data.toList.drop 48 = dktX2_integer_2 := dk_seg dksX2_integer_1 24 rfl rfl
theorem dksX2_integer_3 : cX2_integer.data.toList.drop 71 = dktX2_integer_3 := dk_seg dksX2_integer_2 23 rfl rfl
theorem dX2_integer_0 : decode cX2_integer 0 = .ok (.aload_n 0, 1) := dk_42 (dk_at dksX2_integer_0 0 rfl rfl)
theorem dX2_integer_1 : decode cX2_integer 1 = .ok (.invokevirtual 82, 3) := dk_182 0 82 (dk_at dksX2_integer_0 1 rfl rfl)
theorem dX2_integer_4 : decode cX2_integer 4 = .ok (.bipush 40, 2) := dk_16 40 (dk_at dksX2_integer_0 4 rfl rfl)
theorem dX2_integer_6 : decode cX2_integer 6 = .ok (.if_icmp .eq 17, 3) := dk_159 0 17 (dk_at dksX2_integer_0 6 rfl rfl)
theorem dX2_integer_9 : decode cX2_integer 9 = .ok (.aload_n 0, 1) := dk_42 (dk_at dksX2_integer_0 9 rfl rfl)
theorem dX2_integer_10 : decode cX2_integer 10 = .ok (.iload_n 1, 1) := dk_27 (dk_at dksX2_integer_0 10 rfl rfl)
theorem dX2_integer_11 : decode cX2_integer 11 = .ok (.invokevirtual 140, 3) := dk_182 0 140 (dk_at dksX2_integer_0 11 rfl rfl)
theorem dX2_integer_14 : decode cX2_integer 14 = .ok (.iconst 2, 1) := dk_5 (dk_at dksX2_integer_0 14 rfl rfl)
theorem dX2_integer_15 : decode cX2_integer 15 = .ok (.iconst 2, 1) := dk_5 (dk_at dksX2_integer_0 15 rfl rfl)
theorem dX2_integer_16 : decode cX2_integer 16 = .ok (.iconst 0, 1) := dk_3 (dk_at dksX2_integer_0 16 rfl rfl)
theorem dX2_integer_17 : decode cX2_integer 17 = .ok (.iconst 0, 1) := dk_3 (dk_at dksX2_integer_0 17 rfl rfl)
theorem dX2_integer_18 : decode cX2_integer 18 = .ok (.iconst 0, 1) := dk_3 (dk_at dksX2_integer_0 18 rfl rfl)
theorem dX2_integer_19 : decode cX2_integer 19 = .ok (.invokevirtual 144, 3) := dk_182 0 144 (dk_at dksX2_integer_0 19 rfl rfl)
theorem dX2_integer_22 : decode cX2_integer 22 = .ok (.areturn, 1) := dk_176 (dk_at dksX2_integer_0 22 rfl rfl)
theorem dX2_integer_23 : decode cX2_integer 23 = .ok (.aload_n 0, 1) := dk_42 (dk_at dksX2_integer_0 23 rfl rfl)
theorem dX2_integer_24 : decode cX2_integer 24 = .ok (.invokevirtual 116, 3) := dk_182 0 116 (dk_at dksX2_integer_1 0 rfl rfl)
theorem dX2_integer_27 : decode cX2_integer 27 = .ok (.ifCond .ne 5, 3) := dk_154 0 5 (dk_at dksX2_integer_1 3 rfl rfl)
theorem dX2_integer_30 : decode cX2_integer 30 = .ok (.aconst_null, 1) := dk_1 (dk_at dksX2_integer_1 6 rfl rfl)
theorem dX2_integer_31 : decode cX2_integer 31 = .ok (.areturn, 1) := dk_176 (dk_at dksX2_integer_1 7 rfl rfl)
theorem dX2_integer_32 : decode cX2_integer 32 = .ok (.aload_n 0, 1) := dk_42 (dk_at dksX2_integer_1 8 rfl rfl)
theorem dX2_integer_33 : decode cX2_integer 33 = .ok (.getfield 107, 3) := dk_180 0 107 (dk_at dksX2_integer_1 9 rfl rfl)
theorem dX2_integer_36 : decode cX2_integer 36 = .ok (.aload_n 0, 1) := dk_42 (dk_at dksX2_integer_1 12 rfl rfl)
theorem dX2_integer_37 : decode cX2_integer 37 = .ok (.getfield 101, 3) := dk_180 0 101 (dk_at dksX2_integer_1 13 rfl rfl)
theorem dX2_integer_40 : decode cX2_integer 40 = .ok (.if_icmp .lt 17, 3) := dk_161 0 17 (dk_at dksX2_integer_1 16 rfl rfl)
theorem dX2_integer_43 : decode cX2_integer 43 = .ok (.aload_n 0, 1) := dk_42 (dk_at dksX2_integer_1 19 rfl rfl)
theorem dX2_integer_44 : decode cX2_integer 44 = .ok (.getfield 107, 3) := dk_180 0 107 (dk_at dksX2_integer_1 20 rfl rfl)
theorem dX2_integer_47 : decode cX2_integer 47 = .ok (.aload_n 0, 1) := dk_42 (dk_at dksX2_integer_1 23 rfl rfl)
theorem dX2_integer_48 : decode cX2_integer 48 = .ok (.getfield 101, 3) := dk_180 0 101 (dk_at dksX2_integer_2 0 rfl rfl)
theorem dX2_integer_51 : decode cX2_integer 51 = .ok (.isub, 1) := dk_100 (dk_at dksX2_integer_2 3 rfl rfl)
theorem dX2_integer_52 : decode cX2_integer 52 = .ok (.ldc 167, 2) := dk_18 167 (dk_at dksX2_integer_2 4 rfl rfl)
theorem dX2_integer_54 : decode cX2_integer 54 = .ok (.if_icmp .le 15, 3) := dk_164 0 15 (dk_at dksX2_integer_2 6 rfl rfl)
theorem dX2_integer_57 : decode cX2_integer 57 = .ok (.aload_n 0, 1) := dk_42 (dk_at dksX2_integer_2 9 rfl rfl)
theorem dX2_integer_58 : decode cX2_integer 58 = .ok (.iconst 4, 1) := dk_7 (dk_at dksX2_integer_2 10 rfl rfl)
theorem dX2_integer_59 : decode cX2_integer 59 = .ok (.aload_n 0, 1) := dk_42 (dk_at dksX2_integer_2 11 rfl rfl)
theorem dX2_integer_60 : decode cX2_integer 60 = .ok (.getfield 61, 3) := dk_180 0 61 (dk_at dksX2_integer_2 12 rfl rfl)
theorem dX2_integer_63 : decode cX2_integer 63 = .ok (.iconst 1, 1) := dk_4 (dk_at dksX2_integer_2 15 rfl rfl)
theorem dX2_integer_64 : decode cX2_integer 64 = .ok (.isub, 1) := dk_100 (dk_at dksX2_integer_2 16 rfl rfl)
theorem dX2_integer_65 : decode cX2_integer 65 = .ok (.invokevirtual 136, 3) := dk_182 0 136 (dk_at dksX2_integer_2 17 rfl rfl)
theorem dX2_integer_68 : decode cX2_integer 68 = .ok (.areturn, 1) := dk_176 (dk_at dksX2_integer_2 20 rfl rfl)
theorem dX2_integer_69 : decode cX2_integer 69 = .ok (.aload_n 0, 1) := dk_42 (dk_at dksX2_integer_2 21 rfl rfl)
theorem dX2_integer_70 : decode cX2_integer 70 = .ok (.iload_n 1, 1) := dk_27 (dk_at dksX2_integer_2 22 rfl rfl)
theorem dX2_integer_71 : decode cX2_integer 71 = .ok (.invokevirtual 140, 3) := dk_182 0 140 (dk_at dksX2_integer_3 0 rfl rfl)
theorem dX2_integer_74 : decode cX2_integer 74 = .ok (.iconst 2, 1) := dk_5 (dk_at dksX2_integer_3 3 rfl rfl)
theorem dX2_integer_75 : decode cX2_integer 75 = .ok (.iconst 2, 1) := dk_5 (dk_at dksX2_integer_3 4 rfl rfl)
theorem dX2_integer_76 : decode cX2_integer 76 = .ok (.iconst 1, 1) := dk_4 (dk_at dksX2_integer_3 5 rfl rfl)
theorem dX2_integer_77 : decode cX2_integer 77 = .ok (.aload_n 0, 1) := dk_42 (dk_at dksX2_integer_3 6 rfl rfl)
theorem dX2_integer_78 : decode cX2_integer 78 = .ok (.getfield 101, 3) := dk_180 0 101 (dk_at dksX2_integer_3 7 rfl rfl)
theorem dX2_integer_81 : decode cX2_integer 81 = .ok (.aload_n 0, 1) := dk_42 (dk_at dksX2_integer_3 10 rfl rfl)
theorem dX2_integer_82 : decode cX2_integer 82 = .ok (.getfield 107, 3) := dk_180 0 107 (dk_at dksX2_integer_3 11 rfl rfl)
theorem dX2_integer_85 : decode cX2_integer 85 = .ok (.invokevirtual 144, 3) := dk_182 0 144 (dk_at dksX2_integer_3 14 rfl rfl)
theorem dX2_integer_88 : decode cX2_integer 88 = .ok (.areturn, 1) := dk_176 (dk_at dksX2_integer_3 17 rfl rfl)
abbrev cX2_bounds : ByteArray := prog_3_method_10_code
def yX2_bounds : MethodName := ⟨RX2, "bounds", "()Z"⟩
def dkwX2_bounds_2 : List UInt8 := [181, 0, 107, 42, 27, 181, 0, 101, 42, 16, 41, 182, 0, 90, 172]
abbrev dktX2_bounds_2 : List UInt8 := dkwX2_bounds_2 ++ []
def dkwX2_bounds_1 : List UInt8 := [154, 0, 5, 3, 172, 42, 180, 0, 101, 60, 42, 182, 0, 104, 154, 0, 5, 3, 172, 42, 42, 180, 0, 101]
abbrev dktX2_bounds_1 : List UInt8 := dkwX2_bounds_1 ++ dktX2_bounds_2
def dkwX2_bounds_0 : List UInt8 := [42, 89, 180, 0, 61, 4, 96, 181, 0, 61, 42, 182, 0, 104, 153, 0, 12, 42, 16, 44, 182, 0, 90]
abbrev dktX2_bounds_0 : List UInt8 := dkwX2_bounds_0 ++ dktX2_bounds_1
theorem dksX2_bounds_0 : cX2_bounds.data.toList.drop 0 = dktX2_bounds_0 := by decide +kernel
theorem dksX2_bounds_1 : cX2_bounds.data.toList.drop 23 = dktX2_bounds_1 := dk_seg dksX2_bounds_0 23 rfl rfl
theorem dksX2_bounds_2 : cX2_bounds.data.toList.drop 47 = dktX2_bounds_2 := dk_seg dksX2_bounds_1 24 rfl rfl
theorem dX2_bounds_0 : decode cX2_bounds 0 = .ok (.aload_n 0, 1) := dk_42 (dk_at dksX2_bounds_0 0 rfl rfl)
theorem dX2_bounds_1 : decode cX2_bounds 1 = .ok (.dup, 1) := dk_89 (dk_at dksX2_bounds_0 1 rfl rfl)
theorem dX2_bounds_2 : decode cX2_bounds 2 = .ok (.getfield 61, 3) := dk_180 0 61 (dk_at dksX2_bounds_0 2 rfl rfl)
theorem dX2_bounds_5 : decode cX2_bounds 5 = .ok (.iconst 1, 1) := dk_4 (dk_at dksX2_bounds_0 5 rfl rfl)
theorem dX2_bounds_6 : decode cX2_bounds 6 = .ok (.iadd, 1) := dk_96 (dk_at dksX2_bounds_0 6 rfl rfl)
theorem dX2_bounds_7 : decode cX2_bounds 7 = .ok (.putfield 61, 3) := dk_181 0 61 (dk_at dksX2_bounds_0 7 rfl rfl)
theorem dX2_bounds_10 : decode cX2_bounds 10 = .ok (.aload_n 0, 1) := dk_42 (dk_at dksX2_bounds_0 10 rfl rfl)
theorem dX2_bounds_11 : decode cX2_bounds 11 = .ok (.invokevirtual 104, 3) := dk_182 0 104 (dk_at dksX2_bounds_0 11 rfl rfl)
theorem dX2_bounds_14 : decode cX2_bounds 14 = .ok (.ifCond .eq 12, 3) := dk_153 0 12 (dk_at dksX2_bounds_0 14 rfl rfl)
theorem dX2_bounds_17 : decode cX2_bounds 17 = .ok (.aload_n 0, 1) := dk_42 (dk_at dksX2_bounds_0 17 rfl rfl)
theorem dX2_bounds_18 : decode cX2_bounds 18 = .ok (.bipush 44, 2) := dk_16 44 (dk_at dksX2_bounds_0 18 rfl rfl)
theorem dX2_bounds_20 : decode cX2_bounds 20 = .ok (.invokevirtual 90, 3) := dk_182 0 90 (dk_at dksX2_bounds_0 20 rfl rfl)
theorem dX2_bounds_23 : decode cX2_bounds 23 = .ok (.ifCond .ne 5, 3) := dk_154 0 5 (dk_at dksX2_bounds_1 0 rfl rfl)
theorem dX2_bounds_26 : decode cX2_bounds 26 = .ok (.iconst 0, 1) := dk_3 (dk_at dksX2_bounds_1 3 rfl rfl)
theorem dX2_bounds_27 : decode cX2_bounds 27 = .ok (.ireturn, 1) := dk_172 (dk_at dksX2_bounds_1 4 rfl rfl)
theorem dX2_bounds_28 : decode cX2_bounds 28 = .ok (.aload_n 0, 1) := dk_42 (dk_at dksX2_bounds_1 5 rfl rfl)
theorem dX2_bounds_29 : decode cX2_bounds 29 = .ok (.getfield 101, 3) := dk_180 0 101 (dk_at dksX2_bounds_1 6 rfl rfl)
theorem dX2_bounds_32 : decode cX2_bounds 32 = .ok (.istore_n 1, 1) := dk_60 (dk_at dksX2_bounds_1 9 rfl rfl)
theorem dX2_bounds_33 : decode cX2_bounds 33 = .ok (.aload_n 0, 1) := dk_42 (dk_at dksX2_bounds_1 10 rfl rfl)
theorem dX2_bounds_34 : decode cX2_bounds 34 = .ok (.invokevirtual 104, 3) := dk_182 0 104 (dk_at dksX2_bounds_1 11 rfl rfl)
theorem dX2_bounds_37 : decode cX2_bounds 37 = .ok (.ifCond .ne 5, 3) := dk_154 0 5 (dk_at dksX2_bounds_1 14 rfl rfl)
theorem dX2_bounds_40 : decode cX2_bounds 40 = .ok (.iconst 0, 1) := dk_3 (dk_at dksX2_bounds_1 17 rfl rfl)
theorem dX2_bounds_41 : decode cX2_bounds 41 = .ok (.ireturn, 1) := dk_172 (dk_at dksX2_bounds_1 18 rfl rfl)
theorem dX2_bounds_42 : decode cX2_bounds 42 = .ok (.aload_n 0, 1) := dk_42 (dk_at dksX2_bounds_1 19 rfl rfl)
theorem dX2_bounds_43 : decode cX2_bounds 43 = .ok (.aload_n 0, 1) := dk_42 (dk_at dksX2_bounds_1 20 rfl rfl)
theorem dX2_bounds_44 : decode cX2_bounds 44 = .ok (.getfield 101, 3) := dk_180 0 101 (dk_at dksX2_bounds_1 21 rfl rfl)
theorem dX2_bounds_47 : decode cX2_bounds 47 = .ok (.putfield 107, 3) := dk_181 0 107 (dk_at dksX2_bounds_2 0 rfl rfl)
theorem dX2_bounds_50 : decode cX2_bounds 50 = .ok (.aload_n 0, 1) := dk_42 (dk_at dksX2_bounds_2 3 rfl rfl)
theorem dX2_bounds_51 : decode cX2_bounds 51 = .ok (.iload_n 1, 1) := dk_27 (dk_at dksX2_bounds_2 4 rfl rfl)
theorem dX2_bounds_52 : decode cX2_bounds 52 = .ok (.putfield 101, 3) := dk_181 0 101 (dk_at dksX2_bounds_2 5 rfl rfl)
theorem dX2_bounds_55 : decode cX2_bounds 55 = .ok (.aload_n 0, 1) := dk_42 (dk_at dksX2_bounds_2 8 rfl rfl)
theorem dX2_bounds_56 : decode cX2_bounds 56 = .ok (.bipush 41, 2) := dk_16 41 (dk_at dksX2_bounds_2 9 rfl rfl)
theorem dX2_bounds_58 : decode cX2_bounds 58 = .ok (.invokevirtual 90, 3) := dk_182 0 90 (dk_at dksX2_bounds_2 11 rfl rfl)
theorem dX2_bounds_61 : decode cX2_bounds 61 = .ok (.ireturn, 1) := dk_172 (dk_at dksX2_bounds_2 14 rfl rfl)
abbrev cX2_number : ByteArray := prog_3_method_9_code
def yX2_number : MethodName := ⟨RX2, "number", "()Z"⟩
def dkwX2_number_5 : List UInt8 := [153, 0, 15, 42, 4, 42, 180, 0, 61, 182, 0, 78, 153, 0, 7, 4, 167, 0, 4, 3, 172]
abbrev dktX2_number_5 : List UInt8 := dkwX2_number_5 ++ []
def dkwX2_number_4 : List UInt8 := [167, 255, 215, 42, 27, 153, 0, 8, 28, 116, 167, 0, 4, 28, 181, 0, 101, 42, 182, 0, 82, 184, 0, 98]
abbrev dktX2_number_4 : List UInt8 := dkwX2_number_4 ++ dktX2_number_5
def dkwX2_number_3 : List UInt8 := [42, 182, 0, 82, 96, 16, 48, 100, 61, 42, 89, 180, 0, 61, 4, 96, 181, 0, 61, 132, 3, 1]
abbrev dktX2_number_3 : List UInt8 := dkwX2_number_3 ++ dktX2_number_4
def dkwX2_number_2 : List UInt8 := [172, 3, 61, 3, 62, 29, 8, 162, 0, 42, 42, 182, 0, 82, 184, 0, 98, 153, 0, 32, 16, 10, 28, 104]
abbrev dktX2_number_2 : List UInt8 := dkwX2_number_2 ++ dktX2_number_3
def dkwX2_number_1 : List UInt8 := [4, 96, 181, 0, 61, 42, 182, 0, 82, 184, 0, 98, 154, 0, 13, 42, 4, 42, 180, 0, 61, 182, 0, 78]
abbrev dktX2_number_1 : List UInt8 := dkwX2_number_1 ++ dktX2_number_2
def dkwX2_number_0 : List UInt8 := [42, 182, 0, 82, 16, 45, 160, 0, 7, 4, 167, 0, 4, 3, 60, 27, 153, 0, 13, 42, 89, 180, 0, 61]
abbrev dktX2_number_0 : List UInt8 := dkwX2_number_0 ++ dktX2_number_1
theorem dksX2_number_0 : cX2_number.data.toList.drop 0 = dktX2_number_0 := by decide +kernel
theorem dksX2_number_1 : cX2_number.data.toList.drop 24 = dktX2_number_1 := dk_seg dksX2_number_0 24 rfl rfl
theorem dksX2_number_2 : cX2_number.data.toList.drop 48 = dktX2_number_2 := dk_seg dksX2_number_1 24 rfl rfl
theorem dksX2_number_3 : cX2_number.data.toList.drop 72 = dktX2_number_3 := dk_seg dksX2_number_2 24 rfl rfl
theorem dksX2_number_4 : cX2_number.data.toList.drop 94 = dktX2_number_4 := dk_seg dksX2_number_3 22 rfl rfl
theorem dksX2_number_5 : cX2_number.data.toList.drop 118 = dktX2_number_5 := dk_seg dksX2_number_4 24 rfl rfl
theorem dX2_number_0 : decode cX2_number 0 = .ok (.aload_n 0, 1) := dk_42 (dk_at dksX2_number_0 0 rfl rfl)
theorem dX2_number_1 : decode cX2_number 1 = .ok (.invokevirtual 82, 3) := dk_182 0 82 (dk_at dksX2_number_0 1 rfl rfl)
theorem dX2_number_4 : decode cX2_number 4 = .ok (.bipush 45, 2) := dk_16 45 (dk_at dksX2_number_0 4 rfl rfl)
theorem dX2_number_6 : decode cX2_number 6 = .ok (.if_icmp .ne 7, 3) := dk_160 0 7 (dk_at dksX2_number_0 6 rfl rfl)
theorem dX2_number_9 : decode cX2_number 9 = .ok (.iconst 1, 1) := dk_4 (dk_at dksX2_number_0 9 rfl rfl)
theorem dX2_number_10 : decode cX2_number 10 = .ok (.goto 4, 3) := dk_167 0 4 (dk_at dksX2_number_0 10 rfl rfl)
theorem dX2_number_13 : decode cX2_number 13 = .ok (.iconst 0, 1) := dk_3 (dk_at dksX2_number_0 13 rfl rfl)
theorem dX2_number_14 : decode cX2_number 14 = .ok (.istore_n 1, 1) := dk_60 (dk_at dksX2_number_0 14 rfl rfl)
theorem dX2_number_15 : decode cX2_number 15 = .ok (.iload_n 1, 1) := dk_27 (dk_at dksX2_number_0 15 rfl rfl)
theorem dX2_number_16 : decode cX2_number 16 = .ok (.ifCond .eq 13, 3) := dk_153 0 13 (dk_at dksX2_number_0 16 rfl rfl)
theorem dX2_number_19 : decode cX2_number 19 = .ok (.aload_n 0, 1) := dk_42 (dk_at dksX2_number_0 19 rfl rfl)
theorem dX2_number_20 : decode cX2_number 20 = .ok (.dup, 1) := dk_89 (dk_at dksX2_number_0 20 rfl rfl)
theorem dX2_number_21 : decode cX2_number 21 = .ok (.getfield 61, 3) := dk_180 0 61 (dk_at dksX2_number_0 21 rfl rfl)
theorem dX2_number_24 : decode cX2_number 24 = .ok (.iconst 1, 1) := dk_4 (dk_at dksX2_number_1 0 rfl rfl)
theorem dX2_number_25 : decode cX2_number 25 = .ok (.iadd, 1) := dk_96 (dk_at dksX2_number_1 1 rfl rfl)
theorem dX2_number_26 : decode cX2_number 26 = .ok (.putfield 61, 3) := dk_181 0 61 (dk_at dksX2_number_1 2 rfl rfl)
theorem dX2_number_29 : decode cX2_number 29 = .ok (.aload_n 0, 1) := dk_42 (dk_at dksX2_number_1 5 rfl rfl)
theorem dX2_number_30 : decode cX2_number 30 = .ok (.invokevirtual 82, 3) := dk_182 0 82 (dk_at dksX2_number_1 6 rfl rfl)
theorem dX2_number_33 : decode cX2_number 33 = .ok (.invokestatic 98, 3) := dk_184 0 98 (dk_at dksX2_number_1 9 rfl rfl)
theorem dX2_number_36 : decode cX2_number 36 = .ok (.ifCond .ne 13, 3) := dk_154 0 13 (dk_at dksX2_number_1 12 rfl rfl)
theorem dX2_number_39 : decode cX2_number 39 = .ok (.aload_n 0, 1) := dk_42 (dk_at dksX2_number_1 15 rfl rfl)
theorem dX2_number_40 : decode cX2_number 40 = .ok (.iconst 1, 1) := dk_4 (dk_at dksX2_number_1 16 rfl rfl)
theorem dX2_number_41 : decode cX2_number 41 = .ok (.aload_n 0, 1) := dk_42 (dk_at dksX2_number_1 17 rfl rfl)
theorem dX2_number_42 : decode cX2_number 42 = .ok (.getfield 61, 3) := dk_180 0 61 (dk_at dksX2_number_1 18 rfl rfl)
theorem dX2_number_45 : decode cX2_number 45 = .ok (.invokevirtual 78, 3) := dk_182 0 78 (dk_at dksX2_number_1 21 rfl rfl)
theorem dX2_number_48 : decode cX2_number 48 = .ok (.ireturn, 1) := dk_172 (dk_at dksX2_number_2 0 rfl rfl)
theorem dX2_number_49 : decode cX2_number 49 = .ok (.iconst 0, 1) := dk_3 (dk_at dksX2_number_2 1 rfl rfl)
theorem dX2_number_50 : decode cX2_number 50 = .ok (.istore_n 2, 1) := dk_61 (dk_at dksX2_number_2 2 rfl rfl)
theorem dX2_number_51 : decode cX2_number 51 = .ok (.iconst 0, 1) := dk_3 (dk_at dksX2_number_2 3 rfl rfl)
theorem dX2_number_52 : decode cX2_number 52 = .ok (.istore_n 3, 1) := dk_62 (dk_at dksX2_number_2 4 rfl rfl)
theorem dX2_number_53 : decode cX2_number 53 = .ok (.iload_n 3, 1) := dk_29 (dk_at dksX2_number_2 5 rfl rfl)
theorem dX2_number_54 : decode cX2_number 54 = .ok (.iconst 5, 1) := dk_8 (dk_at dksX2_number_2 6 rfl rfl)
theorem dX2_number_55 : decode cX2_number 55 = .ok (.if_icmp .ge 42, 3) := dk_162 0 42 (dk_at dksX2_number_2 7 rfl rfl)
theorem dX2_number_58 : decode cX2_number 58 = .ok (.aload_n 0, 1) := dk_42 (dk_at dksX2_number_2 10 rfl rfl)
theorem dX2_number_59 : decode cX2_number 59 = .ok (.invokevirtual 82, 3) := dk_182 0 82 (dk_at dksX2_number_2 11 rfl rfl)
theorem dX2_number_62 : decode cX2_number 62 = .ok (.invokestatic 98, 3) := dk_184 0 98 (dk_at dksX2_number_2 14 rfl rfl)
theorem dX2_number_65 : decode cX2_number 65 = .ok (.ifCond .eq 32, 3) := dk_153 0 32 (dk_at dksX2_number_2 17 rfl rfl)
theorem dX2_number_68 : decode cX2_number 68 = .ok (.bipush 10, 2) := dk_16 10 (dk_at dksX2_number_2 20 rfl rfl)
theorem dX2_number_70 : decode cX2_number 70 = .ok (.iload_n 2, 1) := dk_28 (dk_at dksX2_number_2 22 rfl rfl)
theorem dX2_number_71 : decode cX2_number 71 = .ok (.imul, 1) := dk_104 (dk_at dksX2_number_2 23 rfl rfl)
theorem dX2_number_72 : decode cX2_number 72 = .ok (.aload_n 0, 1) := dk_42 (dk_at dksX2_number_3 0 rfl rfl)
theorem dX2_number_73 : decode cX2_number 73 = .ok (.invokevirtual 82, 3) := dk_182 0 82 (dk_at dksX2_number_3 1 rfl rfl)
theorem dX2_number_76 : decode cX2_number 76 = .ok (.iadd, 1) := dk_96 (dk_at dksX2_number_3 4 rfl rfl)
theorem dX2_number_77 : decode cX2_number 77 = .ok (.bipush 48, 2) := dk_16 48 (dk_at dksX2_number_3 5 rfl rfl)
theorem dX2_number_79 : decode cX2_number 79 = .ok (.isub, 1) := dk_100 (dk_at dksX2_number_3 7 rfl rfl)
theorem dX2_number_80 : decode cX2_number 80 = .ok (.istore_n 2, 1) := dk_61 (dk_at dksX2_number_3 8 rfl rfl)
theorem dX2_number_81 : decode cX2_number 81 = .ok (.aload_n 0, 1) := dk_42 (dk_at dksX2_number_3 9 rfl rfl)
theorem dX2_number_82 : decode cX2_number 82 = .ok (.dup, 1) := dk_89 (dk_at dksX2_number_3 10 rfl rfl)
theorem dX2_number_83 : decode cX2_number 83 = .ok (.getfield 61, 3) := dk_180 0 61 (dk_at dksX2_number_3 11 rfl rfl)
theorem dX2_number_86 : decode cX2_number 86 = .ok (.iconst 1, 1) := dk_4 (dk_at dksX2_number_3 14 rfl rfl)
theorem dX2_number_87 : decode cX2_number 87 = .ok (.iadd, 1) := dk_96 (dk_at dksX2_number_3 15 rfl rfl)
theorem dX2_number_88 : decode cX2_number 88 = .ok (.putfield 61, 3) := dk_181 0 61 (dk_at dksX2_number_3 16 rfl rfl)
theorem dX2_number_91 : decode cX2_number 91 = .ok (.iinc 3 1, 3) := dk_132 3 1 (dk_at dksX2_number_3 19 rfl rfl)
theorem dX2_number_94 : decode cX2_number 94 = .ok (.goto (-41), 3) := dk_167 255 215 (dk_at dksX2_number_4 0 rfl rfl)
theorem dX2_number_97 : decode cX2_number 97 = .ok (.aload_n 0, 1) := dk_42 (dk_at dksX2_number_4 3 rfl rfl)
theorem dX2_number_98 : decode cX2_number 98 = .ok (.iload_n 1, 1) := dk_27 (dk_at dksX2_number_4 4 rfl rfl)
theorem dX2_number_99 : decode cX2_number 99 = .ok (.ifCond .eq 8, 3) := dk_153 0 8 (dk_at dksX2_number_4 5 rfl rfl)
theorem dX2_number_102 : decode cX2_number 102 = .ok (.iload_n 2, 1) := dk_28 (dk_at dksX2_number_4 8 rfl rfl)
theorem dX2_number_103 : decode cX2_number 103 = .ok (.ineg, 1) := dk_116 (dk_at dksX2_number_4 9 rfl rfl)
theorem dX2_number_104 : decode cX2_number 104 = .ok (.goto 4, 3) := dk_167 0 4 (dk_at dksX2_number_4 10 rfl rfl)
theorem dX2_number_107 : decode cX2_number 107 = .ok (.iload_n 2, 1) := dk_28 (dk_at dksX2_number_4 13 rfl rfl)
theorem dX2_number_108 : decode cX2_number 108 = .ok (.putfield 101, 3) := dk_181 0 101 (dk_at dksX2_number_4 14 rfl rfl)
theorem dX2_number_111 : decode cX2_number 111 = .ok (.aload_n 0, 1) := dk_42 (dk_at dksX2_number_4 17 rfl rfl)
theorem dX2_number_112 : decode cX2_number 112 = .ok (.invokevirtual 82, 3) := dk_182 0 82 (dk_at dksX2_number_4 18 rfl rfl)
theorem dX2_number_115 : decode cX2_number 115 = .ok (.invokestatic 98, 3) := dk_184 0 98 (dk_at dksX2_number_4 21 rfl rfl)
theorem dX2_number_118 : decode cX2_number 118 = .ok (.ifCond .eq 15, 3) := dk_153 0 15 (dk_at dksX2_number_5 0 rfl rfl)
theorem dX2_number_121 : decode cX2_number 121 = .ok (.aload_n 0, 1) := dk_42 (dk_at dksX2_number_5 3 rfl rfl)
theorem dX2_number_122 : decode cX2_number 122 = .ok (.iconst 1, 1) := dk_4 (dk_at dksX2_number_5 4 rfl rfl)
theorem dX2_number_123 : decode cX2_number 123 = .ok (.aload_n 0, 1) := dk_42 (dk_at dksX2_number_5 5 rfl rfl)
theorem dX2_number_124 : decode cX2_number 124 = .ok (.getfield 61, 3) := dk_180 0 61 (dk_at dksX2_number_5 6 rfl rfl)
theorem dX2_number_127 : decode cX2_number 127 = .ok (.invokevirtual 78, 3) := dk_182 0 78 (dk_at dksX2_number_5 9 rfl rfl)
theorem dX2_number_130 : decode cX2_number 130 = .ok (.ifCond .eq 7, 3) := dk_153 0 7 (dk_at dksX2_number_5 12 rfl rfl)
theorem dX2_number_133 : decode cX2_number 133 = .ok (.iconst 1, 1) := dk_4 (dk_at dksX2_number_5 15 rfl rfl)
theorem dX2_number_134 : decode cX2_number 134 = .ok (.goto 4, 3) := dk_167 0 4 (dk_at dksX2_number_5 16 rfl rfl)
theorem dX2_number_137 : decode cX2_number 137 = .ok (.iconst 0, 1) := dk_3 (dk_at dksX2_number_5 19 rfl rfl)
theorem dX2_number_138 : decode cX2_number 138 = .ok (.ireturn, 1) := dk_172 (dk_at dksX2_number_5 20 rfl rfl)
abbrev cX2_sequenceOf : ByteArray := prog_3_method_22_code
def yX2_sequenceOf : MethodName := ⟨RX2, "sequenceOf", "(LNotationDesk$Compiler;II)LNotationDesk$Type;"⟩
def dkwX2_sequenceOf_6 : List UInt8 := [182, 0, 198, 153, 0, 7, 45, 167, 0, 15, 42, 16, 6, 42, 180, 0, 61, 4, 100, 182, 0, 136, 176]
abbrev dktX2_sequenceOf_6 : List UInt8 := dkwX2_sequenceOf_6 ++ []
def dkwX2_sequenceOf_5 : List UInt8 := [167, 255, 202, 42, 180, 0, 65, 157, 0, 12, 42, 16, 125, 182, 0, 90, 154, 0, 5, 1, 176, 45]
abbrev dktX2_sequenceOf_5 : List UInt8 := dkwX2_sequenceOf_5 ++ dktX2_sequenceOf_6
def dkwX2_sequenceOf_4 : List UInt8 := [180, 0, 188, 182, 0, 195, 54, 4, 21, 4, 153, 0, 13, 42, 89, 180, 0, 61, 4, 96, 181, 0, 61]
abbrev dktX2_sequenceOf_4 : List UInt8 := dkwX2_sequenceOf_4 ++ dktX2_sequenceOf_5
def dkwX2_sequenceOf_3 : List UInt8 := [184, 0, 94, 58, 5, 25, 5, 198, 0, 13, 42, 45, 25, 5, 182, 0, 191, 154, 0, 5, 1, 176, 42, 45]
abbrev dktX2_sequenceOf_3 : List UInt8 := dkwX2_sequenceOf_3 ++ dktX2_sequenceOf_4
def dkwX2_sequenceOf_2 : List UInt8 := [182, 0, 82, 16, 125, 159, 0, 7, 4, 167, 0, 4, 3, 54, 4, 21, 4, 153, 0, 55, 42, 28]
abbrev dktX2_sequenceOf_2 : List UInt8 := dkwX2_sequenceOf_2 ++ dktX2_sequenceOf_3
def dkwX2_sequenceOf_1 : List UInt8 := [180, 0, 35, 27, 50, 78, 45, 3, 181, 0, 188, 42, 16, 123, 182, 0, 90, 154, 0, 5, 1, 176, 42]
abbrev dktX2_sequenceOf_1 : List UInt8 := dkwX2_sequenceOf_1 ++ dktX2_sequenceOf_2
def dkwX2_sequenceOf_0 : List UInt8 := [42, 180, 0, 35, 27, 50, 199, 0, 16, 42, 180, 0, 35, 27, 187, 0, 33, 89, 183, 0, 187, 83, 42]
abbrev dktX2_sequenceOf_0 : List UInt8 := dkwX2_sequenceOf_0 ++ dktX2_sequenceOf_1
theorem dksX2_sequenceOf_0 : cX2_sequenceOf.data.toList.drop 0 = dktX2_sequenceOf_0 := by decide +kernel
theorem dksX2_sequenceOf_1 : cX2_sequenceOf.data.toList.drop 23 = dktX2_sequenceOf_1 := dk_seg dksX2_sequenceOf_0 23 rfl rfl
theorem dksX2_sequenceOf_2 : cX2_sequenceOf.data.toList.drop 46 = dktX2_sequenceOf_2 := dk_seg dksX2_sequenceOf_1 23 rfl rfl
theorem dksX2_sequenceOf_3 : cX2_sequenceOf.data.toList.drop 68 = dktX2_sequenceOf_3 := dk_seg dksX2_sequenceOf_2 22 rfl rfl
theorem dksX2_sequenceOf_4 : cX2_sequenceOf.data.toList.drop 92 = dktX2_sequenceOf_4 := dk_seg dksX2_sequenceOf_3 24 rfl rfl
theorem dksX2_sequenceOf_5 : cX2_sequenceOf.data.toList.drop 115 = dktX2_sequenceOf_5 := dk_seg dksX2_sequenceOf_4 23 rfl rfl
theorem dksX2_sequenceOf_6 : cX2_sequenceOf.data.toList.drop 137 = dktX2_sequenceOf_6 := dk_seg dksX2_sequenceOf_5 22 rfl rfl
theorem dX2_sequenceOf_0 : decode cX2_sequenceOf 0 = .ok (.aload_n 0, 1) := dk_42 (dk_at dksX2_sequenceOf_0 0 rfl rfl)
theorem dX2_sequenceOf_1 : decode cX2_sequenceOf 1 = .ok (.getfield 35, 3) := dk_180 0 35 (dk_at dksX2_sequenceOf_0 1 rfl rfl)
theorem dX2_sequenceOf_4 : decode cX2_sequenceOf 4 = .ok (.iload_n 1, 1) := dk_27 (dk_at dksX2_sequenceOf_0 4 rfl rfl)
theorem dX2_sequenceOf_5 : decode cX2_sequenceOf 5 = .ok (.aaload, 1) := dk_50 (dk_at dksX2_sequenceOf_0 5 rfl rfl)
theorem dX2_sequenceOf_6 : decode cX2_sequenceOf 6 = .ok (.ifnonnull 16, 3) := dk_199 0 16 (dk_at dksX2_sequenceOf_0 6 rfl rfl)
theorem dX2_sequenceOf_9 : decode cX2_sequenceOf 9 = .ok (.aload_n 0, 1) := dk_42 (dk_at dksX2_sequenceOf_0 9 rfl rfl)
theorem dX2_sequenceOf_10 : decode cX2_sequenceOf 10 = .ok (.getfield 35, 3) := dk_180 0 35 (dk_at dksX2_sequenceOf_0 10 rfl rfl)
theorem dX2_sequenceOf_13 : decode cX2_sequenceOf 13 = .ok (.iload_n 1, 1) := dk_27 (dk_at dksX2_sequenceOf_0 13 rfl rfl)
theorem dX2_sequenceOf_14 : decode cX2_sequenceOf 14 = .ok (.new 33, 3) := dk_187 0 33 (dk_at dksX2_sequenceOf_0 14 rfl rfl)
theorem dX2_sequenceOf_17 : decode cX2_sequenceOf 17 = .ok (.dup, 1) := dk_89 (dk_at dksX2_sequenceOf_0 17 rfl rfl)
theorem dX2_sequenceOf_18 : decode cX2_sequenceOf 18 = .ok (.invokespecial 187, 3) := dk_183 0 187 (dk_at dksX2_sequenceOf_0 18 rfl rfl)
theorem dX2_sequenceOf_21 : decode cX2_sequenceOf 21 = .ok (.aastore, 1) := dk_83 (dk_at dksX2_sequenceOf_0 21 rfl rfl)
theorem dX2_sequenceOf_22 : decode cX2_sequenceOf 22 = .ok (.aload_n 0, 1) := dk_42 (dk_at dksX2_sequenceOf_0 22 rfl rfl)
theorem dX2_sequenceOf_23 : decode cX2_sequenceOf 23 = .ok (.getfield 35, 3) := dk_180 0 35 (dk_at dksX2_sequenceOf_1 0 rfl rfl)
theorem dX2_sequenceOf_26 : decode cX2_sequenceOf 26 = .ok (.iload_n 1, 1) := dk_27 (dk_at dksX2_sequenceOf_1 3 rfl rfl)
theorem dX2_sequenceOf_27 : decode cX2_sequenceOf 27 = .ok (.aaload, 1) := dk_50 (dk_at dksX2_sequenceOf_1 4 rfl rfl)
theorem dX2_sequenceOf_28 : decode cX2_sequenceOf 28 = .ok (.astore_n 3, 1) := dk_78 (dk_at dksX2_sequenceOf_1 5 rfl rfl)
theorem dX2_sequenceOf_29 : decode cX2_sequenceOf 29 = .ok (.aload_n 3, 1) := dk_45 (dk_at dksX2_sequenceOf_1 6 rfl rfl)
theorem dX2_sequenceOf_30 : decode cX2_sequenceOf 30 = .ok (.iconst 0, 1) := dk_3 (dk_at dksX2_sequenceOf_1 7 rfl rfl)
theorem dX2_sequenceOf_31 : decode cX2_sequenceOf 31 = .ok (.putfield 188, 3) := dk_181 0 188 (dk_at dksX2_sequenceOf_1 8 rfl rfl)
theorem dX2_sequenceOf_34 : decode cX2_sequenceOf 34 = .ok (.aload_n 0, 1) := dk_42 (dk_at dksX2_sequenceOf_1 11 rfl rfl)
theorem dX2_sequenceOf_35 : decode cX2_sequenceOf 35 = .ok (.bipush 123, 2) := dk_16 123 (dk_at dksX2_sequenceOf_1 12 rfl rfl)
theorem dX2_sequenceOf_37 : decode cX2_sequenceOf 37 = .ok (.invokevirtual 90, 3) := dk_182 0 90 (dk_at dksX2_sequenceOf_1 14 rfl rfl)
theorem dX2_sequenceOf_40 : decode cX2_sequenceOf 40 = .ok (.ifCond .ne 5, 3) := dk_154 0 5 (dk_at dksX2_sequenceOf_1 17 rfl rfl)
theorem dX2_sequenceOf_43 : decode cX2_sequenceOf 43 = .ok (.aconst_null, 1) := dk_1 (dk_at dksX2_sequenceOf_1 20 rfl rfl)
theorem dX2_sequenceOf_44 : decode cX2_sequenceOf 44 = .ok (.areturn, 1) := dk_176 (dk_at dksX2_sequenceOf_1 21 rfl rfl)
theorem dX2_sequenceOf_45 : decode cX2_sequenceOf 45 = .ok (.aload_n 0, 1) := dk_42 (dk_at dksX2_sequenceOf_1 22 rfl rfl)
theorem dX2_sequenceOf_46 : decode cX2_sequenceOf 46 = .ok (.invokevirtual 82, 3) := dk_182 0 82 (dk_at dksX2_sequenceOf_2 0 rfl rfl)
theorem dX2_sequenceOf_49 : decode cX2_sequenceOf 49 = .ok (.bipush 125, 2) := dk_16 125 (dk_at dksX2_sequenceOf_2 3 rfl rfl)
theorem dX2_sequenceOf_51 : decode cX2_sequenceOf 51 = .ok (.if_icmp .eq 7, 3) := dk_159 0 7 (dk_at dksX2_sequenceOf_2 5 rfl rfl)
theorem dX2_sequenceOf_54 : decode cX2_sequenceOf 54 = .ok (.iconst 1, 1) := dk_4 (dk_at dksX2_sequenceOf_2 8 rfl rfl)
theorem dX2_sequenceOf_55 : decode cX2_sequenceOf 55 = .ok (.goto 4, 3) := dk_167 0 4 (dk_at dksX2_sequenceOf_2 9 rfl rfl)
theorem dX2_sequenceOf_58 : decode cX2_sequenceOf 58 = .ok (.iconst 0, 1) := dk_3 (dk_at dksX2_sequenceOf_2 12 rfl rfl)
theorem dX2_sequenceOf_59 : decode cX2_sequenceOf 59 = .ok (.istore 4, 2) := dk_54 4 (dk_at dksX2_sequenceOf_2 13 rfl rfl)
theorem dX2_sequenceOf_61 : decode cX2_sequenceOf 61 = .ok (.iload 4, 2) := dk_21 4 (dk_at dksX2_sequenceOf_2 15 rfl rfl)
theorem dX2_sequenceOf_63 : decode cX2_sequenceOf 63 = .ok (.ifCond .eq 55, 3) := dk_153 0 55 (dk_at dksX2_sequenceOf_2 17 rfl rfl)
theorem dX2_sequenceOf_66 : decode cX2_sequenceOf 66 = .ok (.aload_n 0, 1) := dk_42 (dk_at dksX2_sequenceOf_2 20 rfl rfl)
theorem dX2_sequenceOf_67 : decode cX2_sequenceOf 67 = .ok (.iload_n 2, 1) := dk_28 (dk_at dksX2_sequenceOf_2 21 rfl rfl)
theorem dX2_sequenceOf_68 : decode cX2_sequenceOf 68 = .ok (.invokestatic 94, 3) := dk_184 0 94 (dk_at dksX2_sequenceOf_3 0 rfl rfl)
theorem dX2_sequenceOf_71 : decode cX2_sequenceOf 71 = .ok (.astore 5, 2) := dk_58 5 (dk_at dksX2_sequenceOf_3 3 rfl rfl)
theorem dX2_sequenceOf_73 : decode cX2_sequenceOf 73 = .ok (.aload 5, 2) := dk_25 5 (dk_at dksX2_sequenceOf_3 5 rfl rfl)
theorem dX2_sequenceOf_75 : decode cX2_sequenceOf 75 = .ok (.ifnull 13, 3) := dk_198 0 13 (dk_at dksX2_sequenceOf_3 7 rfl rfl)
theorem dX2_sequenceOf_78 : decode cX2_sequenceOf 78 = .ok (.aload_n 0, 1) := dk_42 (dk_at dksX2_sequenceOf_3 10 rfl rfl)
theorem dX2_sequenceOf_79 : decode cX2_sequenceOf 79 = .ok (.aload_n 3, 1) := dk_45 (dk_at dksX2_sequenceOf_3 11 rfl rfl)
theorem dX2_sequenceOf_80 : decode cX2_sequenceOf 80 = .ok (.aload 5, 2) := dk_25 5 (dk_at dksX2_sequenceOf_3 12 rfl rfl)
theorem dX2_sequenceOf_82 : decode cX2_sequenceOf 82 = .ok (.invokevirtual 191, 3) := dk_182 0 191 (dk_at dksX2_sequenceOf_3 14 rfl rfl)
theorem dX2_sequenceOf_85 : decode cX2_sequenceOf 85 = .ok (.ifCond .ne 5, 3) := dk_154 0 5 (dk_at dksX2_sequenceOf_3 17 rfl rfl)
theorem dX2_sequenceOf_88 : decode cX2_sequenceOf 88 = .ok (.aconst_null, 1) := dk_1 (dk_at dksX2_sequenceOf_3 20 rfl rfl)
theorem dX2_sequenceOf_89 : decode cX2_sequenceOf 89 = .ok (.areturn, 1) := dk_176 (dk_at dksX2_sequenceOf_3 21 rfl rfl)
theorem dX2_sequenceOf_90 : decode cX2_sequenceOf 90 = .ok (.aload_n 0, 1) := dk_42 (dk_at dksX2_sequenceOf_3 22 rfl rfl)
theorem dX2_sequenceOf_91 : decode cX2_sequenceOf 91 = .ok (.aload_n 3, 1) := dk_45 (dk_at dksX2_sequenceOf_3 23 rfl rfl)
theorem dX2_sequenceOf_92 : decode cX2_sequenceOf 92 = .ok (.getfield 188, 3) := dk_180 0 188 (dk_at dksX2_sequenceOf_4 0 rfl rfl)
theorem dX2_sequenceOf_95 : decode cX2_sequenceOf 95 = .ok (.invokevirtual 195, 3) := dk_182 0 195 (dk_at dksX2_sequenceOf_4 3 rfl rfl)
theorem dX2_sequenceOf_98 : decode cX2_sequenceOf 98 = .ok (.istore 4, 2) := dk_54 4 (dk_at dksX2_sequenceOf_4 6 rfl rfl)
theorem dX2_sequenceOf_100 : decode cX2_sequenceOf 100 = .ok (.iload 4, 2) := dk_21 4 (dk_at dksX2_sequenceOf_4 8 rfl rfl)
theorem dX2_sequenceOf_102 : decode cX2_sequenceOf 102 = .ok (.ifCond .eq 13, 3) := dk_153 0 13 (dk_at dksX2_sequenceOf_4 10 rfl rfl)
theorem dX2_sequenceOf_105 : decode cX2_sequenceOf 105 = .ok (.aload_n 0, 1) := dk_42 (dk_at dksX2_sequenceOf_4 13 rfl rfl)
theorem dX2_sequenceOf_106 : decode cX2_sequenceOf 106 = .ok (.dup, 1) := dk_89 (dk_at dksX2_sequenceOf_4 14 rfl rfl)
theorem dX2_sequenceOf_107 : decode cX2_sequenceOf 107 = .ok (.getfield 61, 3) := dk_180 0 61 (dk_at dksX2_sequenceOf_4 15 rfl rfl)
theorem dX2_sequenceOf_110 : decode cX2_sequenceOf 110 = .ok (.iconst 1, 1) := dk_4 (dk_at dksX2_sequenceOf_4 18 rfl rfl)
theorem dX2_sequenceOf_111 : decode cX2_sequenceOf 111 = .ok (.iadd, 1) := dk_96 (dk_at dksX2_sequenceOf_4 19 rfl rfl)
theorem dX2_sequenceOf_112 : decode cX2_sequenceOf 112 = .ok (.putfield 61, 3) := dk_181 0 61 (dk_at dksX2_sequenceOf_4 20 rfl rfl)
theorem dX2_sequenceOf_115 : decode cX2_sequenceOf 115 = .ok (.goto (-54), 3) := dk_167 255 202 (dk_at dksX2_sequenceOf_5 0 rfl rfl)
theorem dX2_sequenceOf_118 : decode cX2_sequenceOf 118 = .ok (.aload_n 0, 1) := dk_42 (dk_at dksX2_sequenceOf_5 3 rfl rfl)
theorem dX2_sequenceOf_119 : decode cX2_sequenceOf 119 = .ok (.getfield 65, 3) := dk_180 0 65 (dk_at dksX2_sequenceOf_5 4 rfl rfl)
theorem dX2_sequenceOf_122 : decode cX2_sequenceOf 122 = .ok (.ifCond .gt 12, 3) := dk_157 0 12 (dk_at dksX2_sequenceOf_5 7 rfl rfl)
theorem dX2_sequenceOf_125 : decode cX2_sequenceOf 125 = .ok (.aload_n 0, 1) := dk_42 (dk_at dksX2_sequenceOf_5 10 rfl rfl)
theorem dX2_sequenceOf_126 : decode cX2_sequenceOf 126 = .ok (.bipush 125, 2) := dk_16 125 (dk_at dksX2_sequenceOf_5 11 rfl rfl)
theorem dX2_sequenceOf_128 : decode cX2_sequenceOf 128 = .ok (.invokevirtual 90, 3) := dk_182 0 90 (dk_at dksX2_sequenceOf_5 13 rfl rfl)
theorem dX2_sequenceOf_131 : decode cX2_sequenceOf 131 = .ok (.ifCond .ne 5, 3) := dk_154 0 5 (dk_at dksX2_sequenceOf_5 16 rfl rfl)
theorem dX2_sequenceOf_134 : decode cX2_sequenceOf 134 = .ok (.aconst_null, 1) := dk_1 (dk_at dksX2_sequenceOf_5 19 rfl rfl)
theorem dX2_sequenceOf_135 : decode cX2_sequenceOf 135 = .ok (.areturn, 1) := dk_176 (dk_at dksX2_sequenceOf_5 20 rfl rfl)
theorem dX2_sequenceOf_136 : decode cX2_sequenceOf 136 = .ok (.aload_n 3, 1) := dk_45 (dk_at dksX2_sequenceOf_5 21 rfl rfl)
theorem dX2_sequenceOf_137 : decode cX2_sequenceOf 137 = .ok (.invokevirtual 198, 3) := dk_182 0 198 (dk_at dksX2_sequenceOf_6 0 rfl rfl)
theorem dX2_sequenceOf_140 : decode cX2_sequenceOf 140 = .ok (.ifCond .eq 7, 3) := dk_153 0 7 (dk_at dksX2_sequenceOf_6 3 rfl rfl)
theorem dX2_sequenceOf_143 : decode cX2_sequenceOf 143 = .ok (.aload_n 3, 1) := dk_45 (dk_at dksX2_sequenceOf_6 6 rfl rfl)
theorem dX2_sequenceOf_144 : decode cX2_sequenceOf 144 = .ok (.goto 15, 3) := dk_167 0 15 (dk_at dksX2_sequenceOf_6 7 rfl rfl)
theorem dX2_sequenceOf_147 : decode cX2_sequenceOf 147 = .ok (.aload_n 0, 1) := dk_42 (dk_at dksX2_sequenceOf_6 10 rfl rfl)
theorem dX2_sequenceOf_148 : decode cX2_sequenceOf 148 = .ok (.bipush 6, 2) := dk_16 6 (dk_at dksX2_sequenceOf_6 11 rfl rfl)
theorem dX2_sequenceOf_150 : decode cX2_sequenceOf 150 = .ok (.aload_n 0, 1) := dk_42 (dk_at dksX2_sequenceOf_6 13 rfl rfl)
theorem dX2_sequenceOf_151 : decode cX2_sequenceOf 151 = .ok (.getfield 61, 3) := dk_180 0 61 (dk_at dksX2_sequenceOf_6 14 rfl rfl)
theorem dX2_sequenceOf_154 : decode cX2_sequenceOf 154 = .ok (.iconst 1, 1) := dk_4 (dk_at dksX2_sequenceOf_6 17 rfl rfl)
theorem dX2_sequenceOf_155 : decode cX2_sequenceOf 155 = .ok (.isub, 1) := dk_100 (dk_at dksX2_sequenceOf_6 18 rfl rfl)
theorem dX2_sequenceOf_156 : decode cX2_sequenceOf 156 = .ok (.invokevirtual 136, 3) := dk_182 0 136 (dk_at dksX2_sequenceOf_6 19 rfl rfl)
theorem dX2_sequenceOf_159 : decode cX2_sequenceOf 159 = .ok (.areturn, 1) := dk_176 (dk_at dksX2_sequenceOf_6 22 rfl rfl)
abbrev cX2_component : ByteArray := prog_3_method_23_code
def yX2_component : MethodName := ⟨RX2, "component", "(LNotationDesk$Sequence;LNotationDesk$Type;)Z"⟩
def dkwX2_component_5 : List UInt8 := [43, 44, 182, 0, 210, 4, 172]
abbrev dktX2_component_5 : List UInt8 := dkwX2_component_5 ++ []
def dkwX2_component_4 : List UInt8 := [7, 42, 180, 0, 61, 4, 100, 182, 0, 78, 172, 43, 180, 0, 207, 43, 180, 0, 188, 42, 180, 0, 101, 79]
abbrev dktX2_component_4 : List UInt8 := dkwX2_component_4 ++ dktX2_component_5
def dkwX2_component_3 : List UInt8 := [160, 0, 48, 42, 182, 0, 104, 154, 0, 5, 3, 172, 44, 42, 180, 0, 101, 182, 0, 204, 154, 0, 15, 42]
abbrev dktX2_component_3 : List UInt8 := dkwX2_component_3 ++ dktX2_component_4
def dkwX2_component_2 : List UInt8 := [153, 0, 13, 42, 89, 180, 0, 61, 4, 96, 181, 0, 61, 43, 180, 0, 201, 43, 180, 0, 188, 46, 5]
abbrev dktX2_component_2 : List UInt8 := dkwX2_component_2 ++ dktX2_component_3
def dkwX2_component_1 : List UInt8 := [182, 0, 82, 16, 61, 160, 0, 7, 5, 167, 0, 4, 3, 79, 43, 180, 0, 201, 43, 180, 0, 188, 46]
abbrev dktX2_component_1 : List UInt8 := dkwX2_component_1 ++ dktX2_component_2
def dkwX2_component_0 : List UInt8 := [43, 180, 0, 201, 43, 180, 0, 188, 42, 182, 0, 82, 16, 63, 160, 0, 7, 4, 167, 0, 17, 42]
abbrev dktX2_component_0 : List UInt8 := dkwX2_component_0 ++ dktX2_component_1
theorem dksX2_component_0 : cX2_component.data.toList.drop 0 = dktX2_component_0 := by decide +kernel
theorem dksX2_component_1 : cX2_component.data.toList.drop 22 = dktX2_component_1 := dk_seg dksX2_component_0 22 rfl rfl
theorem dksX2_component_2 : cX2_component.data.toList.drop 45 = dktX2_component_2 := dk_seg dksX2_component_1 23 rfl rfl
theorem dksX2_component_3 : cX2_component.data.toList.drop 68 = dktX2_component_3 := dk_seg dksX2_component_2 23 rfl rfl
theorem dksX2_component_4 : cX2_component.data.toList.drop 92 = dktX2_component_4 := dk_seg dksX2_component_3 24 rfl rfl
theorem dksX2_component_5 : cX2_component.data.toList.drop 116 = dktX2_component_5 := dk_seg dksX2_component_4 24 rfl rfl
theorem dX2_component_0 : decode cX2_component 0 = .ok (.aload_n 1, 1) := dk_43 (dk_at dksX2_component_0 0 rfl rfl)
theorem dX2_component_1 : decode cX2_component 1 = .ok (.getfield 201, 3) := dk_180 0 201 (dk_at dksX2_component_0 1 rfl rfl)
theorem dX2_component_4 : decode cX2_component 4 = .ok (.aload_n 1, 1) := dk_43 (dk_at dksX2_component_0 4 rfl rfl)
theorem dX2_component_5 : decode cX2_component 5 = .ok (.getfield 188, 3) := dk_180 0 188 (dk_at dksX2_component_0 5 rfl rfl)
theorem dX2_component_8 : decode cX2_component 8 = .ok (.aload_n 0, 1) := dk_42 (dk_at dksX2_component_0 8 rfl rfl)
theorem dX2_component_9 : decode cX2_component 9 = .ok (.invokevirtual 82, 3) := dk_182 0 82 (dk_at dksX2_component_0 9 rfl rfl)
theorem dX2_component_12 : decode cX2_component 12 = .ok (.bipush 63, 2) := dk_16 63 (dk_at dksX2_component_0 12 rfl rfl)
theorem dX2_component_14 : decode cX2_component 14 = .ok (.if_icmp .ne 7, 3) := dk_160 0 7 (dk_at dksX2_component_0 14 rfl rfl)
theorem dX2_component_17 : decode cX2_component 17 = .ok (.iconst 1, 1) := dk_4 (dk_at dksX2_component_0 17 rfl rfl)
theorem dX2_component_18 : decode cX2_component 18 = .ok (.goto 17, 3) := dk_167 0 17 (dk_at dksX2_component_0 18 rfl rfl)
theorem dX2_component_21 : decode cX2_component 21 = .ok (.aload_n 0, 1) := dk_42 (dk_at dksX2_component_0 21 rfl rfl)
theorem dX2_component_22 : decode cX2_component 22 = .ok (.invokevirtual 82, 3) := dk_182 0 82 (dk_at dksX2_component_1 0 rfl rfl)
theorem dX2_component_25 : decode cX2_component 25 = .ok (.bipush 61, 2) := dk_16 61 (dk_at dksX2_component_1 3 rfl rfl)
theorem dX2_component_27 : decode cX2_component 27 = .ok (.if_icmp .ne 7, 3) := dk_160 0 7 (dk_at dksX2_component_1 5 rfl rfl)
theorem dX2_component_30 : decode cX2_component 30 = .ok (.iconst 2, 1) := dk_5 (dk_at dksX2_component_1 8 rfl rfl)
theorem dX2_component_31 : decode cX2_component 31 = .ok (.goto 4, 3) := dk_167 0 4 (dk_at dksX2_component_1 9 rfl rfl)
theorem dX2_component_34 : decode cX2_component 34 = .ok (.iconst 0, 1) := dk_3 (dk_at dksX2_component_1 12 rfl rfl)
theorem dX2_component_35 : decode cX2_component 35 = .ok (.iastore, 1) := dk_79 (dk_at dksX2_component_1 13 rfl rfl)
theorem dX2_component_36 : decode cX2_component 36 = .ok (.aload_n 1, 1) := dk_43 (dk_at dksX2_component_1 14 rfl rfl)
theorem dX2_component_37 : decode cX2_component 37 = .ok (.getfield 201, 3) := dk_180 0 201 (dk_at dksX2_component_1 15 rfl rfl)
theorem dX2_component_40 : decode cX2_component 40 = .ok (.aload_n 1, 1) := dk_43 (dk_at dksX2_component_1 18 rfl rfl)
theorem dX2_component_41 : decode cX2_component 41 = .ok (.getfield 188, 3) := dk_180 0 188 (dk_at dksX2_component_1 19 rfl rfl)
theorem dX2_component_44 : decode cX2_component 44 = .ok (.iaload, 1) := dk_46 (dk_at dksX2_component_1 22 rfl rfl)
theorem dX2_component_45 : decode cX2_component 45 = .ok (.ifCond .eq 13, 3) := dk_153 0 13 (dk_at dksX2_component_2 0 rfl rfl)
theorem dX2_component_48 : decode cX2_component 48 = .ok (.aload_n 0, 1) := dk_42 (dk_at dksX2_component_2 3 rfl rfl)
theorem dX2_component_49 : decode cX2_component 49 = .ok (.dup, 1) := dk_89 (dk_at dksX2_component_2 4 rfl rfl)
theorem dX2_component_50 : decode cX2_component 50 = .ok (.getfield 61, 3) := dk_180 0 61 (dk_at dksX2_component_2 5 rfl rfl)
theorem dX2_component_53 : decode cX2_component 53 = .ok (.iconst 1, 1) := dk_4 (dk_at dksX2_component_2 8 rfl rfl)
theorem dX2_component_54 : decode cX2_component 54 = .ok (.iadd, 1) := dk_96 (dk_at dksX2_component_2 9 rfl rfl)
theorem dX2_component_55 : decode cX2_component 55 = .ok (.putfield 61, 3) := dk_181 0 61 (dk_at dksX2_component_2 10 rfl rfl)
theorem dX2_component_58 : decode cX2_component 58 = .ok (.aload_n 1, 1) := dk_43 (dk_at dksX2_component_2 13 rfl rfl)
theorem dX2_component_59 : decode cX2_component 59 = .ok (.getfield 201, 3) := dk_180 0 201 (dk_at dksX2_component_2 14 rfl rfl)
theorem dX2_component_62 : decode cX2_component 62 = .ok (.aload_n 1, 1) := dk_43 (dk_at dksX2_component_2 17 rfl rfl)
theorem dX2_component_63 : decode cX2_component 63 = .ok (.getfield 188, 3) := dk_180 0 188 (dk_at dksX2_component_2 18 rfl rfl)
theorem dX2_component_66 : decode cX2_component 66 = .ok (.iaload, 1) := dk_46 (dk_at dksX2_component_2 21 rfl rfl)
theorem dX2_component_67 : decode cX2_component 67 = .ok (.iconst 2, 1) := dk_5 (dk_at dksX2_component_2 22 rfl rfl)
theorem dX2_component_68 : decode cX2_component 68 = .ok (.if_icmp .ne 48, 3) := dk_160 0 48 (dk_at dksX2_component_3 0 rfl rfl)
theorem dX2_component_71 : decode cX2_component 71 = .ok (.aload_n 0, 1) := dk_42 (dk_at dksX2_component_3 3 rfl rfl)
theorem dX2_component_72 : decode cX2_component 72 = .ok (.invokevirtual 104, 3) := dk_182 0 104 (dk_at dksX2_component_3 4 rfl rfl)
theorem dX2_component_75 : decode cX2_component 75 = .ok (.ifCond .ne 5, 3) := dk_154 0 5 (dk_at dksX2_component_3 7 rfl rfl)
theorem dX2_component_78 : decode cX2_component 78 = .ok (.iconst 0, 1) := dk_3 (dk_at dksX2_component_3 10 rfl rfl)
theorem dX2_component_79 : decode cX2_component 79 = .ok (.ireturn, 1) := dk_172 (dk_at dksX2_component_3 11 rfl rfl)
theorem dX2_component_80 : decode cX2_component 80 = .ok (.aload_n 2, 1) := dk_44 (dk_at dksX2_component_3 12 rfl rfl)
theorem dX2_component_81 : decode cX2_component 81 = .ok (.aload_n 0, 1) := dk_42 (dk_at dksX2_component_3 13 rfl rfl)
theorem dX2_component_82 : decode cX2_component 82 = .ok (.getfield 101, 3) := dk_180 0 101 (dk_at dksX2_component_3 14 rfl rfl)
theorem dX2_component_85 : decode cX2_component 85 = .ok (.invokevirtual 204, 3) := dk_182 0 204 (dk_at dksX2_component_3 17 rfl rfl)
theorem dX2_component_88 : decode cX2_component 88 = .ok (.ifCond .ne 15, 3) := dk_154 0 15 (dk_at dksX2_component_3 20 rfl rfl)
theorem dX2_component_91 : decode cX2_component 91 = .ok (.aload_n 0, 1) := dk_42 (dk_at dksX2_component_3 23 rfl rfl)
theorem dX2_component_92 : decode cX2_component 92 = .ok (.iconst 4, 1) := dk_7 (dk_at dksX2_component_4 0 rfl rfl)
theorem dX2_component_93 : decode cX2_component 93 = .ok (.aload_n 0, 1) := dk_42 (dk_at dksX2_component_4 1 rfl rfl)
theorem dX2_component_94 : decode cX2_component 94 = .ok (.getfield 61, 3) := dk_180 0 61 (dk_at dksX2_component_4 2 rfl rfl)
theorem dX2_component_97 : decode cX2_component 97 = .ok (.iconst 1, 1) := dk_4 (dk_at dksX2_component_4 5 rfl rfl)
theorem dX2_component_98 : decode cX2_component 98 = .ok (.isub, 1) := dk_100 (dk_at dksX2_component_4 6 rfl rfl)
theorem dX2_component_99 : decode cX2_component 99 = .ok (.invokevirtual 78, 3) := dk_182 0 78 (dk_at dksX2_component_4 7 rfl rfl)
theorem dX2_component_102 : decode cX2_component 102 = .ok (.ireturn, 1) := dk_172 (dk_at dksX2_component_4 10 rfl rfl)
theorem dX2_component_103 : decode cX2_component 103 = .ok (.aload_n 1, 1) := dk_43 (dk_at dksX2_component_4 11 rfl rfl)
theorem dX2_component_104 : decode cX2_component 104 = .ok (.getfield 207, 3) := dk_180 0 207 (dk_at dksX2_component_4 12 rfl rfl)
theorem dX2_component_107 : decode cX2_component 107 = .ok (.aload_n 1, 1) := dk_43 (dk_at dksX2_component_4 15 rfl rfl)
theorem dX2_component_108 : decode cX2_component 108 = .ok (.getfield 188, 3) := dk_180 0 188 (dk_at dksX2_component_4 16 rfl rfl)
theorem dX2_component_111 : decode cX2_component 111 = .ok (.aload_n 0, 1) := dk_42 (dk_at dksX2_component_4 19 rfl rfl)
theorem dX2_component_112 : decode cX2_component 112 = .ok (.getfield 101, 3) := dk_180 0 101 (dk_at dksX2_component_4 20 rfl rfl)
theorem dX2_component_115 : decode cX2_component 115 = .ok (.iastore, 1) := dk_79 (dk_at dksX2_component_4 23 rfl rfl)
theorem dX2_component_116 : decode cX2_component 116 = .ok (.aload_n 1, 1) := dk_43 (dk_at dksX2_component_5 0 rfl rfl)
theorem dX2_component_117 : decode cX2_component 117 = .ok (.aload_n 2, 1) := dk_44 (dk_at dksX2_component_5 1 rfl rfl)
theorem dX2_component_118 : decode cX2_component 118 = .ok (.invokevirtual 210, 3) := dk_182 0 210 (dk_at dksX2_component_5 2 rfl rfl)
theorem dX2_component_121 : decode cX2_component 121 = .ok (.iconst 1, 1) := dk_4 (dk_at dksX2_component_5 5 rfl rfl)
theorem dX2_component_122 : decode cX2_component 122 = .ok (.ireturn, 1) := dk_172 (dk_at dksX2_component_5 6 rfl rfl)
abbrev cX2_another : ByteArray := prog_3_method_21_code
def yX2_another : MethodName := ⟨RX2, "another", "(I)Z"⟩
def dkwX2_another_1 : List UInt8 := [182, 0, 78, 153, 0, 7, 4, 167, 0, 4, 3, 172]
abbrev dktX2_another_1 : List UInt8 := dkwX2_another_1 ++ []
def dkwX2_another_0 : List UInt8 := [42, 182, 0, 82, 16, 44, 160, 0, 26, 27, 16, 6, 161, 0, 16, 42, 16, 7, 42, 180, 0, 61]
abbrev dktX2_another_0 : List UInt8 := dkwX2_another_0 ++ dktX2_another_1
theorem dksX2_another_0 : cX2_another.data.toList.drop 0 = dktX2_another_0 := by decide +kernel
theorem dksX2_another_1 : cX2_another.data.toList.drop 22 = dktX2_another_1 := dk_seg dksX2_another_0 22 rfl rfl
theorem dX2_another_0 : decode cX2_another 0 = .ok (.aload_n 0, 1) := dk_42 (dk_at dksX2_another_0 0 rfl rfl)
theorem dX2_another_1 : decode cX2_another 1 = .ok (.invokevirtual 82, 3) := dk_182 0 82 (dk_at dksX2_another_0 1 rfl rfl)
theorem dX2_another_4 : decode cX2_another 4 = .ok (.bipush 44, 2) := dk_16 44 (dk_at dksX2_another_0 4 rfl rfl)
theorem dX2_another_6 : decode cX2_another 6 = .ok (.if_icmp .ne 26, 3) := dk_160 0 26 (dk_at dksX2_another_0 6 rfl rfl)
theorem dX2_another_9 : decode cX2_another 9 = .ok (.iload_n 1, 1) := dk_27 (dk_at dksX2_another_0 9 rfl rfl)
theorem dX2_another_10 : decode cX2_another 10 = .ok (.bipush 6, 2) := dk_16 6 (dk_at dksX2_another_0 10 rfl rfl)
theorem dX2_another_12 : decode cX2_another 12 = .ok (.if_icmp .lt 16, 3) := dk_161 0 16 (dk_at dksX2_another_0 12 rfl rfl)
theorem dX2_another_15 : decode cX2_another 15 = .ok (.aload_n 0, 1) := dk_42 (dk_at dksX2_another_0 15 rfl rfl)
theorem dX2_another_16 : decode cX2_another 16 = .ok (.bipush 7, 2) := dk_16 7 (dk_at dksX2_another_0 16 rfl rfl)
theorem dX2_another_18 : decode cX2_another 18 = .ok (.aload_n 0, 1) := dk_42 (dk_at dksX2_another_0 18 rfl rfl)
theorem dX2_another_19 : decode cX2_another 19 = .ok (.getfield 61, 3) := dk_180 0 61 (dk_at dksX2_another_0 19 rfl rfl)
theorem dX2_another_22 : decode cX2_another 22 = .ok (.invokevirtual 78, 3) := dk_182 0 78 (dk_at dksX2_another_1 0 rfl rfl)
theorem dX2_another_25 : decode cX2_another 25 = .ok (.ifCond .eq 7, 3) := dk_153 0 7 (dk_at dksX2_another_1 3 rfl rfl)
theorem dX2_another_28 : decode cX2_another 28 = .ok (.iconst 1, 1) := dk_4 (dk_at dksX2_another_1 6 rfl rfl)
theorem dX2_another_29 : decode cX2_another 29 = .ok (.goto 4, 3) := dk_167 0 4 (dk_at dksX2_another_1 7 rfl rfl)
theorem dX2_another_32 : decode cX2_another 32 = .ok (.iconst 0, 1) := dk_3 (dk_at dksX2_another_1 10 rfl rfl)
theorem dX2_another_33 : decode cX2_another 33 = .ok (.ireturn, 1) := dk_172 (dk_at dksX2_another_1 11 rfl rfl)
abbrev cX2_choiceOf : ByteArray := prog_3_method_24_code
def yX2_choiceOf : MethodName := ⟨RX2, "choiceOf", "(LNotationDesk$Compiler;II)LNotationDesk$Type;"⟩
def dkwX2_choiceOf_6 : List UInt8 := [176]
abbrev dktX2_choiceOf_6 : List UInt8 := dkwX2_choiceOf_6 ++ []
def dkwX2_choiceOf_5 : List UInt8 := [176, 45, 182, 0, 217, 153, 0, 7, 45, 167, 0, 15, 42, 16, 6, 42, 180, 0, 61, 4, 100, 182, 0, 136]
abbrev dktX2_choiceOf_5 : List UInt8 := dkwX2_choiceOf_5 ++ dktX2_choiceOf_6
def dkwX2_choiceOf_4 : List UInt8 := [96, 181, 0, 61, 167, 255, 206, 42, 180, 0, 65, 157, 0, 12, 42, 16, 125, 182, 0, 90, 154, 0, 5, 1]
abbrev dktX2_choiceOf_4 : List UInt8 := dkwX2_choiceOf_4 ++ dktX2_choiceOf_5
def dkwX2_choiceOf_3 : List UInt8 := [182, 0, 216, 42, 45, 180, 0, 215, 182, 0, 195, 54, 4, 21, 4, 153, 0, 13, 42, 89, 180, 0, 61, 4]
abbrev dktX2_choiceOf_3 : List UInt8 := dkwX2_choiceOf_3 ++ dktX2_choiceOf_4
def dkwX2_choiceOf_2 : List UInt8 := [54, 4, 21, 4, 153, 0, 51, 42, 28, 184, 0, 94, 58, 5, 25, 5, 199, 0, 5, 1, 176, 45, 25, 5]
abbrev dktX2_choiceOf_2 : List UInt8 := dkwX2_choiceOf_2 ++ dktX2_choiceOf_3
def dkwX2_choiceOf_1 : List UInt8 := [180, 0, 47, 27, 50, 78, 45, 3, 181, 0, 215, 42, 16, 123, 182, 0, 90, 154, 0, 5, 1, 176, 4]
abbrev dktX2_choiceOf_1 : List UInt8 := dkwX2_choiceOf_1 ++ dktX2_choiceOf_2
def dkwX2_choiceOf_0 : List UInt8 := [42, 180, 0, 47, 27, 50, 199, 0, 16, 42, 180, 0, 47, 27, 187, 0, 45, 89, 183, 0, 214, 83, 42]
abbrev dktX2_choiceOf_0 : List UInt8 := dkwX2_choiceOf_0 ++ dktX2_choiceOf_1
theorem dksX2_choiceOf_0 : cX2_choiceOf.data.toList.drop 0 = dktX2_choiceOf_0 := by decide +kernel
theorem dksX2_choiceOf_1 : cX2_choiceOf.data.toList.drop 23 = dktX2_choiceOf_1 := dk_seg dksX2_choiceOf_0 23 rfl rfl
theorem dksX2_choiceOf_2 : cX2_choiceOf.data.toList.drop 46 = dktX2_choiceOf_2 := dk_seg dksX2_choiceOf_1 23 rfl rfl
theorem dksX2_choiceOf_3 : cX2_choiceOf.data.toList.drop 70 = dktX2_choiceOf_3 := dk_seg dksX2_choiceOf_2 24 rfl rfl
theorem dksX2_choiceOf_4 : cX2_choiceOf.data.toList.drop 94 = dktX2_choiceOf_4 := dk_seg dksX2_choiceOf_3 24 rfl rfl
theorem dksX2_choiceOf_5 : cX2_choiceOf.data.toList.drop 118 = dktX2_choiceOf_5 := dk_seg dksX2_choiceOf_4 24 rfl rfl
theorem dksX2_choiceOf_6 : cX2_choiceOf.data.toList.drop 142 = dktX2_choiceOf_6 := dk_seg dksX2_choiceOf_5 24 rfl rfl
theorem dX2_choiceOf_0 : decode cX2_choiceOf 0 = .ok (.aload_n 0, 1) := dk_42 (dk_at dksX2_choiceOf_0 0 rfl rfl)
theorem dX2_choiceOf_1 : decode cX2_choiceOf 1 = .ok (.getfield 47, 3) := dk_180 0 47 (dk_at dksX2_choiceOf_0 1 rfl rfl)
theorem dX2_choiceOf_4 : decode cX2_choiceOf 4 = .ok (.iload_n 1, 1) := dk_27 (dk_at dksX2_choiceOf_0 4 rfl rfl)
theorem dX2_choiceOf_5 : decode cX2_choiceOf 5 = .ok (.aaload, 1) := dk_50 (dk_at dksX2_choiceOf_0 5 rfl rfl)
theorem dX2_choiceOf_6 : decode cX2_choiceOf 6 = .ok (.ifnonnull 16, 3) := dk_199 0 16 (dk_at dksX2_choiceOf_0 6 rfl rfl)
theorem dX2_choiceOf_9 : decode cX2_choiceOf 9 = .ok (.aload_n 0, 1) := dk_42 (dk_at dksX2_choiceOf_0 9 rfl rfl)
theorem dX2_choiceOf_10 : decode cX2_choiceOf 10 = .ok (.getfield 47, 3) := dk_180 0 47 (dk_at dksX2_choiceOf_0 10 rfl rfl)
theorem dX2_choiceOf_13 : decode cX2_choiceOf 13 = .ok (.iload_n 1, 1) := dk_27 (dk_at dksX2_choiceOf_0 13 rfl rfl)
theorem dX2_choiceOf_14 : decode cX2_choiceOf 14 = .ok (.new 45, 3) := dk_187 0 45 (dk_at dksX2_choiceOf_0 14 rfl rfl)
theorem dX2_choiceOf_17 : decode cX2_choiceOf 17 = .ok (.dup, 1) := dk_89 (dk_at dksX2_choiceOf_0 17 rfl rfl)
theorem dX2_choiceOf_18 : decode cX2_choiceOf 18 = .ok (.invokespecial 214, 3) := dk_183 0 214 (dk_at dksX2_choiceOf_0 18 rfl rfl)
theorem dX2_choiceOf_21 : decode cX2_choiceOf 21 = .ok (.aastore, 1) := dk_83 (dk_at dksX2_choiceOf_0 21 rfl rfl)
theorem dX2_choiceOf_22 : decode cX2_choiceOf 22 = .ok (.aload_n 0, 1) := dk_42 (dk_at dksX2_choiceOf_0 22 rfl rfl)
theorem dX2_choiceOf_23 : decode cX2_choiceOf 23 = .ok (.getfield 47, 3) := dk_180 0 47 (dk_at dksX2_choiceOf_1 0 rfl rfl)
theorem dX2_choiceOf_26 : decode cX2_choiceOf 26 = .ok (.iload_n 1, 1) := dk_27 (dk_at dksX2_choiceOf_1 3 rfl rfl)
theorem dX2_choiceOf_27 : decode cX2_choiceOf 27 = .ok (.aaload, 1) := dk_50 (dk_at dksX2_choiceOf_1 4 rfl rfl)
theorem dX2_choiceOf_28 : decode cX2_choiceOf 28 = .ok (.astore_n 3, 1) := dk_78 (dk_at dksX2_choiceOf_1 5 rfl rfl)
theorem dX2_choiceOf_29 : decode cX2_choiceOf 29 = .ok (.aload_n 3, 1) := dk_45 (dk_at dksX2_choiceOf_1 6 rfl rfl)
theorem dX2_choiceOf_30 : decode cX2_choiceOf 30 = .ok (.iconst 0, 1) := dk_3 (dk_at dksX2_choiceOf_1 7 rfl rfl)
theorem dX2_choiceOf_31 : decode cX2_choiceOf 31 = .ok (.putfield 215, 3) := dk_181 0 215 (dk_at dksX2_choiceOf_1 8 rfl rfl)
theorem dX2_choiceOf_34 : decode cX2_choiceOf 34 = .ok (.aload_n 0, 1) := dk_42 (dk_at dksX2_choiceOf_1 11 rfl rfl)
theorem dX2_choiceOf_35 : decode cX2_choiceOf 35 = .ok (.bipush 123, 2) := dk_16 123 (dk_at dksX2_choiceOf_1 12 rfl rfl)
theorem dX2_choiceOf_37 : decode cX2_choiceOf 37 = .ok (.invokevirtual 90, 3) := dk_182 0 90 (dk_at dksX2_choiceOf_1 14 rfl rfl)
theorem dX2_choiceOf_40 : decode cX2_choiceOf 40 = .ok (.ifCond .ne 5, 3) := dk_154 0 5 (dk_at dksX2_choiceOf_1 17 rfl rfl)
theorem dX2_choiceOf_43 : decode cX2_choiceOf 43 = .ok (.aconst_null, 1) := dk_1 (dk_at dksX2_choiceOf_1 20 rfl rfl)
theorem dX2_choiceOf_44 : decode cX2_choiceOf 44 = .ok (.areturn, 1) := dk_176 (dk_at dksX2_choiceOf_1 21 rfl rfl)
theorem dX2_choiceOf_45 : decode cX2_choiceOf 45 = .ok (.iconst 1, 1) := dk_4 (dk_at dksX2_choiceOf_1 22 rfl rfl)
theorem dX2_choiceOf_46 : decode cX2_choiceOf 46 = .ok (.istore 4, 2) := dk_54 4 (dk_at dksX2_choiceOf_2 0 rfl rfl)
theorem dX2_choiceOf_48 : decode cX2_choiceOf 48 = .ok (.iload 4, 2) := dk_21 4 (dk_at dksX2_choiceOf_2 2 rfl rfl)
theorem dX2_choiceOf_50 : decode cX2_choiceOf 50 = .ok (.ifCond .eq 51, 3) := dk_153 0 51 (dk_at dksX2_choiceOf_2 4 rfl rfl)
theorem dX2_choiceOf_53 : decode cX2_choiceOf 53 = .ok (.aload_n 0, 1) := dk_42 (dk_at dksX2_choiceOf_2 7 rfl rfl)
theorem dX2_choiceOf_54 : decode cX2_choiceOf 54 = .ok (.iload_n 2, 1) := dk_28 (dk_at dksX2_choiceOf_2 8 rfl rfl)
theorem dX2_choiceOf_55 : decode cX2_choiceOf 55 = .ok (.invokestatic 94, 3) := dk_184 0 94 (dk_at dksX2_choiceOf_2 9 rfl rfl)
theorem dX2_choiceOf_58 : decode cX2_choiceOf 58 = .ok (.astore 5, 2) := dk_58 5 (dk_at dksX2_choiceOf_2 12 rfl rfl)
theorem dX2_choiceOf_60 : decode cX2_choiceOf 60 = .ok (.aload 5, 2) := dk_25 5 (dk_at dksX2_choiceOf_2 14 rfl rfl)
theorem dX2_choiceOf_62 : decode cX2_choiceOf 62 = .ok (.ifnonnull 5, 3) := dk_199 0 5 (dk_at dksX2_choiceOf_2 16 rfl rfl)
theorem dX2_choiceOf_65 : decode cX2_choiceOf 65 = .ok (.aconst_null, 1) := dk_1 (dk_at dksX2_choiceOf_2 19 rfl rfl)
theorem dX2_choiceOf_66 : decode cX2_choiceOf 66 = .ok (.areturn, 1) := dk_176 (dk_at dksX2_choiceOf_2 20 rfl rfl)
theorem dX2_choiceOf_67 : decode cX2_choiceOf 67 = .ok (.aload_n 3, 1) := dk_45 (dk_at dksX2_choiceOf_2 21 rfl rfl)
theorem dX2_choiceOf_68 : decode cX2_choiceOf 68 = .ok (.aload 5, 2) := dk_25 5 (dk_at dksX2_choiceOf_2 22 rfl rfl)
theorem dX2_choiceOf_70 : decode cX2_choiceOf 70 = .ok (.invokevirtual 216, 3) := dk_182 0 216 (dk_at dksX2_choiceOf_3 0 rfl rfl)
theorem dX2_choiceOf_73 : decode cX2_choiceOf 73 = .ok (.aload_n 0, 1) := dk_42 (dk_at dksX2_choiceOf_3 3 rfl rfl)
theorem dX2_choiceOf_74 : decode cX2_choiceOf 74 = .ok (.aload_n 3, 1) := dk_45 (dk_at dksX2_choiceOf_3 4 rfl rfl)
theorem dX2_choiceOf_75 : decode cX2_choiceOf 75 = .ok (.getfield 215, 3) := dk_180 0 215 (dk_at dksX2_choiceOf_3 5 rfl rfl)
theorem dX2_choiceOf_78 : decode cX2_choiceOf 78 = .ok (.invokevirtual 195, 3) := dk_182 0 195 (dk_at dksX2_choiceOf_3 8 rfl rfl)
theorem dX2_choiceOf_81 : decode cX2_choiceOf 81 = .ok (.istore 4, 2) := dk_54 4 (dk_at dksX2_choiceOf_3 11 rfl rfl)
theorem dX2_choiceOf_83 : decode cX2_choiceOf 83 = .ok (.iload 4, 2) := dk_21 4 (dk_at dksX2_choiceOf_3 13 rfl rfl)
theorem dX2_choiceOf_85 : decode cX2_choiceOf 85 = .ok (.ifCond .eq 13, 3) := dk_153 0 13 (dk_at dksX2_choiceOf_3 15 rfl rfl)
theorem dX2_choiceOf_88 : decode cX2_choiceOf 88 = .ok (.aload_n 0, 1) := dk_42 (dk_at dksX2_choiceOf_3 18 rfl rfl)
theorem dX2_choiceOf_89 : decode cX2_choiceOf 89 = .ok (.dup, 1) := dk_89 (dk_at dksX2_choiceOf_3 19 rfl rfl)
theorem dX2_choiceOf_90 : decode cX2_choiceOf 90 = .ok (.getfield 61, 3) := dk_180 0 61 (dk_at dksX2_choiceOf_3 20 rfl rfl)
theorem dX2_choiceOf_93 : decode cX2_choiceOf 93 = .ok (.iconst 1, 1) := dk_4 (dk_at dksX2_choiceOf_3 23 rfl rfl)
theorem dX2_choiceOf_94 : decode cX2_choiceOf 94 = .ok (.iadd, 1) := dk_96 (dk_at dksX2_choiceOf_4 0 rfl rfl)
theorem dX2_choiceOf_95 : decode cX2_choiceOf 95 = .ok (.putfield 61, 3) := dk_181 0 61 (dk_at dksX2_choiceOf_4 1 rfl rfl)
theorem dX2_choiceOf_98 : decode cX2_choiceOf 98 = .ok (.goto (-50), 3) := dk_167 255 206 (dk_at dksX2_choiceOf_4 4 rfl rfl)
theorem dX2_choiceOf_101 : decode cX2_choiceOf 101 = .ok (.aload_n 0, 1) := dk_42 (dk_at dksX2_choiceOf_4 7 rfl rfl)
theorem dX2_choiceOf_102 : decode cX2_choiceOf 102 = .ok (.getfield 65, 3) := dk_180 0 65 (dk_at dksX2_choiceOf_4 8 rfl rfl)
theorem dX2_choiceOf_105 : decode cX2_choiceOf 105 = .ok (.ifCond .gt 12, 3) := dk_157 0 12 (dk_at dksX2_choiceOf_4 11 rfl rfl)
theorem dX2_choiceOf_108 : decode cX2_choiceOf 108 = .ok (.aload_n 0, 1) := dk_42 (dk_at dksX2_choiceOf_4 14 rfl rfl)
theorem dX2_choiceOf_109 : decode cX2_choiceOf 109 = .ok (.bipush 125, 2) := dk_16 125 (dk_at dksX2_choiceOf_4 15 rfl rfl)
theorem dX2_choiceOf_111 : decode cX2_choiceOf 111 = .ok (.invokevirtual 90, 3) := dk_182 0 90 (dk_at dksX2_choiceOf_4 17 rfl rfl)
theorem dX2_choiceOf_114 : decode cX2_choiceOf 114 = .ok (.ifCond .ne 5, 3) := dk_154 0 5 (dk_at dksX2_choiceOf_4 20 rfl rfl)
theorem dX2_choiceOf_117 : decode cX2_choiceOf 117 = .ok (.aconst_null, 1) := dk_1 (dk_at dksX2_choiceOf_4 23 rfl rfl)
theorem dX2_choiceOf_118 : decode cX2_choiceOf 118 = .ok (.areturn, 1) := dk_176 (dk_at dksX2_choiceOf_5 0 rfl rfl)
theorem dX2_choiceOf_119 : decode cX2_choiceOf 119 = .ok (.aload_n 3, 1) := dk_45 (dk_at dksX2_choiceOf_5 1 rfl rfl)
theorem dX2_choiceOf_120 : decode cX2_choiceOf 120 = .ok (.invokevirtual 217, 3) := dk_182 0 217 (dk_at dksX2_choiceOf_5 2 rfl rfl)
theorem dX2_choiceOf_123 : decode cX2_choiceOf 123 = .ok (.ifCond .eq 7, 3) := dk_153 0 7 (dk_at dksX2_choiceOf_5 5 rfl rfl)
theorem dX2_choiceOf_126 : decode cX2_choiceOf 126 = .ok (.aload_n 3, 1) := dk_45 (dk_at dksX2_choiceOf_5 8 rfl rfl)
theorem dX2_choiceOf_127 : decode cX2_choiceOf 127 = .ok (.goto 15, 3) := dk_167 0 15 (dk_at dksX2_choiceOf_5 9 rfl rfl)
theorem dX2_choiceOf_130 : decode cX2_choiceOf 130 = .ok (.aload_n 0, 1) := dk_42 (dk_at dksX2_choiceOf_5 12 rfl rfl)
theorem dX2_choiceOf_131 : decode cX2_choiceOf 131 = .ok (.bipush 6, 2) := dk_16 6 (dk_at dksX2_choiceOf_5 13 rfl rfl)
theorem dX2_choiceOf_133 : decode cX2_choiceOf 133 = .ok (.aload_n 0, 1) := dk_42 (dk_at dksX2_choiceOf_5 15 rfl rfl)
theorem dX2_choiceOf_134 : decode cX2_choiceOf 134 = .ok (.getfield 61, 3) := dk_180 0 61 (dk_at dksX2_choiceOf_5 16 rfl rfl)
theorem dX2_choiceOf_137 : decode cX2_choiceOf 137 = .ok (.iconst 1, 1) := dk_4 (dk_at dksX2_choiceOf_5 19 rfl rfl)
theorem dX2_choiceOf_138 : decode cX2_choiceOf 138 = .ok (.isub, 1) := dk_100 (dk_at dksX2_choiceOf_5 20 rfl rfl)
theorem dX2_choiceOf_139 : decode cX2_choiceOf 139 = .ok (.invokevirtual 136, 3) := dk_182 0 136 (dk_at dksX2_choiceOf_5 21 rfl rfl)
theorem dX2_choiceOf_142 : decode cX2_choiceOf 142 = .ok (.areturn, 1) := dk_176 (dk_at dksX2_choiceOf_6 0 rfl rfl)
abbrev cX2_octetsAt : ByteArray := prog_3_method_19_code
def yX2_octetsAt : MethodName := ⟨RX2, "octetsAt", "(I)LNotationDesk$Type;"⟩
def dkwX2_octetsAt_2 : List UInt8 := [153, 0, 12, 42, 180, 0, 29, 27, 50, 167, 0, 4, 1, 176]
abbrev dktX2_octetsAt_2 : List UInt8 := dkwX2_octetsAt_2 ++ []
def dkwX2_octetsAt_1 : List UInt8 := [180, 0, 29, 27, 50, 7, 182, 0, 169, 42, 42, 180, 0, 29, 27, 50, 180, 0, 173, 182, 0, 177]
abbrev dktX2_octetsAt_1 : List UInt8 := dkwX2_octetsAt_1 ++ dktX2_octetsAt_2
def dkwX2_octetsAt_0 : List UInt8 := [42, 180, 0, 29, 27, 50, 199, 0, 16, 42, 180, 0, 29, 27, 187, 0, 27, 89, 183, 0, 168, 83, 42]
abbrev dktX2_octetsAt_0 : List UInt8 := dkwX2_octetsAt_0 ++ dktX2_octetsAt_1
theorem dksX2_octetsAt_0 : cX2_octetsAt.data.toList.drop 0 = dktX2_octetsAt_0 := by decide +kernel
theorem dksX2_octetsAt_1 : cX2_octetsAt.data.toList.drop 23 = dktX2_octetsAt_1 := dk_seg dksX2_octetsAt_0 23 rfl rfl
theorem dksX2_octetsAt_2 : cX2_octetsAt.data.toList.drop 45 = dktX2_octetsAt_2 := dk_seg dksX2_octetsAt_1 22 rfl rfl
theorem dX2_octetsAt_0 : decode cX2_octetsAt 0 = .ok (.aload_n 0, 1) := dk_42 (dk_at dksX2_octetsAt_0 0 rfl rfl)
theorem dX2_octetsAt_1 : decode cX2_octetsAt 1 = .ok (.getfield 29, 3) := dk_180 0 29 (dk_at dksX2_octetsAt_0 1 rfl rfl)
theorem dX2_octetsAt_4 : decode cX2_octetsAt 4 = .ok (.iload_n 1, 1) := dk_27 (dk_at dksX2_octetsAt_0 4 rfl rfl)
theorem dX2_octetsAt_5 : decode cX2_octetsAt 5 = .ok (.aaload, 1) := dk_50 (dk_at dksX2_octetsAt_0 5 rfl rfl)
theorem dX2_octetsAt_6 : decode cX2_octetsAt 6 = .ok (.ifnonnull 16, 3) := dk_199 0 16 (dk_at dksX2_octetsAt_0 6 rfl rfl)
theorem dX2_octetsAt_9 : decode cX2_octetsAt 9 = .ok (.aload_n 0, 1) := dk_42 (dk_at dksX2_octetsAt_0 9 rfl rfl)
theorem dX2_octetsAt_10 : decode cX2_octetsAt 10 = .ok (.getfield 29, 3) := dk_180 0 29 (dk_at dksX2_octetsAt_0 10 rfl rfl)
theorem dX2_octetsAt_13 : decode cX2_octetsAt 13 = .ok (.iload_n 1, 1) := dk_27 (dk_at dksX2_octetsAt_0 13 rfl rfl)
theorem dX2_octetsAt_14 : decode cX2_octetsAt 14 = .ok (.new 27, 3) := dk_187 0 27 (dk_at dksX2_octetsAt_0 14 rfl rfl)
theorem dX2_octetsAt_17 : decode cX2_octetsAt 17 = .ok (.dup, 1) := dk_89 (dk_at dksX2_octetsAt_0 17 rfl rfl)
theorem dX2_octetsAt_18 : decode cX2_octetsAt 18 = .ok (.invokespecial 168, 3) := dk_183 0 168 (dk_at dksX2_octetsAt_0 18 rfl rfl)
theorem dX2_octetsAt_21 : decode cX2_octetsAt 21 = .ok (.aastore, 1) := dk_83 (dk_at dksX2_octetsAt_0 21 rfl rfl)
theorem dX2_octetsAt_22 : decode cX2_octetsAt 22 = .ok (.aload_n 0, 1) := dk_42 (dk_at dksX2_octetsAt_0 22 rfl rfl)
theorem dX2_octetsAt_23 : decode cX2_octetsAt 23 = .ok (.getfield 29, 3) := dk_180 0 29 (dk_at dksX2_octetsAt_1 0 rfl rfl)
theorem dX2_octetsAt_26 : decode cX2_octetsAt 26 = .ok (.iload_n 1, 1) := dk_27 (dk_at dksX2_octetsAt_1 3 rfl rfl)
theorem dX2_octetsAt_27 : decode cX2_octetsAt 27 = .ok (.aaload, 1) := dk_50 (dk_at dksX2_octetsAt_1 4 rfl rfl)
theorem dX2_octetsAt_28 : decode cX2_octetsAt 28 = .ok (.iconst 4, 1) := dk_7 (dk_at dksX2_octetsAt_1 5 rfl rfl)
theorem dX2_octetsAt_29 : decode cX2_octetsAt 29 = .ok (.invokevirtual 169, 3) := dk_182 0 169 (dk_at dksX2_octetsAt_1 6 rfl rfl)
theorem dX2_octetsAt_32 : decode cX2_octetsAt 32 = .ok (.aload_n 0, 1) := dk_42 (dk_at dksX2_octetsAt_1 9 rfl rfl)
theorem dX2_octetsAt_33 : decode cX2_octetsAt 33 = .ok (.aload_n 0, 1) := dk_42 (dk_at dksX2_octetsAt_1 10 rfl rfl)
theorem dX2_octetsAt_34 : decode cX2_octetsAt 34 = .ok (.getfield 29, 3) := dk_180 0 29 (dk_at dksX2_octetsAt_1 11 rfl rfl)
theorem dX2_octetsAt_37 : decode cX2_octetsAt 37 = .ok (.iload_n 1, 1) := dk_27 (dk_at dksX2_octetsAt_1 14 rfl rfl)
theorem dX2_octetsAt_38 : decode cX2_octetsAt 38 = .ok (.aaload, 1) := dk_50 (dk_at dksX2_octetsAt_1 15 rfl rfl)
theorem dX2_octetsAt_39 : decode cX2_octetsAt 39 = .ok (.getfield 173, 3) := dk_180 0 173 (dk_at dksX2_octetsAt_1 16 rfl rfl)
theorem dX2_octetsAt_42 : decode cX2_octetsAt 42 = .ok (.invokevirtual 177, 3) := dk_182 0 177 (dk_at dksX2_octetsAt_1 19 rfl rfl)
theorem dX2_octetsAt_45 : decode cX2_octetsAt 45 = .ok (.ifCond .eq 12, 3) := dk_153 0 12 (dk_at dksX2_octetsAt_2 0 rfl rfl)
theorem dX2_octetsAt_48 : decode cX2_octetsAt 48 = .ok (.aload_n 0, 1) := dk_42 (dk_at dksX2_octetsAt_2 3 rfl rfl)
theorem dX2_octetsAt_49 : decode cX2_octetsAt 49 = .ok (.getfield 29, 3) := dk_180 0 29 (dk_at dksX2_octetsAt_2 4 rfl rfl)
theorem dX2_octetsAt_52 : decode cX2_octetsAt 52 = .ok (.iload_n 1, 1) := dk_27 (dk_at dksX2_octetsAt_2 7 rfl rfl)
theorem dX2_octetsAt_53 : decode cX2_octetsAt 53 = .ok (.aaload, 1) := dk_50 (dk_at dksX2_octetsAt_2 8 rfl rfl)
theorem dX2_octetsAt_54 : decode cX2_octetsAt 54 = .ok (.goto 4, 3) := dk_167 0 4 (dk_at dksX2_octetsAt_2 9 rfl rfl)
theorem dX2_octetsAt_57 : decode cX2_octetsAt 57 = .ok (.aconst_null, 1) := dk_1 (dk_at dksX2_octetsAt_2 12 rfl rfl)
theorem dX2_octetsAt_58 : decode cX2_octetsAt 58 = .ok (.areturn, 1) := dk_176 (dk_at dksX2_octetsAt_2 13 rfl rfl)
abbrev cX2_bounded : ByteArray := prog_3_method_11_code
def yX2_bounded : MethodName := ⟨RX2, "bounded", "(LNotationDesk$Size;)Z"⟩
def dkwX2_bounded_3 : List UInt8 := [180, 0, 101, 42, 180, 0, 107, 182, 0, 110, 4, 172]
abbrev dktX2_bounded_3 : List UInt8 := dkwX2_bounded_3 ++ []
def dkwX2_bounded_2 : List UInt8 := [180, 0, 107, 16, 20, 164, 0, 15, 42, 7, 42, 180, 0, 61, 4, 100, 182, 0, 78, 172, 43, 4, 42]
abbrev dktX2_bounded_2 : List UInt8 := dkwX2_bounded_2 ++ dktX2_bounded_3
def dkwX2_bounded_1 : List UInt8 := [154, 0, 5, 3, 172, 42, 180, 0, 101, 155, 0, 23, 42, 180, 0, 107, 42, 180, 0, 101, 161, 0, 12, 42]
abbrev dktX2_bounded_1 : List UInt8 := dkwX2_bounded_1 ++ dktX2_bounded_2
def dkwX2_bounded_0 : List UInt8 := [43, 3, 3, 3, 182, 0, 110, 42, 182, 0, 82, 16, 40, 159, 0, 5, 4, 172, 42, 182, 0, 116]
abbrev dktX2_bounded_0 : List UInt8 := dkwX2_bounded_0 ++ dktX2_bounded_1
theorem dksX2_bounded_0 : cX2_bounded.data.toList.drop 0 = dktX2_bounded_0 := by decide +kernel
theorem dksX2_bounded_1 : cX2_bounded.data.toList.drop 22 = dktX2_bounded_1 := dk_seg dksX2_bounded_0 22 rfl rfl
theorem dksX2_bounded_2 : cX2_bounded.data.toList.drop 46 = dktX2_bounded_2 := dk_seg dksX2_bounded_1 24 rfl rfl
theorem dksX2_bounded_3 : cX2_bounded.data.toList.drop 69 = dktX2_bounded_3 := dk_seg dksX2_bounded_2 23 rfl rfl
theorem dX2_bounded_0 : decode cX2_bounded 0 = .ok (.aload_n 1, 1) := dk_43 (dk_at dksX2_bounded_0 0 rfl rfl)
theorem dX2_bounded_1 : decode cX2_bounded 1 = .ok (.iconst 0, 1) := dk_3 (dk_at dksX2_bounded_0 1 rfl rfl)
theorem dX2_bounded_2 : decode cX2_bounded 2 = .ok (.iconst 0, 1) := dk_3 (dk_at dksX2_bounded_0 2 rfl rfl)
theorem dX2_bounded_3 : decode cX2_bounded 3 = .ok (.iconst 0, 1) := dk_3 (dk_at dksX2_bounded_0 3 rfl rfl)
theorem dX2_bounded_4 : decode cX2_bounded 4 = .ok (.invokevirtual 110, 3) := dk_182 0 110 (dk_at dksX2_bounded_0 4 rfl rfl)
theorem dX2_bounded_7 : decode cX2_bounded 7 = .ok (.aload_n 0, 1) := dk_42 (dk_at dksX2_bounded_0 7 rfl rfl)
theorem dX2_bounded_8 : decode cX2_bounded 8 = .ok (.invokevirtual 82, 3) := dk_182 0 82 (dk_at dksX2_bounded_0 8 rfl rfl)
theorem dX2_bounded_11 : decode cX2_bounded 11 = .ok (.bipush 40, 2) := dk_16 40 (dk_at dksX2_bounded_0 11 rfl rfl)
theorem dX2_bounded_13 : decode cX2_bounded 13 = .ok (.if_icmp .eq 5, 3) := dk_159 0 5 (dk_at dksX2_bounded_0 13 rfl rfl)
theorem dX2_bounded_16 : decode cX2_bounded 16 = .ok (.iconst 1, 1) := dk_4 (dk_at dksX2_bounded_0 16 rfl rfl)
theorem dX2_bounded_17 : decode cX2_bounded 17 = .ok (.ireturn, 1) := dk_172 (dk_at dksX2_bounded_0 17 rfl rfl)
theorem dX2_bounded_18 : decode cX2_bounded 18 = .ok (.aload_n 0, 1) := dk_42 (dk_at dksX2_bounded_0 18 rfl rfl)
theorem dX2_bounded_19 : decode cX2_bounded 19 = .ok (.invokevirtual 116, 3) := dk_182 0 116 (dk_at dksX2_bounded_0 19 rfl rfl)
theorem dX2_bounded_22 : decode cX2_bounded 22 = .ok (.ifCond .ne 5, 3) := dk_154 0 5 (dk_at dksX2_bounded_1 0 rfl rfl)
theorem dX2_bounded_25 : decode cX2_bounded 25 = .ok (.iconst 0, 1) := dk_3 (dk_at dksX2_bounded_1 3 rfl rfl)
theorem dX2_bounded_26 : decode cX2_bounded 26 = .ok (.ireturn, 1) := dk_172 (dk_at dksX2_bounded_1 4 rfl rfl)
theorem dX2_bounded_27 : decode cX2_bounded 27 = .ok (.aload_n 0, 1) := dk_42 (dk_at dksX2_bounded_1 5 rfl rfl)
theorem dX2_bounded_28 : decode cX2_bounded 28 = .ok (.getfield 101, 3) := dk_180 0 101 (dk_at dksX2_bounded_1 6 rfl rfl)
theorem dX2_bounded_31 : decode cX2_bounded 31 = .ok (.ifCond .lt 23, 3) := dk_155 0 23 (dk_at dksX2_bounded_1 9 rfl rfl)
theorem dX2_bounded_34 : decode cX2_bounded 34 = .ok (.aload_n 0, 1) := dk_42 (dk_at dksX2_bounded_1 12 rfl rfl)
theorem dX2_bounded_35 : decode cX2_bounded 35 = .ok (.getfield 107, 3) := dk_180 0 107 (dk_at dksX2_bounded_1 13 rfl rfl)
theorem dX2_bounded_38 : decode cX2_bounded 38 = .ok (.aload_n 0, 1) := dk_42 (dk_at dksX2_bounded_1 16 rfl rfl)
theorem dX2_bounded_39 : decode cX2_bounded 39 = .ok (.getfield 101, 3) := dk_180 0 101 (dk_at dksX2_bounded_1 17 rfl rfl)
theorem dX2_bounded_42 : decode cX2_bounded 42 = .ok (.if_icmp .lt 12, 3) := dk_161 0 12 (dk_at dksX2_bounded_1 20 rfl rfl)
theorem dX2_bounded_45 : decode cX2_bounded 45 = .ok (.aload_n 0, 1) := dk_42 (dk_at dksX2_bounded_1 23 rfl rfl)
theorem dX2_bounded_46 : decode cX2_bounded 46 = .ok (.getfield 107, 3) := dk_180 0 107 (dk_at dksX2_bounded_2 0 rfl rfl)
theorem dX2_bounded_49 : decode cX2_bounded 49 = .ok (.bipush 20, 2) := dk_16 20 (dk_at dksX2_bounded_2 3 rfl rfl)
theorem dX2_bounded_51 : decode cX2_bounded 51 = .ok (.if_icmp .le 15, 3) := dk_164 0 15 (dk_at dksX2_bounded_2 5 rfl rfl)
theorem dX2_bounded_54 : decode cX2_bounded 54 = .ok (.aload_n 0, 1) := dk_42 (dk_at dksX2_bounded_2 8 rfl rfl)
theorem dX2_bounded_55 : decode cX2_bounded 55 = .ok (.iconst 4, 1) := dk_7 (dk_at dksX2_bounded_2 9 rfl rfl)
theorem dX2_bounded_56 : decode cX2_bounded 56 = .ok (.aload_n 0, 1) := dk_42 (dk_at dksX2_bounded_2 10 rfl rfl)
theorem dX2_bounded_57 : decode cX2_bounded 57 = .ok (.getfield 61, 3) := dk_180 0 61 (dk_at dksX2_bounded_2 11 rfl rfl)
theorem dX2_bounded_60 : decode cX2_bounded 60 = .ok (.iconst 1, 1) := dk_4 (dk_at dksX2_bounded_2 14 rfl rfl)
theorem dX2_bounded_61 : decode cX2_bounded 61 = .ok (.isub, 1) := dk_100 (dk_at dksX2_bounded_2 15 rfl rfl)
theorem dX2_bounded_62 : decode cX2_bounded 62 = .ok (.invokevirtual 78, 3) := dk_182 0 78 (dk_at dksX2_bounded_2 16 rfl rfl)
theorem dX2_bounded_65 : decode cX2_bounded 65 = .ok (.ireturn, 1) := dk_172 (dk_at dksX2_bounded_2 19 rfl rfl)
theorem dX2_bounded_66 : decode cX2_bounded 66 = .ok (.aload_n 1, 1) := dk_43 (dk_at dksX2_bounded_2 20 rfl rfl)
theorem dX2_bounded_67 : decode cX2_bounded 67 = .ok (.iconst 1, 1) := dk_4 (dk_at dksX2_bounded_2 21 rfl rfl)
theorem dX2_bounded_68 : decode cX2_bounded 68 = .ok (.aload_n 0, 1) := dk_42 (dk_at dksX2_bounded_2 22 rfl rfl)
theorem dX2_bounded_69 : decode cX2_bounded 69 = .ok (.getfield 101, 3) := dk_180 0 101 (dk_at dksX2_bounded_3 0 rfl rfl)
theorem dX2_bounded_72 : decode cX2_bounded 72 = .ok (.aload_n 0, 1) := dk_42 (dk_at dksX2_bounded_3 3 rfl rfl)
theorem dX2_bounded_73 : decode cX2_bounded 73 = .ok (.getfield 107, 3) := dk_180 0 107 (dk_at dksX2_bounded_3 4 rfl rfl)
theorem dX2_bounded_76 : decode cX2_bounded 76 = .ok (.invokevirtual 110, 3) := dk_182 0 110 (dk_at dksX2_bounded_3 7 rfl rfl)
theorem dX2_bounded_79 : decode cX2_bounded 79 = .ok (.iconst 1, 1) := dk_4 (dk_at dksX2_bounded_3 10 rfl rfl)
theorem dX2_bounded_80 : decode cX2_bounded 80 = .ok (.ireturn, 1) := dk_172 (dk_at dksX2_bounded_3 11 rfl rfl)
abbrev cX2_seriesOf : ByteArray := prog_3_method_20_code
def yX2_seriesOf : MethodName := ⟨RX2, "seriesOf", "(LNotationDesk$Compiler;II)LNotationDesk$Type;"⟩
def dkwX2_seriesOf_2 : List UInt8 := [167, 0, 4, 1, 181, 0, 183, 45, 180, 0, 183, 199, 0, 7, 1, 167, 0, 4, 45, 176]
abbrev dktX2_seriesOf_2 : List UInt8 := dkwX2_seriesOf_2 ++ []
def dkwX2_seriesOf_1 : List UInt8 := [180, 0, 41, 27, 50, 78, 45, 42, 45, 180, 0, 182, 182, 0, 177, 153, 0, 11, 42, 28, 184, 0, 94]
abbrev dktX2_seriesOf_1 : List UInt8 := dkwX2_seriesOf_1 ++ dktX2_seriesOf_2
def dkwX2_seriesOf_0 : List UInt8 := [42, 180, 0, 41, 27, 50, 199, 0, 16, 42, 180, 0, 41, 27, 187, 0, 39, 89, 183, 0, 181, 83, 42]
abbrev dktX2_seriesOf_0 : List UInt8 := dkwX2_seriesOf_0 ++ dktX2_seriesOf_1
theorem dksX2_seriesOf_0 : cX2_seriesOf.data.toList.drop 0 = dktX2_seriesOf_0 := by decide +kernel
theorem dksX2_seriesOf_1 : cX2_seriesOf.data.toList.drop 23 = dktX2_seriesOf_1 := dk_seg dksX2_seriesOf_0 23 rfl rfl
theorem dksX2_seriesOf_2 : cX2_seriesOf.data.toList.drop 46 = dktX2_seriesOf_2 := dk_seg dksX2_seriesOf_1 23 rfl rfl
theorem dX2_seriesOf_0 : decode cX2_seriesOf 0 = .ok (.aload_n 0, 1) := dk_42 (dk_at dksX2_seriesOf_0 0 rfl rfl)
theorem dX2_seriesOf_1 : decode cX2_seriesOf 1 = .ok (.getfield 41, 3) := dk_180 0 41 (dk_at dksX2_seriesOf_0 1 rfl rfl)
theorem dX2_seriesOf_4 : decode cX2_seriesOf 4 = .ok (.iload_n 1, 1) := dk_27 (dk_at dksX2_seriesOf_0 4 rfl rfl)
theorem dX2_seriesOf_5 : decode cX2_seriesOf 5 = .ok (.aaload, 1) := dk_50 (dk_at dksX2_seriesOf_0 5 rfl rfl)
theorem dX2_seriesOf_6 : decode cX2_seriesOf 6 = .ok (.ifnonnull 16, 3) := dk_199 0 16 (dk_at dksX2_seriesOf_0 6 rfl rfl)
theorem dX2_seriesOf_9 : decode cX2_seriesOf 9 = .ok (.aload_n 0, 1) := dk_42 (dk_at dksX2_seriesOf_0 9 rfl rfl)
theorem dX2_seriesOf_10 : decode cX2_seriesOf 10 = .ok (.getfield 41, 3) := dk_180 0 41 (dk_at dksX2_seriesOf_0 10 rfl rfl)
theorem dX2_seriesOf_13 : decode cX2_seriesOf 13 = .ok (.iload_n 1, 1) := dk_27 (dk_at dksX2_seriesOf_0 13 rfl rfl)
theorem dX2_seriesOf_14 : decode cX2_seriesOf 14 = .ok (.new 39, 3) := dk_187 0 39 (dk_at dksX2_seriesOf_0 14 rfl rfl)
theorem dX2_seriesOf_17 : decode cX2_seriesOf 17 = .ok (.dup, 1) := dk_89 (dk_at dksX2_seriesOf_0 17 rfl rfl)
theorem dX2_seriesOf_18 : decode cX2_seriesOf 18 = .ok (.invokespecial 181, 3) := dk_183 0 181 (dk_at dksX2_seriesOf_0 18 rfl rfl)
theorem dX2_seriesOf_21 : decode cX2_seriesOf 21 = .ok (.aastore, 1) := dk_83 (dk_at dksX2_seriesOf_0 21 rfl rfl)
theorem dX2_seriesOf_22 : decode cX2_seriesOf 22 = .ok (.aload_n 0, 1) := dk_42 (dk_at dksX2_seriesOf_0 22 rfl rfl)
theorem dX2_seriesOf_23 : decode cX2_seriesOf 23 = .ok (.getfield 41, 3) := dk_180 0 41 (dk_at dksX2_seriesOf_1 0 rfl rfl)
theorem dX2_seriesOf_26 : decode cX2_seriesOf 26 = .ok (.iload_n 1, 1) := dk_27 (dk_at dksX2_seriesOf_1 3 rfl rfl)
theorem dX2_seriesOf_27 : decode cX2_seriesOf 27 = .ok (.aaload, 1) := dk_50 (dk_at dksX2_seriesOf_1 4 rfl rfl)
theorem dX2_seriesOf_28 : decode cX2_seriesOf 28 = .ok (.astore_n 3, 1) := dk_78 (dk_at dksX2_seriesOf_1 5 rfl rfl)
theorem dX2_seriesOf_29 : decode cX2_seriesOf 29 = .ok (.aload_n 3, 1) := dk_45 (dk_at dksX2_seriesOf_1 6 rfl rfl)
theorem dX2_seriesOf_30 : decode cX2_seriesOf 30 = .ok (.aload_n 0, 1) := dk_42 (dk_at dksX2_seriesOf_1 7 rfl rfl)
theorem dX2_seriesOf_31 : decode cX2_seriesOf 31 = .ok (.aload_n 3, 1) := dk_45 (dk_at dksX2_seriesOf_1 8 rfl rfl)
theorem dX2_seriesOf_32 : decode cX2_seriesOf 32 = .ok (.getfield 182, 3) := dk_180 0 182 (dk_at dksX2_seriesOf_1 9 rfl rfl)
theorem dX2_seriesOf_35 : decode cX2_seriesOf 35 = .ok (.invokevirtual 177, 3) := dk_182 0 177 (dk_at dksX2_seriesOf_1 12 rfl rfl)
theorem dX2_seriesOf_38 : decode cX2_seriesOf 38 = .ok (.ifCond .eq 11, 3) := dk_153 0 11 (dk_at dksX2_seriesOf_1 15 rfl rfl)
theorem dX2_seriesOf_41 : decode cX2_seriesOf 41 = .ok (.aload_n 0, 1) := dk_42 (dk_at dksX2_seriesOf_1 18 rfl rfl)
theorem dX2_seriesOf_42 : decode cX2_seriesOf 42 = .ok (.iload_n 2, 1) := dk_28 (dk_at dksX2_seriesOf_1 19 rfl rfl)
theorem dX2_seriesOf_43 : decode cX2_seriesOf 43 = .ok (.invokestatic 94, 3) := dk_184 0 94 (dk_at dksX2_seriesOf_1 20 rfl rfl)
theorem dX2_seriesOf_46 : decode cX2_seriesOf 46 = .ok (.goto 4, 3) := dk_167 0 4 (dk_at dksX2_seriesOf_2 0 rfl rfl)
theorem dX2_seriesOf_49 : decode cX2_seriesOf 49 = .ok (.aconst_null, 1) := dk_1 (dk_at dksX2_seriesOf_2 3 rfl rfl)
theorem dX2_seriesOf_50 : decode cX2_seriesOf 50 = .ok (.putfield 183, 3) := dk_181 0 183 (dk_at dksX2_seriesOf_2 4 rfl rfl)
theorem dX2_seriesOf_53 : decode cX2_seriesOf 53 = .ok (.aload_n 3, 1) := dk_45 (dk_at dksX2_seriesOf_2 7 rfl rfl)
theorem dX2_seriesOf_54 : decode cX2_seriesOf 54 = .ok (.getfield 183, 3) := dk_180 0 183 (dk_at dksX2_seriesOf_2 8 rfl rfl)
theorem dX2_seriesOf_57 : decode cX2_seriesOf 57 = .ok (.ifnonnull 7, 3) := dk_199 0 7 (dk_at dksX2_seriesOf_2 11 rfl rfl)
theorem dX2_seriesOf_60 : decode cX2_seriesOf 60 = .ok (.aconst_null, 1) := dk_1 (dk_at dksX2_seriesOf_2 14 rfl rfl)
theorem dX2_seriesOf_61 : decode cX2_seriesOf 61 = .ok (.goto 4, 3) := dk_167 0 4 (dk_at dksX2_seriesOf_2 15 rfl rfl)
theorem dX2_seriesOf_64 : decode cX2_seriesOf 64 = .ok (.aload_n 3, 1) := dk_45 (dk_at dksX2_seriesOf_2 18 rfl rfl)
theorem dX2_seriesOf_65 : decode cX2_seriesOf 65 = .ok (.areturn, 1) := dk_176 (dk_at dksX2_seriesOf_2 19 rfl rfl)
theorem q87 : (Jvm.Cond.initialized "NotationDesk$Compiler") ∈ lw_all := lw_g (lw_at lw_m1 2 rfl) rfl
theorem q122 : (Jvm.Cond.instantiable "NotationDesk$Compiler" (15 : Nat)) ∈ lw_all := lw_g (lw_at lw_m1 37 rfl) rfl
theorem q124 : (Jvm.Cond.instanceMethod ({ cls := "NotationDesk$Compiler", name := "<init>", desc := "()V" } : Jvm.MethodName)) ∈ lw_all := lw_g (lw_at lw_m1 39 rfl) rfl
theorem q125 : (Jvm.Cond.code ({ cls := "NotationDesk$Compiler", name := "<init>", desc := "()V" } : Jvm.MethodName) prog_3_method_1_code (1 : Nat) (Option.none : Option Jvm.ClassFile.FieldType)) ∈ lw_all := lw_g (lw_at lw_m1 40 rfl) rfl
theorem q126 : (Jvm.Cond.methodLink "NotationDesk$Compiler" (3 : Nat) ({ cls := "java/lang/Object", name := "<init>", desc := "()V" } : Jvm.MethodName)) ∈ lw_all := lw_g (lw_at lw_m1 41 rfl) rfl
theorem q127 : (Jvm.Cond.classLink "NotationDesk$Compiler" (15 : Nat) "NotationDesk$Type") ∈ lw_all := lw_g (lw_at lw_m1 42 rfl) rfl
theorem q129 : (Jvm.Cond.classLink "NotationDesk$Compiler" (21 : Nat) "NotationDesk$Numeric") ∈ lw_all := lw_g (lw_at lw_m1 44 rfl) rfl
theorem q131 : (Jvm.Cond.classLink "NotationDesk$Compiler" (27 : Nat) "NotationDesk$Octets") ∈ lw_all := lw_g (lw_at lw_m1 46 rfl) rfl
theorem q133 : (Jvm.Cond.classLink "NotationDesk$Compiler" (33 : Nat) "NotationDesk$Sequence") ∈ lw_all := lw_g (lw_at lw_m1 48 rfl) rfl
theorem q135 : (Jvm.Cond.classLink "NotationDesk$Compiler" (39 : Nat) "NotationDesk$Series") ∈ lw_all := lw_g (lw_at lw_m1 50 rfl) rfl
theorem q137 : (Jvm.Cond.classLink "NotationDesk$Compiler" (45 : Nat) "NotationDesk$Choice") ∈ lw_all := lw_g (lw_at lw_m1 52 rfl) rfl
theorem q139 : (Jvm.Cond.classLink "NotationDesk$Compiler" (51 : Nat) "NotationDesk$Tagged") ∈ lw_all := lw_g (lw_at lw_m1 54 rfl) rfl
theorem q141 : (Jvm.Cond.fieldLink "NotationDesk$Compiler" (9 : Nat) "NotationDesk$Compiler" "text" "[C") ∈ lw_all := lw_g (lw_at lw_m1 56 rfl) rfl
theorem q143 : (Jvm.Cond.fieldLink "NotationDesk$Compiler" (75 : Nat) "NotationDesk$Compiler" "size" "I") ∈ lw_all := lw_g (lw_at lw_m1 58 rfl) rfl
theorem q145 : (Jvm.Cond.fieldLink "NotationDesk$Compiler" (61 : Nat) "NotationDesk$Compiler" "at" "I") ∈ lw_all := lw_g (lw_at lw_m1 60 rfl) rfl
theorem q146 : (Jvm.Cond.fieldLink "NotationDesk$Compiler" (65 : Nat) "NotationDesk$Compiler" "fault" "I") ∈ lw_all := lw_g (lw_at lw_m1 61 rfl) rfl
theorem q148 : (Jvm.Cond.fieldLink "NotationDesk$Compiler" (17 : Nat) "NotationDesk$Compiler" "names" "[LNotationDesk$Type;") ∈ lw_all := lw_g (lw_at lw_m1 63 rfl) rfl
theorem q150 : (Jvm.Cond.fieldLink "NotationDesk$Compiler" (23 : Nat) "NotationDesk$Compiler" "numerics" "[LNotationDesk$Numeric;") ∈ lw_all := lw_g (lw_at lw_m1 65 rfl) rfl
theorem q151 : (Jvm.Cond.fieldLink "NotationDesk$Compiler" (29 : Nat) "NotationDesk$Compiler" "octets" "[LNotationDesk$Octets;") ∈ lw_all := lw_g (lw_at lw_m1 66 rfl) rfl
theorem q152 : (Jvm.Cond.fieldLink "NotationDesk$Compiler" (35 : Nat) "NotationDesk$Compiler" "sequences" "[LNotationDesk$Sequence;") ∈ lw_all := lw_g (lw_at lw_m1 67 rfl) rfl
theorem q153 : (Jvm.Cond.fieldLink "NotationDesk$Compiler" (41 : Nat) "NotationDesk$Compiler" "series" "[LNotationDesk$Series;") ∈ lw_all := lw_g (lw_at lw_m1 68 rfl) rfl
theorem q154 : (Jvm.Cond.fieldLink "NotationDesk$Compiler" (47 : Nat) "NotationDesk$Compiler" "choices" "[LNotationDesk$Choice;") ∈ lw_all := lw_g (lw_at lw_m1 69 rfl) rfl
theorem q155 : (Jvm.Cond.fieldLink "NotationDesk$Compiler" (53 : Nat) "NotationDesk$Compiler" "tagged" "[LNotationDesk$Tagged;") ∈ lw_all := lw_g (lw_at lw_m1 70 rfl) rfl
theorem q156 : (Jvm.Cond.fieldLink "NotationDesk$Compiler" (57 : Nat) "NotationDesk$Compiler" "places" "[I") ∈ lw_all := lw_g (lw_at lw_m1 71 rfl) rfl
theorem q157 : (Jvm.Cond.fieldLink "NotationDesk$Compiler" (68 : Nat) "NotationDesk$Compiler" "open" "I") ∈ lw_all := lw_g (lw_at lw_m1 72 rfl) rfl
theorem q158 : (Jvm.Cond.fieldLink "NotationDesk$Compiler" (101 : Nat) "NotationDesk$Compiler" "low" "I") ∈ lw_all := lw_g (lw_at lw_m1 73 rfl) rfl
theorem q159 : (Jvm.Cond.fieldLink "NotationDesk$Compiler" (107 : Nat) "NotationDesk$Compiler" "high" "I") ∈ lw_all := lw_g (lw_at lw_m1 74 rfl) rfl
theorem q160 : (Jvm.Cond.laysFinal "NotationDesk$Compiler" "NotationDesk$Compiler" "text" "[C") ∈ lw_all := lw_g (lw_at lw_m1 75 rfl) rfl
theorem q161 : (Jvm.Cond.soleField "NotationDesk$Compiler" "text") ∈ lw_all := lw_g (lw_at lw_m1 76 rfl) rfl
theorem q162 : (Jvm.Cond.lays "NotationDesk$Compiler" "NotationDesk$Compiler" "size" "I") ∈ lw_all := lw_g (lw_at lw_m1 77 rfl) rfl
theorem q163 : (Jvm.Cond.soleField "NotationDesk$Compiler" "size") ∈ lw_all := lw_g (lw_at lw_m1 78 rfl) rfl
theorem q164 : (Jvm.Cond.lays "NotationDesk$Compiler" "NotationDesk$Compiler" "at" "I") ∈ lw_all := lw_g (lw_at lw_m1 79 rfl) rfl
theorem q165 : (Jvm.Cond.soleField "NotationDesk$Compiler" "at") ∈ lw_all := lw_g (lw_at lw_m1 80 rfl) rfl
theorem q166 : (Jvm.Cond.lays "NotationDesk$Compiler" "NotationDesk$Compiler" "fault" "I") ∈ lw_all := lw_g (lw_at lw_m1 81 rfl) rfl
theorem q167 : (Jvm.Cond.soleField "NotationDesk$Compiler" "fault") ∈ lw_all := lw_g (lw_at lw_m1 82 rfl) rfl
theorem q168 : (Jvm.Cond.laysFinal "NotationDesk$Compiler" "NotationDesk$Compiler" "names" "[LNotationDesk$Type;") ∈ lw_all := lw_g (lw_at lw_m1 83 rfl) rfl
theorem q169 : (Jvm.Cond.soleField "NotationDesk$Compiler" "names") ∈ lw_all := lw_g (lw_at lw_m1 84 rfl) rfl
theorem q170 : (Jvm.Cond.laysFinal "NotationDesk$Compiler" "NotationDesk$Compiler" "numerics" "[LNotationDesk$Numeric;") ∈ lw_all := lw_g (lw_at lw_m1 85 rfl) rfl
theorem q171 : (Jvm.Cond.soleField "NotationDesk$Compiler" "numerics") ∈ lw_all := lw_g (lw_at lw_m1 86 rfl) rfl
theorem q172 : (Jvm.Cond.laysFinal "NotationDesk$Compiler" "NotationDesk$Compiler" "octets" "[LNotationDesk$Octets;") ∈ lw_all := lw_g (lw_at lw_m1 87 rfl) rfl
theorem q173 : (Jvm.Cond.soleField "NotationDesk$Compiler" "octets") ∈ lw_all := lw_g (lw_at lw_m1 88 rfl) rfl
theorem q174 : (Jvm.Cond.laysFinal "NotationDesk$Compiler" "NotationDesk$Compiler" "sequences" "[LNotationDesk$Sequence;") ∈ lw_all := lw_g (lw_at lw_m1 89 rfl) rfl
theorem q175 : (Jvm.Cond.soleField "NotationDesk$Compiler" "sequences") ∈ lw_all := lw_g (lw_at lw_m1 90 rfl) rfl
theorem q176 : (Jvm.Cond.laysFinal "NotationDesk$Compiler" "NotationDesk$Compiler" "series" "[LNotationDesk$Series;") ∈ lw_all := lw_g (lw_at lw_m1 91 rfl) rfl
theorem q177 : (Jvm.Cond.soleField "NotationDesk$Compiler" "series") ∈ lw_all := lw_g (lw_at lw_m1 92 rfl) rfl
theorem q178 : (Jvm.Cond.laysFinal "NotationDesk$Compiler" "NotationDesk$Compiler" "choices" "[LNotationDesk$Choice;") ∈ lw_all := lw_g (lw_at lw_m1 93 rfl) rfl
theorem q179 : (Jvm.Cond.soleField "NotationDesk$Compiler" "choices") ∈ lw_all := lw_g (lw_at lw_m1 94 rfl) rfl
theorem q180 : (Jvm.Cond.laysFinal "NotationDesk$Compiler" "NotationDesk$Compiler" "tagged" "[LNotationDesk$Tagged;") ∈ lw_all := lw_g (lw_at lw_m1 95 rfl) rfl
theorem q181 : (Jvm.Cond.soleField "NotationDesk$Compiler" "tagged") ∈ lw_all := lw_g (lw_at lw_m1 96 rfl) rfl
theorem q182 : (Jvm.Cond.laysFinal "NotationDesk$Compiler" "NotationDesk$Compiler" "places" "[I") ∈ lw_all := lw_g (lw_at lw_m1 97 rfl) rfl
theorem q183 : (Jvm.Cond.soleField "NotationDesk$Compiler" "places") ∈ lw_all := lw_g (lw_at lw_m1 98 rfl) rfl
theorem q184 : (Jvm.Cond.lays "NotationDesk$Compiler" "NotationDesk$Compiler" "open" "I") ∈ lw_all := lw_g (lw_at lw_m1 99 rfl) rfl
theorem q185 : (Jvm.Cond.soleField "NotationDesk$Compiler" "open") ∈ lw_all := lw_g (lw_at lw_m1 100 rfl) rfl
theorem q186 : (Jvm.Cond.lays "NotationDesk$Compiler" "NotationDesk$Compiler" "low" "I") ∈ lw_all := lw_g (lw_at lw_m1 101 rfl) rfl
theorem q187 : (Jvm.Cond.soleField "NotationDesk$Compiler" "low") ∈ lw_all := lw_g (lw_at lw_m1 102 rfl) rfl
theorem q188 : (Jvm.Cond.lays "NotationDesk$Compiler" "NotationDesk$Compiler" "high" "I") ∈ lw_all := lw_g (lw_at lw_m1 103 rfl) rfl
theorem q189 : (Jvm.Cond.soleField "NotationDesk$Compiler" "high") ∈ lw_all := lw_g (lw_at lw_m1 104 rfl) rfl
theorem q190 : (Jvm.Cond.superclass "NotationDesk$Compiler" "java/lang/Object") ∈ lw_all := lw_g (lw_at lw_m1 105 rfl) rfl
theorem q343 : (Jvm.Cond.instanceMethod ({ cls := "NotationDesk$Compiler", name := "run", desc := "()Z" } : Jvm.MethodName)) ∈ lw_all := lw_g (lw_at lw_m2 18 rfl) rfl
theorem q344 : (Jvm.Cond.selects "NotationDesk$Compiler" ({ cls := "NotationDesk$Compiler", name := "run", desc := "()Z" } : Jvm.MethodName) ({ cls := "NotationDesk$Compiler", name := "run", desc := "()Z" } : Jvm.MethodName)) ∈ lw_all := lw_g (lw_at lw_m2 19 rfl) rfl
theorem q345 : (Jvm.Cond.code ({ cls := "NotationDesk$Compiler", name := "run", desc := "()Z" } : Jvm.MethodName) prog_3_method_2_code (2 : Nat) (Option.some Jvm.ClassFile.FieldType.boolean)) ∈ lw_all := lw_g (lw_at lw_m2 20 rfl) rfl
theorem q346 : (Jvm.Cond.methodLink "NotationDesk$Compiler" (71 : Nat) ({ cls := "NotationDesk$Compiler", name := "define", desc := "(LNotationDesk$Compiler;)Z" } : Jvm.MethodName)) ∈ lw_all := lw_g (lw_at lw_m2 21 rfl) rfl
theorem q347 : (Jvm.Cond.static ({ cls := "NotationDesk$Compiler", name := "define", desc := "(LNotationDesk$Compiler;)Z" } : Jvm.MethodName)) ∈ lw_all := lw_g (lw_at lw_m2 22 rfl) rfl
theorem q348 : (Jvm.Cond.code ({ cls := "NotationDesk$Compiler", name := "define", desc := "(LNotationDesk$Compiler;)Z" } : Jvm.MethodName) prog_3_method_8_code (3 : Nat) (Option.some Jvm.ClassFile.FieldType.boolean)) ∈ lw_all := lw_g (lw_at lw_m2 23 rfl) rfl
theorem q349 : (Jvm.Cond.methodLink "NotationDesk$Compiler" (86 : Nat) ({ cls := "NotationDesk$Compiler", name := "isName", desc := "()Z" } : Jvm.MethodName)) ∈ lw_all := lw_g (lw_at lw_m2 24 rfl) rfl
theorem q350 : (Jvm.Cond.privateMethod ({ cls := "NotationDesk$Compiler", name := "isName", desc := "()Z" } : Jvm.MethodName)) ∈ lw_tbl := lw_at lw_m2 25 rfl
theorem q351 : (Jvm.Cond.instanceMethod ({ cls := "NotationDesk$Compiler", name := "isName", desc := "()Z" } : Jvm.MethodName)) ∈ lw_all := lw_g (lw_at lw_m2 26 rfl) rfl
theorem q352 : (Jvm.Cond.code ({ cls := "NotationDesk$Compiler", name := "isName", desc := "()Z" } : Jvm.MethodName) prog_3_method_7_code (1 : Nat) (Option.some Jvm.ClassFile.FieldType.boolean)) ∈ lw_all := lw_g (lw_at lw_m2 27 rfl) rfl
theorem q353 : (Jvm.Cond.methodLink "NotationDesk$Compiler" (82 : Nat) ({ cls := "NotationDesk$Compiler", name := "look", desc := "()I" } : Jvm.MethodName)) ∈ lw_all := lw_g (lw_at lw_m2 28 rfl) rfl
theorem q354 : (Jvm.Cond.privateMethod ({ cls := "NotationDesk$Compiler", name := "look", desc := "()I" } : Jvm.MethodName)) ∈ lw_tbl := lw_at lw_m2 29 rfl
theorem q355 : (Jvm.Cond.instanceMethod ({ cls := "NotationDesk$Compiler", name := "look", desc := "()I" } : Jvm.MethodName)) ∈ lw_all := lw_g (lw_at lw_m2 30 rfl) rfl
theorem q356 : (Jvm.Cond.code ({ cls := "NotationDesk$Compiler", name := "look", desc := "()I" } : Jvm.MethodName) prog_3_method_3_code (1 : Nat) (Option.some Jvm.ClassFile.FieldType.int)) ∈ lw_all := lw_g (lw_at lw_m2 31 rfl) rfl
theorem q357 : (Jvm.Cond.methodLink "NotationDesk$Compiler" (78 : Nat) ({ cls := "NotationDesk$Compiler", name := "wrong", desc := "(II)Z" } : Jvm.MethodName)) ∈ lw_all := lw_g (lw_at lw_m2 32 rfl) rfl
theorem q358 : (Jvm.Cond.privateMethod ({ cls := "NotationDesk$Compiler", name := "wrong", desc := "(II)Z" } : Jvm.MethodName)) ∈ lw_tbl := lw_at lw_m2 33 rfl
theorem q359 : (Jvm.Cond.instanceMethod ({ cls := "NotationDesk$Compiler", name := "wrong", desc := "(II)Z" } : Jvm.MethodName)) ∈ lw_all := lw_g (lw_at lw_m2 34 rfl) rfl
theorem q360 : (Jvm.Cond.code ({ cls := "NotationDesk$Compiler", name := "wrong", desc := "(II)Z" } : Jvm.MethodName) prog_3_method_4_code (3 : Nat) (Option.some Jvm.ClassFile.FieldType.boolean)) ∈ lw_all := lw_g (lw_at lw_m2 35 rfl) rfl
theorem q361 : (Jvm.Cond.methodLink "NotationDesk$Compiler" (90 : Nat) ({ cls := "NotationDesk$Compiler", name := "expect", desc := "(I)Z" } : Jvm.MethodName)) ∈ lw_all := lw_g (lw_at lw_m2 36 rfl) rfl
theorem q362 : (Jvm.Cond.privateMethod ({ cls := "NotationDesk$Compiler", name := "expect", desc := "(I)Z" } : Jvm.MethodName)) ∈ lw_tbl := lw_at lw_m2 37 rfl
theorem q363 : (Jvm.Cond.instanceMethod ({ cls := "NotationDesk$Compiler", name := "expect", desc := "(I)Z" } : Jvm.MethodName)) ∈ lw_all := lw_g (lw_at lw_m2 38 rfl) rfl
theorem q364 : (Jvm.Cond.code ({ cls := "NotationDesk$Compiler", name := "expect", desc := "(I)Z" } : Jvm.MethodName) prog_3_method_6_code (2 : Nat) (Option.some Jvm.ClassFile.FieldType.boolean)) ∈ lw_all := lw_g (lw_at lw_m2 39 rfl) rfl
theorem q365 : (Jvm.Cond.methodLink "NotationDesk$Compiler" (94 : Nat) ({ cls := "NotationDesk$Compiler", name := "typeOf", desc := "(LNotationDesk$Compiler;I)LNotationDesk$Type;" } : Jvm.MethodName)) ∈ lw_all := lw_g (lw_at lw_m2 40 rfl) rfl
theorem q366 : (Jvm.Cond.static ({ cls := "NotationDesk$Compiler", name := "typeOf", desc := "(LNotationDesk$Compiler;I)LNotationDesk$Type;" } : Jvm.MethodName)) ∈ lw_all := lw_g (lw_at lw_m2 41 rfl) rfl
theorem q367 : (Jvm.Cond.code ({ cls := "NotationDesk$Compiler", name := "typeOf", desc := "(LNotationDesk$Compiler;I)LNotationDesk$Type;" } : Jvm.MethodName) prog_3_method_12_code (6 : Nat) (Option.some (Jvm.ClassFile.FieldType.object "NotationDesk$Type"))) ∈ lw_all := lw_g (lw_at lw_m2 42 rfl) rfl
theorem q368 : (Jvm.Cond.methodLink "NotationDesk$Compiler" (119 : Nat) ({ cls := "NotationDesk$Compiler", name := "isTag", desc := "()Z" } : Jvm.MethodName)) ∈ lw_all := lw_g (lw_at lw_m2 43 rfl) rfl
theorem q369 : (Jvm.Cond.privateMethod ({ cls := "NotationDesk$Compiler", name := "isTag", desc := "()Z" } : Jvm.MethodName)) ∈ lw_tbl := lw_at lw_m2 44 rfl
theorem q370 : (Jvm.Cond.instanceMethod ({ cls := "NotationDesk$Compiler", name := "isTag", desc := "()Z" } : Jvm.MethodName)) ∈ lw_all := lw_g (lw_at lw_m2 45 rfl) rfl
theorem q371 : (Jvm.Cond.code ({ cls := "NotationDesk$Compiler", name := "isTag", desc := "()Z" } : Jvm.MethodName) prog_3_method_13_code (1 : Nat) (Option.some Jvm.ClassFile.FieldType.boolean)) ∈ lw_all := lw_g (lw_at lw_m2 46 rfl) rfl
theorem q372 : (Jvm.Cond.methodLinkNest "NotationDesk$Compiler" (98 : Nat) ({ cls := "NotationDesk", name := "isDigit", desc := "(I)Z" } : Jvm.MethodName) "NotationDesk") ∈ lw_tbl := lw_at lw_m2 47 rfl
theorem q375 : (Jvm.Cond.methodLink "NotationDesk$Compiler" (122 : Nat) ({ cls := "NotationDesk$Compiler", name := "bodyOf", desc := "(LNotationDesk$Compiler;I)LNotationDesk$Type;" } : Jvm.MethodName)) ∈ lw_all := lw_g (lw_at lw_m2 50 rfl) rfl
theorem q376 : (Jvm.Cond.static ({ cls := "NotationDesk$Compiler", name := "bodyOf", desc := "(LNotationDesk$Compiler;I)LNotationDesk$Type;" } : Jvm.MethodName)) ∈ lw_all := lw_g (lw_at lw_m2 51 rfl) rfl
theorem q377 : (Jvm.Cond.code ({ cls := "NotationDesk$Compiler", name := "bodyOf", desc := "(LNotationDesk$Compiler;I)LNotationDesk$Type;" } : Jvm.MethodName) prog_3_method_15_code (4 : Nat) (Option.some (Jvm.ClassFile.FieldType.object "NotationDesk$Type"))) ∈ lw_all := lw_g (lw_at lw_m2 52 rfl) rfl
theorem q378 : (Jvm.Cond.methodLink "NotationDesk$Compiler" (129 : Nat) ({ cls := "NotationDesk$Compiler", name := "named", desc := "(I)LNotationDesk$Type;" } : Jvm.MethodName)) ∈ lw_all := lw_g (lw_at lw_m2 53 rfl) rfl
theorem q379 : (Jvm.Cond.privateMethod ({ cls := "NotationDesk$Compiler", name := "named", desc := "(I)LNotationDesk$Type;" } : Jvm.MethodName)) ∈ lw_tbl := lw_at lw_m2 54 rfl
theorem q380 : (Jvm.Cond.instanceMethod ({ cls := "NotationDesk$Compiler", name := "named", desc := "(I)LNotationDesk$Type;" } : Jvm.MethodName)) ∈ lw_all := lw_g (lw_at lw_m2 55 rfl) rfl
theorem q381 : (Jvm.Cond.code ({ cls := "NotationDesk$Compiler", name := "named", desc := "(I)LNotationDesk$Type;" } : Jvm.MethodName) prog_3_method_17_code (3 : Nat) (Option.some (Jvm.ClassFile.FieldType.object "NotationDesk$Type"))) ∈ lw_all := lw_g (lw_at lw_m2 56 rfl) rfl
theorem q382 : (Jvm.Cond.methodLink "NotationDesk$Compiler" (136 : Nat) ({ cls := "NotationDesk$Compiler", name := "noType", desc := "(II)LNotationDesk$Type;" } : Jvm.MethodName)) ∈ lw_all := lw_g (lw_at lw_m2 57 rfl) rfl
theorem q383 : (Jvm.Cond.privateMethod ({ cls := "NotationDesk$Compiler", name := "noType", desc := "(II)LNotationDesk$Type;" } : Jvm.MethodName)) ∈ lw_tbl := lw_at lw_m2 58 rfl
theorem q384 : (Jvm.Cond.instanceMethod ({ cls := "NotationDesk$Compiler", name := "noType", desc := "(II)LNotationDesk$Type;" } : Jvm.MethodName)) ∈ lw_all := lw_g (lw_at lw_m2 59 rfl) rfl
theorem q385 : (Jvm.Cond.code ({ cls := "NotationDesk$Compiler", name := "noType", desc := "(II)LNotationDesk$Type;" } : Jvm.MethodName) prog_3_method_5_code (3 : Nat) (Option.some (Jvm.ClassFile.FieldType.object "NotationDesk$Type"))) ∈ lw_all := lw_g (lw_at lw_m2 60 rfl) rfl
theorem q386 : (Jvm.Cond.methodLink "NotationDesk$Compiler" (164 : Nat) ({ cls := "NotationDesk$Type", name := "height", desc := "()I" } : Jvm.MethodName)) ∈ lw_all := lw_g (lw_at lw_m2 61 rfl) rfl
theorem q406 : (Jvm.Cond.methodLink "NotationDesk$Compiler" (133 : Nat) ({ cls := "NotationDesk$Compiler", name := "isLetter", desc := "(I)Z" } : Jvm.MethodName)) ∈ lw_all := lw_g (lw_at lw_m2 81 rfl) rfl
theorem q407 : (Jvm.Cond.static ({ cls := "NotationDesk$Compiler", name := "isLetter", desc := "(I)Z" } : Jvm.MethodName)) ∈ lw_all := lw_g (lw_at lw_m2 82 rfl) rfl
theorem q408 : (Jvm.Cond.code ({ cls := "NotationDesk$Compiler", name := "isLetter", desc := "(I)Z" } : Jvm.MethodName) prog_3_method_14_code (1 : Nat) (Option.some Jvm.ClassFile.FieldType.boolean)) ∈ lw_all := lw_g (lw_at lw_m2 83 rfl) rfl
theorem q409 : (Jvm.Cond.methodLink "NotationDesk$Compiler" (140 : Nat) ({ cls := "NotationDesk$Compiler", name := "numeric", desc := "(I)LNotationDesk$Numeric;" } : Jvm.MethodName)) ∈ lw_all := lw_g (lw_at lw_m2 84 rfl) rfl
theorem q410 : (Jvm.Cond.privateMethod ({ cls := "NotationDesk$Compiler", name := "numeric", desc := "(I)LNotationDesk$Numeric;" } : Jvm.MethodName)) ∈ lw_tbl := lw_at lw_m2 85 rfl
theorem q411 : (Jvm.Cond.instanceMethod ({ cls := "NotationDesk$Compiler", name := "numeric", desc := "(I)LNotationDesk$Numeric;" } : Jvm.MethodName)) ∈ lw_all := lw_g (lw_at lw_m2 86 rfl) rfl
theorem q412 : (Jvm.Cond.code ({ cls := "NotationDesk$Compiler", name := "numeric", desc := "(I)LNotationDesk$Numeric;" } : Jvm.MethodName) prog_3_method_16_code (2 : Nat) (Option.some (Jvm.ClassFile.FieldType.object "NotationDesk$Numeric"))) ∈ lw_all := lw_g (lw_at lw_m2 87 rfl) rfl
theorem q414 : (Jvm.Cond.methodLinkNest "NotationDesk$Compiler" (163 : Nat) ({ cls := "NotationDesk$Numeric", name := "<init>", desc := "()V" } : Jvm.MethodName) "NotationDesk") ∈ lw_tbl := lw_at lw_m2 89 rfl
theorem q440 : (Jvm.Cond.methodLink "NotationDesk$Compiler" (144 : Nat) ({ cls := "NotationDesk$Numeric", name := "become", desc := "(IIZII)LNotationDesk$Numeric;" } : Jvm.MethodName)) ∈ lw_all := lw_g (lw_at lw_m2 115 rfl) rfl
theorem q450 : (Jvm.Cond.methodLink "NotationDesk$Compiler" (147 : Nat) ({ cls := "NotationDesk$Compiler", name := "integer", desc := "(I)LNotationDesk$Type;" } : Jvm.MethodName)) ∈ lw_all := lw_g (lw_at lw_m2 125 rfl) rfl
theorem q451 : (Jvm.Cond.privateMethod ({ cls := "NotationDesk$Compiler", name := "integer", desc := "(I)LNotationDesk$Type;" } : Jvm.MethodName)) ∈ lw_tbl := lw_at lw_m2 126 rfl
theorem q452 : (Jvm.Cond.instanceMethod ({ cls := "NotationDesk$Compiler", name := "integer", desc := "(I)LNotationDesk$Type;" } : Jvm.MethodName)) ∈ lw_all := lw_g (lw_at lw_m2 127 rfl) rfl
theorem q453 : (Jvm.Cond.code ({ cls := "NotationDesk$Compiler", name := "integer", desc := "(I)LNotationDesk$Type;" } : Jvm.MethodName) prog_3_method_18_code (2 : Nat) (Option.some (Jvm.ClassFile.FieldType.object "NotationDesk$Type"))) ∈ lw_all := lw_g (lw_at lw_m2 128 rfl) rfl
theorem q454 : (Jvm.Cond.methodLink "NotationDesk$Compiler" (116 : Nat) ({ cls := "NotationDesk$Compiler", name := "bounds", desc := "()Z" } : Jvm.MethodName)) ∈ lw_all := lw_g (lw_at lw_m2 129 rfl) rfl
theorem q455 : (Jvm.Cond.privateMethod ({ cls := "NotationDesk$Compiler", name := "bounds", desc := "()Z" } : Jvm.MethodName)) ∈ lw_tbl := lw_at lw_m2 130 rfl
theorem q456 : (Jvm.Cond.instanceMethod ({ cls := "NotationDesk$Compiler", name := "bounds", desc := "()Z" } : Jvm.MethodName)) ∈ lw_all := lw_g (lw_at lw_m2 131 rfl) rfl
theorem q457 : (Jvm.Cond.code ({ cls := "NotationDesk$Compiler", name := "bounds", desc := "()Z" } : Jvm.MethodName) prog_3_method_10_code (2 : Nat) (Option.some Jvm.ClassFile.FieldType.boolean)) ∈ lw_all := lw_g (lw_at lw_m2 132 rfl) rfl
theorem q458 : (Jvm.Cond.methodLink "NotationDesk$Compiler" (104 : Nat) ({ cls := "NotationDesk$Compiler", name := "number", desc := "()Z" } : Jvm.MethodName)) ∈ lw_all := lw_g (lw_at lw_m2 133 rfl) rfl
theorem q459 : (Jvm.Cond.privateMethod ({ cls := "NotationDesk$Compiler", name := "number", desc := "()Z" } : Jvm.MethodName)) ∈ lw_tbl := lw_at lw_m2 134 rfl
theorem q460 : (Jvm.Cond.instanceMethod ({ cls := "NotationDesk$Compiler", name := "number", desc := "()Z" } : Jvm.MethodName)) ∈ lw_all := lw_g (lw_at lw_m2 135 rfl) rfl
theorem q461 : (Jvm.Cond.code ({ cls := "NotationDesk$Compiler", name := "number", desc := "()Z" } : Jvm.MethodName) prog_3_method_9_code (4 : Nat) (Option.some Jvm.ClassFile.FieldType.boolean)) ∈ lw_all := lw_g (lw_at lw_m2 136 rfl) rfl
theorem q462 : (Jvm.Cond.constant "NotationDesk$Compiler" (167 : Nat) (65535 : Int32)) ∈ lw_all := lw_g (lw_at lw_m2 137 rfl) rfl
theorem q463 : (Jvm.Cond.methodLink "NotationDesk$Compiler" (150 : Nat) ({ cls := "NotationDesk$Compiler", name := "sequenceOf", desc := "(LNotationDesk$Compiler;II)LNotationDesk$Type;" } : Jvm.MethodName)) ∈ lw_all := lw_g (lw_at lw_m2 138 rfl) rfl
theorem q464 : (Jvm.Cond.static ({ cls := "NotationDesk$Compiler", name := "sequenceOf", desc := "(LNotationDesk$Compiler;II)LNotationDesk$Type;" } : Jvm.MethodName)) ∈ lw_all := lw_g (lw_at lw_m2 139 rfl) rfl
theorem q465 : (Jvm.Cond.code ({ cls := "NotationDesk$Compiler", name := "sequenceOf", desc := "(LNotationDesk$Compiler;II)LNotationDesk$Type;" } : Jvm.MethodName) prog_3_method_22_code (6 : Nat) (Option.some (Jvm.ClassFile.FieldType.object "NotationDesk$Type"))) ∈ lw_all := lw_g (lw_at lw_m2 140 rfl) rfl
theorem q467 : (Jvm.Cond.methodLinkNest "NotationDesk$Compiler" (187 : Nat) ({ cls := "NotationDesk$Sequence", name := "<init>", desc := "()V" } : Jvm.MethodName) "NotationDesk") ∈ lw_tbl := lw_at lw_m2 142 rfl
theorem q476 : (Jvm.Cond.fieldLinkNest "NotationDesk$Compiler" (201 : Nat) "NotationDesk$Sequence" "ways" "[I" "NotationDesk") ∈ lw_tbl := lw_at lw_m2 151 rfl
theorem q478 : (Jvm.Cond.fieldLinkNest "NotationDesk$Compiler" (207 : Nat) "NotationDesk$Sequence" "defaults" "[I" "NotationDesk") ∈ lw_tbl := lw_at lw_m2 153 rfl
theorem q489 : (Jvm.Cond.fieldLink "NotationDesk$Compiler" (188 : Nat) "NotationDesk$Sequence" "count" "I") ∈ lw_all := lw_g (lw_at lw_m2 164 rfl) rfl
theorem q490 : (Jvm.Cond.fieldLink "NotationDesk$Compiler" (215 : Nat) "NotationDesk$Choice" "count" "I") ∈ lw_all := lw_g (lw_at lw_m2 165 rfl) rfl
theorem q500 : (Jvm.Cond.methodLink "NotationDesk$Compiler" (191 : Nat) ({ cls := "NotationDesk$Compiler", name := "component", desc := "(LNotationDesk$Sequence;LNotationDesk$Type;)Z" } : Jvm.MethodName)) ∈ lw_all := lw_g (lw_at lw_m2 175 rfl) rfl
theorem q501 : (Jvm.Cond.privateMethod ({ cls := "NotationDesk$Compiler", name := "component", desc := "(LNotationDesk$Sequence;LNotationDesk$Type;)Z" } : Jvm.MethodName)) ∈ lw_tbl := lw_at lw_m2 176 rfl
theorem q502 : (Jvm.Cond.instanceMethod ({ cls := "NotationDesk$Compiler", name := "component", desc := "(LNotationDesk$Sequence;LNotationDesk$Type;)Z" } : Jvm.MethodName)) ∈ lw_all := lw_g (lw_at lw_m2 177 rfl) rfl
theorem q503 : (Jvm.Cond.code ({ cls := "NotationDesk$Compiler", name := "component", desc := "(LNotationDesk$Sequence;LNotationDesk$Type;)Z" } : Jvm.MethodName) prog_3_method_23_code (3 : Nat) (Option.some Jvm.ClassFile.FieldType.boolean)) ∈ lw_all := lw_g (lw_at lw_m2 178 rfl) rfl
theorem q504 : (Jvm.Cond.methodLink "NotationDesk$Compiler" (204 : Nat) ({ cls := "NotationDesk$Type", name := "holds", desc := "(I)Z" } : Jvm.MethodName)) ∈ lw_all := lw_g (lw_at lw_m2 179 rfl) rfl
theorem q526 : (Jvm.Cond.methodLink "NotationDesk$Compiler" (210 : Nat) ({ cls := "NotationDesk$Sequence", name := "put", desc := "(LNotationDesk$Type;)V" } : Jvm.MethodName)) ∈ lw_all := lw_g (lw_at lw_m2 201 rfl) rfl
theorem q532 : (Jvm.Cond.methodLink "NotationDesk$Compiler" (195 : Nat) ({ cls := "NotationDesk$Compiler", name := "another", desc := "(I)Z" } : Jvm.MethodName)) ∈ lw_all := lw_g (lw_at lw_m2 207 rfl) rfl
theorem q533 : (Jvm.Cond.privateMethod ({ cls := "NotationDesk$Compiler", name := "another", desc := "(I)Z" } : Jvm.MethodName)) ∈ lw_tbl := lw_at lw_m2 208 rfl
theorem q534 : (Jvm.Cond.instanceMethod ({ cls := "NotationDesk$Compiler", name := "another", desc := "(I)Z" } : Jvm.MethodName)) ∈ lw_all := lw_g (lw_at lw_m2 209 rfl) rfl
theorem q535 : (Jvm.Cond.code ({ cls := "NotationDesk$Compiler", name := "another", desc := "(I)Z" } : Jvm.MethodName) prog_3_method_21_code (2 : Nat) (Option.some Jvm.ClassFile.FieldType.boolean)) ∈ lw_all := lw_g (lw_at lw_m2 210 rfl) rfl
theorem q536 : (Jvm.Cond.methodLink "NotationDesk$Compiler" (198 : Nat) ({ cls := "NotationDesk$Sequence", name := "isDistinct", desc := "()Z" } : Jvm.MethodName)) ∈ lw_all := lw_g (lw_at lw_m2 211 rfl) rfl
theorem q562 : (Jvm.Cond.methodLink "NotationDesk$Compiler" (154 : Nat) ({ cls := "NotationDesk$Compiler", name := "choiceOf", desc := "(LNotationDesk$Compiler;II)LNotationDesk$Type;" } : Jvm.MethodName)) ∈ lw_all := lw_g (lw_at lw_m2 237 rfl) rfl
theorem q563 : (Jvm.Cond.static ({ cls := "NotationDesk$Compiler", name := "choiceOf", desc := "(LNotationDesk$Compiler;II)LNotationDesk$Type;" } : Jvm.MethodName)) ∈ lw_all := lw_g (lw_at lw_m2 238 rfl) rfl
theorem q564 : (Jvm.Cond.code ({ cls := "NotationDesk$Compiler", name := "choiceOf", desc := "(LNotationDesk$Compiler;II)LNotationDesk$Type;" } : Jvm.MethodName) prog_3_method_24_code (6 : Nat) (Option.some (Jvm.ClassFile.FieldType.object "NotationDesk$Type"))) ∈ lw_all := lw_g (lw_at lw_m2 239 rfl) rfl
theorem q566 : (Jvm.Cond.methodLinkNest "NotationDesk$Compiler" (214 : Nat) ({ cls := "NotationDesk$Choice", name := "<init>", desc := "()V" } : Jvm.MethodName) "NotationDesk") ∈ lw_tbl := lw_at lw_m3 1 rfl
theorem q573 : (Jvm.Cond.methodLink "NotationDesk$Compiler" (216 : Nat) ({ cls := "NotationDesk$Choice", name := "put", desc := "(LNotationDesk$Type;)V" } : Jvm.MethodName)) ∈ lw_all := lw_g (lw_at lw_m3 8 rfl) rfl
theorem q576 : (Jvm.Cond.methodLink "NotationDesk$Compiler" (217 : Nat) ({ cls := "NotationDesk$Choice", name := "isDistinct", desc := "()Z" } : Jvm.MethodName)) ∈ lw_all := lw_g (lw_at lw_m3 11 rfl) rfl
theorem q580 : (Jvm.Cond.methodLink "NotationDesk$Compiler" (157 : Nat) ({ cls := "NotationDesk$Compiler", name := "octetsAt", desc := "(I)LNotationDesk$Type;" } : Jvm.MethodName)) ∈ lw_all := lw_g (lw_at lw_m3 15 rfl) rfl
theorem q581 : (Jvm.Cond.privateMethod ({ cls := "NotationDesk$Compiler", name := "octetsAt", desc := "(I)LNotationDesk$Type;" } : Jvm.MethodName)) ∈ lw_tbl := lw_at lw_m3 16 rfl
theorem q582 : (Jvm.Cond.instanceMethod ({ cls := "NotationDesk$Compiler", name := "octetsAt", desc := "(I)LNotationDesk$Type;" } : Jvm.MethodName)) ∈ lw_all := lw_g (lw_at lw_m3 17 rfl) rfl
theorem q583 : (Jvm.Cond.code ({ cls := "NotationDesk$Compiler", name := "octetsAt", desc := "(I)LNotationDesk$Type;" } : Jvm.MethodName) prog_3_method_19_code (2 : Nat) (Option.some (Jvm.ClassFile.FieldType.object "NotationDesk$Type"))) ∈ lw_all := lw_g (lw_at lw_m3 18 rfl) rfl
theorem q585 : (Jvm.Cond.methodLinkNest "NotationDesk$Compiler" (168 : Nat) ({ cls := "NotationDesk$Octets", name := "<init>", desc := "()V" } : Jvm.MethodName) "NotationDesk") ∈ lw_tbl := lw_at lw_m3 20 rfl
theorem q606 : (Jvm.Cond.fieldLinkNest "NotationDesk$Compiler" (173 : Nat) "NotationDesk$Octets" "many" "LNotationDesk$Size;" "NotationDesk") ∈ lw_tbl := lw_at lw_m3 41 rfl
theorem q611 : (Jvm.Cond.methodLink "NotationDesk$Compiler" (169 : Nat) ({ cls := "NotationDesk$Octets", name := "marked", desc := "(I)V" } : Jvm.MethodName)) ∈ lw_all := lw_g (lw_at lw_m3 46 rfl) rfl
theorem q614 : (Jvm.Cond.methodLink "NotationDesk$Compiler" (177 : Nat) ({ cls := "NotationDesk$Compiler", name := "bounded", desc := "(LNotationDesk$Size;)Z" } : Jvm.MethodName)) ∈ lw_all := lw_g (lw_at lw_m3 49 rfl) rfl
theorem q615 : (Jvm.Cond.privateMethod ({ cls := "NotationDesk$Compiler", name := "bounded", desc := "(LNotationDesk$Size;)Z" } : Jvm.MethodName)) ∈ lw_tbl := lw_at lw_m3 50 rfl
theorem q616 : (Jvm.Cond.instanceMethod ({ cls := "NotationDesk$Compiler", name := "bounded", desc := "(LNotationDesk$Size;)Z" } : Jvm.MethodName)) ∈ lw_all := lw_g (lw_at lw_m3 51 rfl) rfl
theorem q617 : (Jvm.Cond.code ({ cls := "NotationDesk$Compiler", name := "bounded", desc := "(LNotationDesk$Size;)Z" } : Jvm.MethodName) prog_3_method_11_code (2 : Nat) (Option.some Jvm.ClassFile.FieldType.boolean)) ∈ lw_all := lw_g (lw_at lw_m3 52 rfl) rfl
theorem q618 : (Jvm.Cond.methodLink "NotationDesk$Compiler" (110 : Nat) ({ cls := "NotationDesk$Size", name := "become", desc := "(ZII)V" } : Jvm.MethodName)) ∈ lw_all := lw_g (lw_at lw_m3 53 rfl) rfl
theorem q622 : (Jvm.Cond.methodLink "NotationDesk$Compiler" (160 : Nat) ({ cls := "NotationDesk$Compiler", name := "seriesOf", desc := "(LNotationDesk$Compiler;II)LNotationDesk$Type;" } : Jvm.MethodName)) ∈ lw_all := lw_g (lw_at lw_m3 57 rfl) rfl
theorem q623 : (Jvm.Cond.static ({ cls := "NotationDesk$Compiler", name := "seriesOf", desc := "(LNotationDesk$Compiler;II)LNotationDesk$Type;" } : Jvm.MethodName)) ∈ lw_all := lw_g (lw_at lw_m3 58 rfl) rfl
theorem q624 : (Jvm.Cond.code ({ cls := "NotationDesk$Compiler", name := "seriesOf", desc := "(LNotationDesk$Compiler;II)LNotationDesk$Type;" } : Jvm.MethodName) prog_3_method_20_code (4 : Nat) (Option.some (Jvm.ClassFile.FieldType.object "NotationDesk$Type"))) ∈ lw_all := lw_g (lw_at lw_m3 59 rfl) rfl
theorem q626 : (Jvm.Cond.methodLinkNest "NotationDesk$Compiler" (181 : Nat) ({ cls := "NotationDesk$Series", name := "<init>", desc := "()V" } : Jvm.MethodName) "NotationDesk") ∈ lw_tbl := lw_at lw_m3 61 rfl
theorem q633 : (Jvm.Cond.fieldLinkNest "NotationDesk$Compiler" (182 : Nat) "NotationDesk$Series" "many" "LNotationDesk$Size;" "NotationDesk") ∈ lw_tbl := lw_at lw_m3 68 rfl
theorem q635 : (Jvm.Cond.fieldLinkNest "NotationDesk$Compiler" (183 : Nat) "NotationDesk$Series" "item" "LNotationDesk$Type;" "NotationDesk") ∈ lw_tbl := lw_at lw_m3 70 rfl
theorem q642 : (Jvm.Cond.methodLinkNest "NotationDesk$Compiler" (125 : Nat) ({ cls := "NotationDesk$Tagged", name := "<init>", desc := "()V" } : Jvm.MethodName) "NotationDesk") ∈ lw_tbl := lw_at lw_m3 77 rfl
theorem q656 : (Jvm.Cond.methodLink "NotationDesk$Compiler" (126 : Nat) ({ cls := "NotationDesk$Tagged", name := "become", desc := "(IZLNotationDesk$Type;)LNotationDesk$Tagged;" } : Jvm.MethodName)) ∈ lw_all := lw_g (lw_at lw_m3 91 rfl) rfl
theorem q1812 : (Jvm.Cond.castable "NotationDesk$Compiler" "java/lang/Object") ∈ lw_tbl := lw_at lw_m8 47 rfl
theorem in_X2 : ∀ w ∈ wsX20, w ∈ lw_all := lw_in wsX20 [160, 162, 164, 166, 168, 170, 172, 174, 176, 178, 180, 182, 184, 186, 188] (by decide +kernel) (by decide +kernel)
/-! the law's own entry -/
set_option maxRecDepth 100000
abbrev cL_law : ByteArray := code
def dkwL_law_26 : List UInt8 := [167, 0, 3, 132, 4, 5, 167, 253, 148, 4, 172]
abbrev dktL_law_26 : List UInt8 := dkwL_law_26 ++ []
def dkwL_law_25 : List UInt8 := [159, 0, 5, 3, 172, 21, 5, 154, 0, 15, 45, 3, 47, 21, 6, 133, 148, 153, 0, 5, 3, 172]
abbrev dktL_law_25 : List UInt8 := dkwL_law_25 ++ dktL_law_26
def dkwL_law_24 : List UInt8 := [3, 172, 167, 0, 47, 43, 45, 184, 0, 98, 54, 5, 44, 182, 0, 101, 54, 6, 44, 182, 0, 76, 21, 5]
abbrev dktL_law_24 : List UInt8 := dkwL_law_24 ++ dktL_law_25
def dkwL_law_23 : List UInt8 := [42, 21, 4, 6, 96, 46, 42, 21, 4, 7, 96, 46, 182, 0, 97, 44, 182, 0, 76, 21, 5, 159, 0, 5]
abbrev dktL_law_23 : List UInt8 := dkwL_law_23 ++ dktL_law_24
def dkwL_law_22 : List UInt8 := [21, 4, 7, 96, 46, 184, 0, 94, 54, 5, 44, 42, 21, 4, 4, 96, 46, 42, 21, 4, 5, 96, 46, 146]
abbrev dktL_law_22 : List UInt8 := dkwL_law_22 ++ dktL_law_23
def dkwL_law_21 : List UInt8 := [167, 0, 121, 43, 42, 21, 4, 4, 96, 46, 42, 21, 4, 5, 96, 46, 146, 42, 21, 4, 6, 96, 46, 42]
abbrev dktL_law_21 : List UInt8 := dkwL_law_21 ++ dktL_law_22
def dkwL_law_20 : List UInt8 := [159, 0, 5, 3, 172, 21, 5, 154, 0, 15, 45, 3, 47, 21, 6, 133, 148, 153, 0, 5, 3, 172]
abbrev dktL_law_20 : List UInt8 := dkwL_law_20 ++ dktL_law_21
def dkwL_law_19 : List UInt8 := [21, 4, 4, 96, 46, 42, 21, 4, 5, 96, 46, 182, 0, 93, 54, 6, 44, 182, 0, 76, 21, 5]
abbrev dktL_law_19 : List UInt8 := dkwL_law_19 ++ dktL_law_20
def dkwL_law_18 : List UInt8 := [167, 0, 189, 43, 42, 21, 4, 4, 96, 46, 42, 21, 4, 5, 96, 46, 45, 184, 0, 91, 54, 5, 44, 42]
abbrev dktL_law_18 : List UInt8 := dkwL_law_18 ++ dktL_law_19
def dkwL_law_17 : List UInt8 := [159, 0, 5, 3, 172, 21, 5, 154, 0, 15, 45, 3, 47, 21, 6, 133, 148, 153, 0, 5, 3, 172]
abbrev dktL_law_17 : List UInt8 := dkwL_law_17 ++ dktL_law_18
def dkwL_law_16 : List UInt8 := [21, 4, 4, 96, 46, 42, 21, 4, 5, 96, 46, 182, 0, 90, 54, 6, 44, 182, 0, 76, 21, 5]
abbrev dktL_law_16 : List UInt8 := dkwL_law_16 ++ dktL_law_17
def dkwL_law_15 : List UInt8 := [3, 172, 43, 42, 21, 4, 4, 96, 46, 42, 21, 4, 5, 96, 46, 45, 184, 0, 87, 54, 5, 44, 42]
abbrev dktL_law_15 : List UInt8 := dkwL_law_15 ++ dktL_law_16
def dkwL_law_14 : List UInt8 := [47, 21, 6, 133, 148, 153, 0, 5, 3, 172, 167, 1, 14, 43, 182, 0, 83, 44, 182, 0, 86, 159, 1, 3]
abbrev dktL_law_14 : List UInt8 := dkwL_law_14 ++ dktL_law_15
def dkwL_law_13 : List UInt8 := [46, 182, 0, 82, 54, 6, 44, 182, 0, 76, 21, 5, 159, 0, 5, 3, 172, 21, 5, 154, 0, 15, 45, 3]
abbrev dktL_law_13 : List UInt8 := dkwL_law_13 ++ dktL_law_14
def dkwL_law_12 : List UInt8 := [184, 0, 79, 54, 5, 44, 42, 21, 4, 4, 96, 46, 146, 42, 21, 4, 5, 96, 46, 42, 21, 4, 6, 96]
abbrev dktL_law_12 : List UInt8 := dkwL_law_12 ++ dktL_law_13
def dkwL_law_11 : List UInt8 := [167, 1, 96, 43, 42, 21, 4, 4, 96, 46, 146, 42, 21, 4, 5, 96, 46, 42, 21, 4, 6, 96, 46, 45]
abbrev dktL_law_11 : List UInt8 := dkwL_law_11 ++ dktL_law_12
def dkwL_law_10 : List UInt8 := [21, 5, 159, 0, 5, 3, 172, 21, 5, 154, 0, 15, 45, 3, 47, 21, 6, 133, 148, 153, 0, 5, 3, 172]
abbrev dktL_law_10 : List UInt8 := dkwL_law_10 ++ dktL_law_11
def dkwL_law_9 : List UInt8 := [46, 45, 184, 0, 70, 54, 5, 44, 42, 21, 4, 4, 96, 46, 182, 0, 75, 54, 6, 44, 182, 0, 76]
abbrev dktL_law_9 : List UInt8 := dkwL_law_9 ++ dktL_law_10
def dkwL_law_8 : List UInt8 := [159, 1, 167, 3, 172, 43, 182, 0, 66, 44, 182, 0, 69, 159, 1, 154, 3, 172, 43, 42, 21, 4, 4, 96]
abbrev dktL_law_8 : List UInt8 := dkwL_law_8 ++ dktL_law_9
def dkwL_law_7 : List UInt8 := [16, 32, 121, 42, 21, 4, 5, 96, 46, 133, 20, 0, 59, 127, 129, 42, 21, 4, 6, 96, 46, 182, 0, 65]
abbrev dktL_law_7 : List UInt8 := dkwL_law_7 ++ dktL_law_8
def dkwL_law_6 : List UInt8 := [46, 133, 20, 0, 59, 127, 129, 42, 21, 4, 6, 96, 46, 182, 0, 61, 44, 42, 21, 4, 4, 96, 46, 133]
abbrev dktL_law_6 : List UInt8 := dkwL_law_6 ++ dktL_law_7
def dkwL_law_5 : List UInt8 := [182, 0, 58, 159, 1, 236, 3, 172, 43, 42, 21, 4, 4, 96, 46, 133, 16, 32, 121, 42, 21, 4, 5, 96]
abbrev dktL_law_5 : List UInt8 := dkwL_law_5 ++ dktL_law_6
def dkwL_law_4 : List UInt8 := [159, 2, 6, 3, 172, 43, 182, 0, 51, 44, 182, 0, 54, 159, 1, 249, 3, 172, 43, 182, 0, 55, 44]
abbrev dktL_law_4 : List UInt8 := dkwL_law_4 ++ dktL_law_5
def dkwL_law_3 : List UInt8 := [43, 42, 21, 4, 4, 96, 46, 146, 182, 0, 46, 44, 42, 21, 4, 4, 96, 46, 146, 182, 0, 50]
abbrev dktL_law_3 : List UInt8 := dkwL_law_3 ++ dktL_law_4
def dkwL_law_2 : List UInt8 := [170, 0, 0, 2, 89, 0, 0, 0, 0, 0, 0, 0, 11, 0, 0, 0, 61, 0, 0, 0, 88, 0, 0, 0, 101, 0, 0, 0, 114, 0, 0, 0, 183, 0, 0, 0, 196, 0, 0, 0, 252, 0, 0, 1, 78, 0, 0, 1, 91, 0, 0, 1, 159, 0, 0, 1, 227, 0, 0, 2, 45]
abbrev dktL_law_2 : List UInt8 := dkwL_law_2 ++ dktL_law_3
def dkwL_law_1 : List UInt8 := [21, 4, 42, 190, 8, 100, 163, 2, 105, 42, 21, 4, 46, 16, 15, 126]
abbrev dktL_law_1 : List UInt8 := dkwL_law_1 ++ dktL_law_2
def dkwL_law_0 : List UInt8 := [187, 0, 8, 89, 183, 0, 42, 76, 187, 0, 43, 89, 183, 0, 45, 77, 4, 188, 11, 78, 3, 54, 4]
abbrev dktL_law_0 : List UInt8 := dkwL_law_0 ++ dktL_law_1
theorem dksL_law_0 : cL_law.data.toList.drop 0 = dktL_law_0 := by decide +kernel
theorem dksL_law_1 : cL_law.data.toList.drop 23 = dktL_law_1 := dk_seg dksL_law_0 23 rfl rfl
theorem dksL_law_2 : cL_law.data.toList.drop 39 = dktL_law_2 := dk_seg dksL_law_1 16 rfl rfl
theorem dksL_law_3 : cL_law.data.toList.drop 100 = dktL_law_3 := dk_seg dksL_law_2 61 rfl rfl
theorem dksL_law_4 : cL_law.data.toList.drop 122 = dktL_law_4 := dk_seg dksL_law_3 22 rfl rfl
theorem dksL_law_5 : cL_law.data.toList.drop 145 = dktL_law_5 := dk_seg dksL_law_4 23 rfl rfl
theorem dksL_law_6 : cL_law.data.toList.drop 169 = dktL_law_6 := dk_seg dksL_law_5 24 rfl rfl
theorem dksL_law_7 : cL_law.data.toList.drop 193 = dktL_law_7 := dk_seg dksL_law_6 24 rfl rfl
theorem dksL_law_8 : cL_law.data.toList.drop 217 = dktL_law_8 := dk_seg dksL_law_7 24 rfl rfl
theorem dksL_law_9 : cL_law.data.toList.drop 241 = dktL_law_9 := dk_seg dksL_law_8 24 rfl rfl
theorem dksL_law_10 : cL_law.data.toList.drop 264 = dktL_law_10 := dk_seg dksL_law_9 23 rfl rfl
theorem dksL_law_11 : cL_law.data.toList.drop 288 = dktL_law_11 := dk_seg dksL_law_10 24 rfl rfl
theorem dksL_law_12 : cL_law.data.toList.drop 312 = dktL_law_12 := dk_seg dksL_law_11 24 rfl rfl
theorem dksL_law_13 : cL_law.data.toList.drop 336 = dktL_law_13 := dk_seg dksL_law_12 24 rfl rfl
theorem dksL_law_14 : cL_law.data.toList.drop 360 = dktL_law_14 := dk_seg dksL_law_13 24 rfl rfl
theorem dksL_law_15 : cL_law.data.toList.drop 384 = dktL_law_15 := dk_seg dksL_law_14 24 rfl rfl
theorem dksL_law_16 : cL_law.data.toList.drop 407 = dktL_law_16 := dk_seg dksL_law_15 23 rfl rfl
theorem dksL_law_17 : cL_law.data.toList.drop 429 = dktL_law_17 := dk_seg dksL_law_16 22 rfl rfl
theorem dksL_law_18 : cL_law.data.toList.drop 451 = dktL_law_18 := dk_seg dksL_law_17 22 rfl rfl
theorem dksL_law_19 : cL_law.data.toList.drop 475 = dktL_law_19 := dk_seg dksL_law_18 24 rfl rfl
theorem dksL_law_20 : cL_law.data.toList.drop 497 = dktL_law_20 := dk_seg dksL_law_19 22 rfl rfl
theorem dksL_law_21 : cL_law.data.toList.drop 519 = dktL_law_21 := dk_seg dksL_law_20 22 rfl rfl
theorem dksL_law_22 : cL_law.data.toList.drop 543 = dktL_law_22 := dk_seg dksL_law_21 24 rfl rfl
theorem dksL_law_23 : cL_law.data.toList.drop 567 = dktL_law_23 := dk_seg dksL_law_22 24 rfl rfl
theorem dksL_law_24 : cL_law.data.toList.drop 591 = dktL_law_24 := dk_seg dksL_law_23 24 rfl rfl
theorem dksL_law_25 : cL_law.data.toList.drop 615 = dktL_law_25 := dk_seg dksL_law_24 24 rfl rfl
theorem dksL_law_26 : cL_law.data.toList.drop 637 = dktL_law_26 := dk_seg dksL_law_25 22 rfl rfl
theorem dL_law_0 : decode cL_law 0 = .ok (.new 8, 3) := dk_187 0 8 (dk_at dksL_law_0 0 rfl rfl)
theorem dL_law_3 : decode cL_law 3 = .ok (.dup, 1) := dk_89 (dk_at dksL_law_0 3 rfl rfl)
theorem dL_law_4 : decode cL_law 4 = .ok (.invokespecial 42, 3) := dk_183 0 42 (dk_at dksL_law_0 4 rfl rfl)
theorem dL_law_7 : decode cL_law 7 = .ok (.astore_n 1, 1) := dk_76 (dk_at dksL_law_0 7 rfl rfl)
theorem dL_law_8 : decode cL_law 8 = .ok (.new 43, 3) := dk_187 0 43 (dk_at dksL_law_0 8 rfl rfl)
theorem dL_law_11 : decode cL_law 11 = .ok (.dup, 1) := dk_89 (dk_at dksL_law_0 11 rfl rfl)
theorem dL_law_12 : decode cL_law 12 = .ok (.invokespecial 45, 3) := dk_183 0 45 (dk_at dksL_law_0 12 rfl rfl)
theorem dL_law_15 : decode cL_law 15 = .ok (.astore_n 2, 1) := dk_77 (dk_at dksL_law_0 15 rfl rfl)
theorem dL_law_16 : decode cL_law 16 = .ok (.iconst 1, 1) := dk_4 (dk_at dksL_law_0 16 rfl rfl)
theorem dL_law_17 : decode cL_law 17 = .ok (.newarray .long, 2) := dk_188_11 (dk_at dksL_law_0 17 rfl rfl)
theorem dL_law_19 : decode cL_law 19 = .ok (.astore_n 3, 1) := dk_78 (dk_at dksL_law_0 19 rfl rfl)
theorem dL_law_20 : decode cL_law 20 = .ok (.iconst 0, 1) := dk_3 (dk_at dksL_law_0 20 rfl rfl)
theorem dL_law_21 : decode cL_law 21 = .ok (.istore 4, 2) := dk_54 4 (dk_at dksL_law_0 21 rfl rfl)
theorem dL_law_23 : decode cL_law 23 = .ok (.iload 4, 2) := dk_21 4 (dk_at dksL_law_1 0 rfl rfl)
theorem dL_law_25 : decode cL_law 25 = .ok (.aload_n 0, 1) := dk_42 (dk_at dksL_law_1 2 rfl rfl)
theorem dL_law_26 : decode cL_law 26 = .ok (.arraylength, 1) := dk_190 (dk_at dksL_law_1 3 rfl rfl)
theorem dL_law_27 : decode cL_law 27 = .ok (.iconst 5, 1) := dk_8 (dk_at dksL_law_1 4 rfl rfl)
theorem dL_law_28 : decode cL_law 28 = .ok (.isub, 1) := dk_100 (dk_at dksL_law_1 5 rfl rfl)
theorem dL_law_29 : decode cL_law 29 = .ok (.if_icmp .gt 617, 3) := dk_163 2 105 (dk_at dksL_law_1 6 rfl rfl)
theorem dL_law_32 : decode cL_law 32 = .ok (.aload_n 0, 1) := dk_42 (dk_at dksL_law_1 9 rfl rfl)
theorem dL_law_33 : decode cL_law 33 = .ok (.iload 4, 2) := dk_21 4 (dk_at dksL_law_1 10 rfl rfl)
theorem dL_law_35 : decode cL_law 35 = .ok (.iaload, 1) := dk_46 (dk_at dksL_law_1 12 rfl rfl)
theorem dL_law_36 : decode cL_law 36 = .ok (.bipush 15, 2) := dk_16 15 (dk_at dksL_law_1 13 rfl rfl)
theorem dL_law_38 : decode cL_law 38 = .ok (.iand, 1) := dk_126 (dk_at dksL_law_1 15 rfl rfl)
theorem dL_law_39 : decode cL_law 39 = .ok (.tableswitch 601 0 11 #[61, 88, 101, 114, 183, 196, 252, 334, 347, 415, 483, 557], 61) := by decide +kernel
theorem dL_law_100 : decode cL_law 100 = .ok (.aload_n 1, 1) := dk_43 (dk_at dksL_law_3 0 rfl rfl)
theorem dL_law_101 : decode cL_law 101 = .ok (.aload_n 0, 1) := dk_42 (dk_at dksL_law_3 1 rfl rfl)
theorem dL_law_102 : decode cL_law 102 = .ok (.iload 4, 2) := dk_21 4 (dk_at dksL_law_3 2 rfl rfl)
theorem dL_law_104 : decode cL_law 104 = .ok (.iconst 1, 1) := dk_4 (dk_at dksL_law_3 4 rfl rfl)
theorem dL_law_105 : decode cL_law 105 = .ok (.iadd, 1) := dk_96 (dk_at dksL_law_3 5 rfl rfl)
theorem dL_law_106 : decode cL_law 106 = .ok (.iaload, 1) := dk_46 (dk_at dksL_law_3 6 rfl rfl)
theorem dL_law_107 : decode cL_law 107 = .ok (.i2c, 1) := dk_146 (dk_at dksL_law_3 7 rfl rfl)
theorem dL_law_108 : decode cL_law 108 = .ok (.invokevirtual 46, 3) := dk_182 0 46 (dk_at dksL_law_3 8 rfl rfl)
theorem dL_law_111 : decode cL_law 111 = .ok (.aload_n 2, 1) := dk_44 (dk_at dksL_law_3 11 rfl rfl)
theorem dL_law_112 : decode cL_law 112 = .ok (.aload_n 0, 1) := dk_42 (dk_at dksL_law_3 12 rfl rfl)
theorem dL_law_113 : decode cL_law 113 = .ok (.iload 4, 2) := dk_21 4 (dk_at dksL_law_3 13 rfl rfl)
theorem dL_law_115 : decode cL_law 115 = .ok (.iconst 1, 1) := dk_4 (dk_at dksL_law_3 15 rfl rfl)
theorem dL_law_116 : decode cL_law 116 = .ok (.iadd, 1) := dk_96 (dk_at dksL_law_3 16 rfl rfl)
theorem dL_law_117 : decode cL_law 117 = .ok (.iaload, 1) := dk_46 (dk_at dksL_law_3 17 rfl rfl)
theorem dL_law_118 : decode cL_law 118 = .ok (.i2c, 1) := dk_146 (dk_at dksL_law_3 18 rfl rfl)
theorem dL_law_119 : decode cL_law 119 = .ok (.invokevirtual 50, 3) := dk_182 0 50 (dk_at dksL_law_3 19 rfl rfl)
theorem dL_law_122 : decode cL_law 122 = .ok (.if_icmp .eq 518, 3) := dk_159 2 6 (dk_at dksL_law_4 0 rfl rfl)
theorem dL_law_125 : decode cL_law 125 = .ok (.iconst 0, 1) := dk_3 (dk_at dksL_law_4 3 rfl rfl)
theorem dL_law_126 : decode cL_law 126 = .ok (.ireturn, 1) := dk_172 (dk_at dksL_law_4 4 rfl rfl)
theorem dL_law_127 : decode cL_law 127 = .ok (.aload_n 1, 1) := dk_43 (dk_at dksL_law_4 5 rfl rfl)
theorem dL_law_128 : decode cL_law 128 = .ok (.invokevirtual 51, 3) := dk_182 0 51 (dk_at dksL_law_4 6 rfl rfl)
theorem dL_law_131 : decode cL_law 131 = .ok (.aload_n 2, 1) := dk_44 (dk_at dksL_law_4 9 rfl rfl)
theorem dL_law_132 : decode cL_law 132 = .ok (.invokevirtual 54, 3) := dk_182 0 54 (dk_at dksL_law_4 10 rfl rfl)
theorem dL_law_135 : decode cL_law 135 = .ok (.if_icmp .eq 505, 3) := dk_159 1 249 (dk_at dksL_law_4 13 rfl rfl)
theorem dL_law_138 : decode cL_law 138 = .ok (.iconst 0, 1) := dk_3 (dk_at dksL_law_4 16 rfl rfl)
theorem dL_law_139 : decode cL_law 139 = .ok (.ireturn, 1) := dk_172 (dk_at dksL_law_4 17 rfl rfl)
theorem dL_law_140 : decode cL_law 140 = .ok (.aload_n 1, 1) := dk_43 (dk_at dksL_law_4 18 rfl rfl)
theorem dL_law_141 : decode cL_law 141 = .ok (.invokevirtual 55, 3) := dk_182 0 55 (dk_at dksL_law_4 19 rfl rfl)
theorem dL_law_144 : decode cL_law 144 = .ok (.aload_n 2, 1) := dk_44 (dk_at dksL_law_4 22 rfl rfl)
theorem dL_law_145 : decode cL_law 145 = .ok (.invokevirtual 58, 3) := dk_182 0 58 (dk_at dksL_law_5 0 rfl rfl)
theorem dL_law_148 : decode cL_law 148 = .ok (.if_icmp .eq 492, 3) := dk_159 1 236 (dk_at dksL_law_5 3 rfl rfl)
theorem dL_law_151 : decode cL_law 151 = .ok (.iconst 0, 1) := dk_3 (dk_at dksL_law_5 6 rfl rfl)
theorem dL_law_152 : decode cL_law 152 = .ok (.ireturn, 1) := dk_172 (dk_at dksL_law_5 7 rfl rfl)
theorem dL_law_153 : decode cL_law 153 = .ok (.aload_n 1, 1) := dk_43 (dk_at dksL_law_5 8 rfl rfl)
theorem dL_law_154 : decode cL_law 154 = .ok (.aload_n 0, 1) := dk_42 (dk_at dksL_law_5 9 rfl rfl)
theorem dL_law_155 : decode cL_law 155 = .ok (.iload 4, 2) := dk_21 4 (dk_at dksL_law_5 10 rfl rfl)
theorem dL_law_157 : decode cL_law 157 = .ok (.iconst 1, 1) := dk_4 (dk_at dksL_law_5 12 rfl rfl)
theorem dL_law_158 : decode cL_law 158 = .ok (.iadd, 1) := dk_96 (dk_at dksL_law_5 13 rfl rfl)
theorem dL_law_159 : decode cL_law 159 = .ok (.iaload, 1) := dk_46 (dk_at dksL_law_5 14 rfl rfl)
theorem dL_law_160 : decode cL_law 160 = .ok (.i2l, 1) := dk_133 (dk_at dksL_law_5 15 rfl rfl)
theorem dL_law_161 : decode cL_law 161 = .ok (.bipush 32, 2) := dk_16 32 (dk_at dksL_law_5 16 rfl rfl)
theorem dL_law_163 : decode cL_law 163 = .ok (.lshl, 1) := dk_121 (dk_at dksL_law_5 18 rfl rfl)
theorem dL_law_164 : decode cL_law 164 = .ok (.aload_n 0, 1) := dk_42 (dk_at dksL_law_5 19 rfl rfl)
theorem dL_law_165 : decode cL_law 165 = .ok (.iload 4, 2) := dk_21 4 (dk_at dksL_law_5 20 rfl rfl)
theorem dL_law_167 : decode cL_law 167 = .ok (.iconst 2, 1) := dk_5 (dk_at dksL_law_5 22 rfl rfl)
theorem dL_law_168 : decode cL_law 168 = .ok (.iadd, 1) := dk_96 (dk_at dksL_law_5 23 rfl rfl)
theorem dL_law_169 : decode cL_law 169 = .ok (.iaload, 1) := dk_46 (dk_at dksL_law_6 0 rfl rfl)
theorem dL_law_170 : decode cL_law 170 = .ok (.i2l, 1) := dk_133 (dk_at dksL_law_6 1 rfl rfl)
theorem dL_law_171 : decode cL_law 171 = .ok (.ldc2_w 59, 3) := dk_20 0 59 (dk_at dksL_law_6 2 rfl rfl)
theorem dL_law_174 : decode cL_law 174 = .ok (.land, 1) := dk_127 (dk_at dksL_law_6 5 rfl rfl)
theorem dL_law_175 : decode cL_law 175 = .ok (.lor, 1) := dk_129 (dk_at dksL_law_6 6 rfl rfl)
theorem dL_law_176 : decode cL_law 176 = .ok (.aload_n 0, 1) := dk_42 (dk_at dksL_law_6 7 rfl rfl)
theorem dL_law_177 : decode cL_law 177 = .ok (.iload 4, 2) := dk_21 4 (dk_at dksL_law_6 8 rfl rfl)
theorem dL_law_179 : decode cL_law 179 = .ok (.iconst 3, 1) := dk_6 (dk_at dksL_law_6 10 rfl rfl)
theorem dL_law_180 : decode cL_law 180 = .ok (.iadd, 1) := dk_96 (dk_at dksL_law_6 11 rfl rfl)
theorem dL_law_181 : decode cL_law 181 = .ok (.iaload, 1) := dk_46 (dk_at dksL_law_6 12 rfl rfl)
theorem dL_law_182 : decode cL_law 182 = .ok (.invokevirtual 61, 3) := dk_182 0 61 (dk_at dksL_law_6 13 rfl rfl)
theorem dL_law_185 : decode cL_law 185 = .ok (.aload_n 2, 1) := dk_44 (dk_at dksL_law_6 16 rfl rfl)
theorem dL_law_186 : decode cL_law 186 = .ok (.aload_n 0, 1) := dk_42 (dk_at dksL_law_6 17 rfl rfl)
theorem dL_law_187 : decode cL_law 187 = .ok (.iload 4, 2) := dk_21 4 (dk_at dksL_law_6 18 rfl rfl)
theorem dL_law_189 : decode cL_law 189 = .ok (.iconst 1, 1) := dk_4 (dk_at dksL_law_6 20 rfl rfl)
theorem dL_law_190 : decode cL_law 190 = .ok (.iadd, 1) := dk_96 (dk_at dksL_law_6 21 rfl rfl)
theorem dL_law_191 : decode cL_law 191 = .ok (.iaload, 1) := dk_46 (dk_at dksL_law_6 22 rfl rfl)
theorem dL_law_192 : decode cL_law 192 = .ok (.i2l, 1) := dk_133 (dk_at dksL_law_6 23 rfl rfl)
theorem dL_law_193 : decode cL_law 193 = .ok (.bipush 32, 2) := dk_16 32 (dk_at dksL_law_7 0 rfl rfl)
theorem dL_law_195 : decode cL_law 195 = .ok (.lshl, 1) := dk_121 (dk_at dksL_law_7 2 rfl rfl)
theorem dL_law_196 : decode cL_law 196 = .ok (.aload_n 0, 1) := dk_42 (dk_at dksL_law_7 3 rfl rfl)
theorem dL_law_197 : decode cL_law 197 = .ok (.iload 4, 2) := dk_21 4 (dk_at dksL_law_7 4 rfl rfl)
theorem dL_law_199 : decode cL_law 199 = .ok (.iconst 2, 1) := dk_5 (dk_at dksL_law_7 6 rfl rfl)
theorem dL_law_200 : decode cL_law 200 = .ok (.iadd, 1) := dk_96 (dk_at dksL_law_7 7 rfl rfl)
theorem dL_law_201 : decode cL_law 201 = .ok (.iaload, 1) := dk_46 (dk_at dksL_law_7 8 rfl rfl)
theorem dL_law_202 : decode cL_law 202 = .ok (.i2l, 1) := dk_133 (dk_at dksL_law_7 9 rfl rfl)
theorem dL_law_203 : decode cL_law 203 = .ok (.ldc2_w 59, 3) := dk_20 0 59 (dk_at dksL_law_7 10 rfl rfl)
theorem dL_law_206 : decode cL_law 206 = .ok (.land, 1) := dk_127 (dk_at dksL_law_7 13 rfl rfl)
theorem dL_law_207 : decode cL_law 207 = .ok (.lor, 1) := dk_129 (dk_at dksL_law_7 14 rfl rfl)
theorem dL_law_208 : decode cL_law 208 = .ok (.aload_n 0, 1) := dk_42 (dk_at dksL_law_7 15 rfl rfl)
theorem dL_law_209 : decode cL_law 209 = .ok (.iload 4, 2) := dk_21 4 (dk_at dksL_law_7 16 rfl rfl)
theorem dL_law_211 : decode cL_law 211 = .ok (.iconst 3, 1) := dk_6 (dk_at dksL_law_7 18 rfl rfl)
theorem dL_law_212 : decode cL_law 212 = .ok (.iadd, 1) := dk_96 (dk_at dksL_law_7 19 rfl rfl)
theorem dL_law_213 : decode cL_law 213 = .ok (.iaload, 1) := dk_46 (dk_at dksL_law_7 20 rfl rfl)
theorem dL_law_214 : decode cL_law 214 = .ok (.invokevirtual 65, 3) := dk_182 0 65 (dk_at dksL_law_7 21 rfl rfl)
theorem dL_law_217 : decode cL_law 217 = .ok (.if_icmp .eq 423, 3) := dk_159 1 167 (dk_at dksL_law_8 0 rfl rfl)
theorem dL_law_220 : decode cL_law 220 = .ok (.iconst 0, 1) := dk_3 (dk_at dksL_law_8 3 rfl rfl)
theorem dL_law_221 : decode cL_law 221 = .ok (.ireturn, 1) := dk_172 (dk_at dksL_law_8 4 rfl rfl)
theorem dL_law_222 : decode cL_law 222 = .ok (.aload_n 1, 1) := dk_43 (dk_at dksL_law_8 5 rfl rfl)
theorem dL_law_223 : decode cL_law 223 = .ok (.invokevirtual 66, 3) := dk_182 0 66 (dk_at dksL_law_8 6 rfl rfl)
theorem dL_law_226 : decode cL_law 226 = .ok (.aload_n 2, 1) := dk_44 (dk_at dksL_law_8 9 rfl rfl)
theorem dL_law_227 : decode cL_law 227 = .ok (.invokevirtual 69, 3) := dk_182 0 69 (dk_at dksL_law_8 10 rfl rfl)
theorem dL_law_230 : decode cL_law 230 = .ok (.if_icmp .eq 410, 3) := dk_159 1 154 (dk_at dksL_law_8 13 rfl rfl)
theorem dL_law_233 : decode cL_law 233 = .ok (.iconst 0, 1) := dk_3 (dk_at dksL_law_8 16 rfl rfl)
theorem dL_law_234 : decode cL_law 234 = .ok (.ireturn, 1) := dk_172 (dk_at dksL_law_8 17 rfl rfl)
theorem dL_law_235 : decode cL_law 235 = .ok (.aload_n 1, 1) := dk_43 (dk_at dksL_law_8 18 rfl rfl)
theorem dL_law_236 : decode cL_law 236 = .ok (.aload_n 0, 1) := dk_42 (dk_at dksL_law_8 19 rfl rfl)
theorem dL_law_237 : decode cL_law 237 = .ok (.iload 4, 2) := dk_21 4 (dk_at dksL_law_8 20 rfl rfl)
theorem dL_law_239 : decode cL_law 239 = .ok (.iconst 1, 1) := dk_4 (dk_at dksL_law_8 22 rfl rfl)
theorem dL_law_240 : decode cL_law 240 = .ok (.iadd, 1) := dk_96 (dk_at dksL_law_8 23 rfl rfl)
theorem dL_law_241 : decode cL_law 241 = .ok (.iaload, 1) := dk_46 (dk_at dksL_law_9 0 rfl rfl)
theorem dL_law_242 : decode cL_law 242 = .ok (.aload_n 3, 1) := dk_45 (dk_at dksL_law_9 1 rfl rfl)
theorem dL_law_243 : decode cL_law 243 = .ok (.invokestatic 70, 3) := dk_184 0 70 (dk_at dksL_law_9 2 rfl rfl)
theorem dL_law_246 : decode cL_law 246 = .ok (.istore 5, 2) := dk_54 5 (dk_at dksL_law_9 5 rfl rfl)
theorem dL_law_248 : decode cL_law 248 = .ok (.aload_n 2, 1) := dk_44 (dk_at dksL_law_9 7 rfl rfl)
theorem dL_law_249 : decode cL_law 249 = .ok (.aload_n 0, 1) := dk_42 (dk_at dksL_law_9 8 rfl rfl)
theorem dL_law_250 : decode cL_law 250 = .ok (.iload 4, 2) := dk_21 4 (dk_at dksL_law_9 9 rfl rfl)
theorem dL_law_252 : decode cL_law 252 = .ok (.iconst 1, 1) := dk_4 (dk_at dksL_law_9 11 rfl rfl)
theorem dL_law_253 : decode cL_law 253 = .ok (.iadd, 1) := dk_96 (dk_at dksL_law_9 12 rfl rfl)
theorem dL_law_254 : decode cL_law 254 = .ok (.iaload, 1) := dk_46 (dk_at dksL_law_9 13 rfl rfl)
theorem dL_law_255 : decode cL_law 255 = .ok (.invokevirtual 75, 3) := dk_182 0 75 (dk_at dksL_law_9 14 rfl rfl)
theorem dL_law_258 : decode cL_law 258 = .ok (.istore 6, 2) := dk_54 6 (dk_at dksL_law_9 17 rfl rfl)
theorem dL_law_260 : decode cL_law 260 = .ok (.aload_n 2, 1) := dk_44 (dk_at dksL_law_9 19 rfl rfl)
theorem dL_law_261 : decode cL_law 261 = .ok (.invokevirtual 76, 3) := dk_182 0 76 (dk_at dksL_law_9 20 rfl rfl)
theorem dL_law_264 : decode cL_law 264 = .ok (.iload 5, 2) := dk_21 5 (dk_at dksL_law_10 0 rfl rfl)
theorem dL_law_266 : decode cL_law 266 = .ok (.if_icmp .eq 5, 3) := dk_159 0 5 (dk_at dksL_law_10 2 rfl rfl)
theorem dL_law_269 : decode cL_law 269 = .ok (.iconst 0, 1) := dk_3 (dk_at dksL_law_10 5 rfl rfl)
theorem dL_law_270 : decode cL_law 270 = .ok (.ireturn, 1) := dk_172 (dk_at dksL_law_10 6 rfl rfl)
theorem dL_law_271 : decode cL_law 271 = .ok (.iload 5, 2) := dk_21 5 (dk_at dksL_law_10 7 rfl rfl)
theorem dL_law_273 : decode cL_law 273 = .ok (.ifCond .ne 15, 3) := dk_154 0 15 (dk_at dksL_law_10 9 rfl rfl)
theorem dL_law_276 : decode cL_law 276 = .ok (.aload_n 3, 1) := dk_45 (dk_at dksL_law_10 12 rfl rfl)
theorem dL_law_277 : decode cL_law 277 = .ok (.iconst 0, 1) := dk_3 (dk_at dksL_law_10 13 rfl rfl)
theorem dL_law_278 : decode cL_law 278 = .ok (.laload, 1) := dk_47 (dk_at dksL_law_10 14 rfl rfl)
theorem dL_law_279 : decode cL_law 279 = .ok (.iload 6, 2) := dk_21 6 (dk_at dksL_law_10 15 rfl rfl)
theorem dL_law_281 : decode cL_law 281 = .ok (.i2l, 1) := dk_133 (dk_at dksL_law_10 17 rfl rfl)
theorem dL_law_282 : decode cL_law 282 = .ok (.lcmp, 1) := dk_148 (dk_at dksL_law_10 18 rfl rfl)
theorem dL_law_283 : decode cL_law 283 = .ok (.ifCond .eq 5, 3) := dk_153 0 5 (dk_at dksL_law_10 19 rfl rfl)
theorem dL_law_286 : decode cL_law 286 = .ok (.iconst 0, 1) := dk_3 (dk_at dksL_law_10 22 rfl rfl)
theorem dL_law_287 : decode cL_law 287 = .ok (.ireturn, 1) := dk_172 (dk_at dksL_law_10 23 rfl rfl)
theorem dL_law_288 : decode cL_law 288 = .ok (.goto 352, 3) := dk_167 1 96 (dk_at dksL_law_11 0 rfl rfl)
theorem dL_law_291 : decode cL_law 291 = .ok (.aload_n 1, 1) := dk_43 (dk_at dksL_law_11 3 rfl rfl)
theorem dL_law_292 : decode cL_law 292 = .ok (.aload_n 0, 1) := dk_42 (dk_at dksL_law_11 4 rfl rfl)
theorem dL_law_293 : decode cL_law 293 = .ok (.iload 4, 2) := dk_21 4 (dk_at dksL_law_11 5 rfl rfl)
theorem dL_law_295 : decode cL_law 295 = .ok (.iconst 1, 1) := dk_4 (dk_at dksL_law_11 7 rfl rfl)
theorem dL_law_296 : decode cL_law 296 = .ok (.iadd, 1) := dk_96 (dk_at dksL_law_11 8 rfl rfl)
theorem dL_law_297 : decode cL_law 297 = .ok (.iaload, 1) := dk_46 (dk_at dksL_law_11 9 rfl rfl)
theorem dL_law_298 : decode cL_law 298 = .ok (.i2c, 1) := dk_146 (dk_at dksL_law_11 10 rfl rfl)
theorem dL_law_299 : decode cL_law 299 = .ok (.aload_n 0, 1) := dk_42 (dk_at dksL_law_11 11 rfl rfl)
theorem dL_law_300 : decode cL_law 300 = .ok (.iload 4, 2) := dk_21 4 (dk_at dksL_law_11 12 rfl rfl)
theorem dL_law_302 : decode cL_law 302 = .ok (.iconst 2, 1) := dk_5 (dk_at dksL_law_11 14 rfl rfl)
theorem dL_law_303 : decode cL_law 303 = .ok (.iadd, 1) := dk_96 (dk_at dksL_law_11 15 rfl rfl)
theorem dL_law_304 : decode cL_law 304 = .ok (.iaload, 1) := dk_46 (dk_at dksL_law_11 16 rfl rfl)
theorem dL_law_305 : decode cL_law 305 = .ok (.aload_n 0, 1) := dk_42 (dk_at dksL_law_11 17 rfl rfl)
theorem dL_law_306 : decode cL_law 306 = .ok (.iload 4, 2) := dk_21 4 (dk_at dksL_law_11 18 rfl rfl)
theorem dL_law_308 : decode cL_law 308 = .ok (.iconst 3, 1) := dk_6 (dk_at dksL_law_11 20 rfl rfl)
theorem dL_law_309 : decode cL_law 309 = .ok (.iadd, 1) := dk_96 (dk_at dksL_law_11 21 rfl rfl)
theorem dL_law_310 : decode cL_law 310 = .ok (.iaload, 1) := dk_46 (dk_at dksL_law_11 22 rfl rfl)
theorem dL_law_311 : decode cL_law 311 = .ok (.aload_n 3, 1) := dk_45 (dk_at dksL_law_11 23 rfl rfl)
theorem dL_law_312 : decode cL_law 312 = .ok (.invokestatic 79, 3) := dk_184 0 79 (dk_at dksL_law_12 0 rfl rfl)
theorem dL_law_315 : decode cL_law 315 = .ok (.istore 5, 2) := dk_54 5 (dk_at dksL_law_12 3 rfl rfl)
theorem dL_law_317 : decode cL_law 317 = .ok (.aload_n 2, 1) := dk_44 (dk_at dksL_law_12 5 rfl rfl)
theorem dL_law_318 : decode cL_law 318 = .ok (.aload_n 0, 1) := dk_42 (dk_at dksL_law_12 6 rfl rfl)
theorem dL_law_319 : decode cL_law 319 = .ok (.iload 4, 2) := dk_21 4 (dk_at dksL_law_12 7 rfl rfl)
theorem dL_law_321 : decode cL_law 321 = .ok (.iconst 1, 1) := dk_4 (dk_at dksL_law_12 9 rfl rfl)
theorem dL_law_322 : decode cL_law 322 = .ok (.iadd, 1) := dk_96 (dk_at dksL_law_12 10 rfl rfl)
theorem dL_law_323 : decode cL_law 323 = .ok (.iaload, 1) := dk_46 (dk_at dksL_law_12 11 rfl rfl)
theorem dL_law_324 : decode cL_law 324 = .ok (.i2c, 1) := dk_146 (dk_at dksL_law_12 12 rfl rfl)
theorem dL_law_325 : decode cL_law 325 = .ok (.aload_n 0, 1) := dk_42 (dk_at dksL_law_12 13 rfl rfl)
theorem dL_law_326 : decode cL_law 326 = .ok (.iload 4, 2) := dk_21 4 (dk_at dksL_law_12 14 rfl rfl)
theorem dL_law_328 : decode cL_law 328 = .ok (.iconst 2, 1) := dk_5 (dk_at dksL_law_12 16 rfl rfl)
theorem dL_law_329 : decode cL_law 329 = .ok (.iadd, 1) := dk_96 (dk_at dksL_law_12 17 rfl rfl)
theorem dL_law_330 : decode cL_law 330 = .ok (.iaload, 1) := dk_46 (dk_at dksL_law_12 18 rfl rfl)
theorem dL_law_331 : decode cL_law 331 = .ok (.aload_n 0, 1) := dk_42 (dk_at dksL_law_12 19 rfl rfl)
theorem dL_law_332 : decode cL_law 332 = .ok (.iload 4, 2) := dk_21 4 (dk_at dksL_law_12 20 rfl rfl)
theorem dL_law_334 : decode cL_law 334 = .ok (.iconst 3, 1) := dk_6 (dk_at dksL_law_12 22 rfl rfl)
theorem dL_law_335 : decode cL_law 335 = .ok (.iadd, 1) := dk_96 (dk_at dksL_law_12 23 rfl rfl)
theorem dL_law_336 : decode cL_law 336 = .ok (.iaload, 1) := dk_46 (dk_at dksL_law_13 0 rfl rfl)
theorem dL_law_337 : decode cL_law 337 = .ok (.invokevirtual 82, 3) := dk_182 0 82 (dk_at dksL_law_13 1 rfl rfl)
theorem dL_law_340 : decode cL_law 340 = .ok (.istore 6, 2) := dk_54 6 (dk_at dksL_law_13 4 rfl rfl)
theorem dL_law_342 : decode cL_law 342 = .ok (.aload_n 2, 1) := dk_44 (dk_at dksL_law_13 6 rfl rfl)
theorem dL_law_343 : decode cL_law 343 = .ok (.invokevirtual 76, 3) := dk_182 0 76 (dk_at dksL_law_13 7 rfl rfl)
theorem dL_law_346 : decode cL_law 346 = .ok (.iload 5, 2) := dk_21 5 (dk_at dksL_law_13 10 rfl rfl)
theorem dL_law_348 : decode cL_law 348 = .ok (.if_icmp .eq 5, 3) := dk_159 0 5 (dk_at dksL_law_13 12 rfl rfl)
theorem dL_law_351 : decode cL_law 351 = .ok (.iconst 0, 1) := dk_3 (dk_at dksL_law_13 15 rfl rfl)
theorem dL_law_352 : decode cL_law 352 = .ok (.ireturn, 1) := dk_172 (dk_at dksL_law_13 16 rfl rfl)
theorem dL_law_353 : decode cL_law 353 = .ok (.iload 5, 2) := dk_21 5 (dk_at dksL_law_13 17 rfl rfl)
theorem dL_law_355 : decode cL_law 355 = .ok (.ifCond .ne 15, 3) := dk_154 0 15 (dk_at dksL_law_13 19 rfl rfl)
theorem dL_law_358 : decode cL_law 358 = .ok (.aload_n 3, 1) := dk_45 (dk_at dksL_law_13 22 rfl rfl)
theorem dL_law_359 : decode cL_law 359 = .ok (.iconst 0, 1) := dk_3 (dk_at dksL_law_13 23 rfl rfl)
theorem dL_law_360 : decode cL_law 360 = .ok (.laload, 1) := dk_47 (dk_at dksL_law_14 0 rfl rfl)
theorem dL_law_361 : decode cL_law 361 = .ok (.iload 6, 2) := dk_21 6 (dk_at dksL_law_14 1 rfl rfl)
theorem dL_law_363 : decode cL_law 363 = .ok (.i2l, 1) := dk_133 (dk_at dksL_law_14 3 rfl rfl)
theorem dL_law_364 : decode cL_law 364 = .ok (.lcmp, 1) := dk_148 (dk_at dksL_law_14 4 rfl rfl)
theorem dL_law_365 : decode cL_law 365 = .ok (.ifCond .eq 5, 3) := dk_153 0 5 (dk_at dksL_law_14 5 rfl rfl)
theorem dL_law_368 : decode cL_law 368 = .ok (.iconst 0, 1) := dk_3 (dk_at dksL_law_14 8 rfl rfl)
theorem dL_law_369 : decode cL_law 369 = .ok (.ireturn, 1) := dk_172 (dk_at dksL_law_14 9 rfl rfl)
theorem dL_law_370 : decode cL_law 370 = .ok (.goto 270, 3) := dk_167 1 14 (dk_at dksL_law_14 10 rfl rfl)
theorem dL_law_373 : decode cL_law 373 = .ok (.aload_n 1, 1) := dk_43 (dk_at dksL_law_14 13 rfl rfl)
theorem dL_law_374 : decode cL_law 374 = .ok (.invokevirtual 83, 3) := dk_182 0 83 (dk_at dksL_law_14 14 rfl rfl)
theorem dL_law_377 : decode cL_law 377 = .ok (.aload_n 2, 1) := dk_44 (dk_at dksL_law_14 17 rfl rfl)
theorem dL_law_378 : decode cL_law 378 = .ok (.invokevirtual 86, 3) := dk_182 0 86 (dk_at dksL_law_14 18 rfl rfl)
theorem dL_law_381 : decode cL_law 381 = .ok (.if_icmp .eq 259, 3) := dk_159 1 3 (dk_at dksL_law_14 21 rfl rfl)
theorem dL_law_384 : decode cL_law 384 = .ok (.iconst 0, 1) := dk_3 (dk_at dksL_law_15 0 rfl rfl)
theorem dL_law_385 : decode cL_law 385 = .ok (.ireturn, 1) := dk_172 (dk_at dksL_law_15 1 rfl rfl)
theorem dL_law_386 : decode cL_law 386 = .ok (.aload_n 1, 1) := dk_43 (dk_at dksL_law_15 2 rfl rfl)
theorem dL_law_387 : decode cL_law 387 = .ok (.aload_n 0, 1) := dk_42 (dk_at dksL_law_15 3 rfl rfl)
theorem dL_law_388 : decode cL_law 388 = .ok (.iload 4, 2) := dk_21 4 (dk_at dksL_law_15 4 rfl rfl)
theorem dL_law_390 : decode cL_law 390 = .ok (.iconst 1, 1) := dk_4 (dk_at dksL_law_15 6 rfl rfl)
theorem dL_law_391 : decode cL_law 391 = .ok (.iadd, 1) := dk_96 (dk_at dksL_law_15 7 rfl rfl)
theorem dL_law_392 : decode cL_law 392 = .ok (.iaload, 1) := dk_46 (dk_at dksL_law_15 8 rfl rfl)
theorem dL_law_393 : decode cL_law 393 = .ok (.aload_n 0, 1) := dk_42 (dk_at dksL_law_15 9 rfl rfl)
theorem dL_law_394 : decode cL_law 394 = .ok (.iload 4, 2) := dk_21 4 (dk_at dksL_law_15 10 rfl rfl)
theorem dL_law_396 : decode cL_law 396 = .ok (.iconst 2, 1) := dk_5 (dk_at dksL_law_15 12 rfl rfl)
theorem dL_law_397 : decode cL_law 397 = .ok (.iadd, 1) := dk_96 (dk_at dksL_law_15 13 rfl rfl)
theorem dL_law_398 : decode cL_law 398 = .ok (.iaload, 1) := dk_46 (dk_at dksL_law_15 14 rfl rfl)
theorem dL_law_399 : decode cL_law 399 = .ok (.aload_n 3, 1) := dk_45 (dk_at dksL_law_15 15 rfl rfl)
theorem dL_law_400 : decode cL_law 400 = .ok (.invokestatic 87, 3) := dk_184 0 87 (dk_at dksL_law_15 16 rfl rfl)
theorem dL_law_403 : decode cL_law 403 = .ok (.istore 5, 2) := dk_54 5 (dk_at dksL_law_15 19 rfl rfl)
theorem dL_law_405 : decode cL_law 405 = .ok (.aload_n 2, 1) := dk_44 (dk_at dksL_law_15 21 rfl rfl)
theorem dL_law_406 : decode cL_law 406 = .ok (.aload_n 0, 1) := dk_42 (dk_at dksL_law_15 22 rfl rfl)
theorem dL_law_407 : decode cL_law 407 = .ok (.iload 4, 2) := dk_21 4 (dk_at dksL_law_16 0 rfl rfl)
theorem dL_law_409 : decode cL_law 409 = .ok (.iconst 1, 1) := dk_4 (dk_at dksL_law_16 2 rfl rfl)
theorem dL_law_410 : decode cL_law 410 = .ok (.iadd, 1) := dk_96 (dk_at dksL_law_16 3 rfl rfl)
theorem dL_law_411 : decode cL_law 411 = .ok (.iaload, 1) := dk_46 (dk_at dksL_law_16 4 rfl rfl)
theorem dL_law_412 : decode cL_law 412 = .ok (.aload_n 0, 1) := dk_42 (dk_at dksL_law_16 5 rfl rfl)
theorem dL_law_413 : decode cL_law 413 = .ok (.iload 4, 2) := dk_21 4 (dk_at dksL_law_16 6 rfl rfl)
theorem dL_law_415 : decode cL_law 415 = .ok (.iconst 2, 1) := dk_5 (dk_at dksL_law_16 8 rfl rfl)
theorem dL_law_416 : decode cL_law 416 = .ok (.iadd, 1) := dk_96 (dk_at dksL_law_16 9 rfl rfl)
theorem dL_law_417 : decode cL_law 417 = .ok (.iaload, 1) := dk_46 (dk_at dksL_law_16 10 rfl rfl)
theorem dL_law_418 : decode cL_law 418 = .ok (.invokevirtual 90, 3) := dk_182 0 90 (dk_at dksL_law_16 11 rfl rfl)
theorem dL_law_421 : decode cL_law 421 = .ok (.istore 6, 2) := dk_54 6 (dk_at dksL_law_16 14 rfl rfl)
theorem dL_law_423 : decode cL_law 423 = .ok (.aload_n 2, 1) := dk_44 (dk_at dksL_law_16 16 rfl rfl)
theorem dL_law_424 : decode cL_law 424 = .ok (.invokevirtual 76, 3) := dk_182 0 76 (dk_at dksL_law_16 17 rfl rfl)
theorem dL_law_427 : decode cL_law 427 = .ok (.iload 5, 2) := dk_21 5 (dk_at dksL_law_16 20 rfl rfl)
theorem dL_law_429 : decode cL_law 429 = .ok (.if_icmp .eq 5, 3) := dk_159 0 5 (dk_at dksL_law_17 0 rfl rfl)
theorem dL_law_432 : decode cL_law 432 = .ok (.iconst 0, 1) := dk_3 (dk_at dksL_law_17 3 rfl rfl)
theorem dL_law_433 : decode cL_law 433 = .ok (.ireturn, 1) := dk_172 (dk_at dksL_law_17 4 rfl rfl)
theorem dL_law_434 : decode cL_law 434 = .ok (.iload 5, 2) := dk_21 5 (dk_at dksL_law_17 5 rfl rfl)
theorem dL_law_436 : decode cL_law 436 = .ok (.ifCond .ne 15, 3) := dk_154 0 15 (dk_at dksL_law_17 7 rfl rfl)
theorem dL_law_439 : decode cL_law 439 = .ok (.aload_n 3, 1) := dk_45 (dk_at dksL_law_17 10 rfl rfl)
theorem dL_law_440 : decode cL_law 440 = .ok (.iconst 0, 1) := dk_3 (dk_at dksL_law_17 11 rfl rfl)
theorem dL_law_441 : decode cL_law 441 = .ok (.laload, 1) := dk_47 (dk_at dksL_law_17 12 rfl rfl)
theorem dL_law_442 : decode cL_law 442 = .ok (.iload 6, 2) := dk_21 6 (dk_at dksL_law_17 13 rfl rfl)
theorem dL_law_444 : decode cL_law 444 = .ok (.i2l, 1) := dk_133 (dk_at dksL_law_17 15 rfl rfl)
theorem dL_law_445 : decode cL_law 445 = .ok (.lcmp, 1) := dk_148 (dk_at dksL_law_17 16 rfl rfl)
theorem dL_law_446 : decode cL_law 446 = .ok (.ifCond .eq 5, 3) := dk_153 0 5 (dk_at dksL_law_17 17 rfl rfl)
theorem dL_law_449 : decode cL_law 449 = .ok (.iconst 0, 1) := dk_3 (dk_at dksL_law_17 20 rfl rfl)
theorem dL_law_450 : decode cL_law 450 = .ok (.ireturn, 1) := dk_172 (dk_at dksL_law_17 21 rfl rfl)
theorem dL_law_451 : decode cL_law 451 = .ok (.goto 189, 3) := dk_167 0 189 (dk_at dksL_law_18 0 rfl rfl)
theorem dL_law_454 : decode cL_law 454 = .ok (.aload_n 1, 1) := dk_43 (dk_at dksL_law_18 3 rfl rfl)
theorem dL_law_455 : decode cL_law 455 = .ok (.aload_n 0, 1) := dk_42 (dk_at dksL_law_18 4 rfl rfl)
theorem dL_law_456 : decode cL_law 456 = .ok (.iload 4, 2) := dk_21 4 (dk_at dksL_law_18 5 rfl rfl)
theorem dL_law_458 : decode cL_law 458 = .ok (.iconst 1, 1) := dk_4 (dk_at dksL_law_18 7 rfl rfl)
theorem dL_law_459 : decode cL_law 459 = .ok (.iadd, 1) := dk_96 (dk_at dksL_law_18 8 rfl rfl)
theorem dL_law_460 : decode cL_law 460 = .ok (.iaload, 1) := dk_46 (dk_at dksL_law_18 9 rfl rfl)
theorem dL_law_461 : decode cL_law 461 = .ok (.aload_n 0, 1) := dk_42 (dk_at dksL_law_18 10 rfl rfl)
theorem dL_law_462 : decode cL_law 462 = .ok (.iload 4, 2) := dk_21 4 (dk_at dksL_law_18 11 rfl rfl)
theorem dL_law_464 : decode cL_law 464 = .ok (.iconst 2, 1) := dk_5 (dk_at dksL_law_18 13 rfl rfl)
theorem dL_law_465 : decode cL_law 465 = .ok (.iadd, 1) := dk_96 (dk_at dksL_law_18 14 rfl rfl)
theorem dL_law_466 : decode cL_law 466 = .ok (.iaload, 1) := dk_46 (dk_at dksL_law_18 15 rfl rfl)
theorem dL_law_467 : decode cL_law 467 = .ok (.aload_n 3, 1) := dk_45 (dk_at dksL_law_18 16 rfl rfl)
theorem dL_law_468 : decode cL_law 468 = .ok (.invokestatic 91, 3) := dk_184 0 91 (dk_at dksL_law_18 17 rfl rfl)
theorem dL_law_471 : decode cL_law 471 = .ok (.istore 5, 2) := dk_54 5 (dk_at dksL_law_18 20 rfl rfl)
theorem dL_law_473 : decode cL_law 473 = .ok (.aload_n 2, 1) := dk_44 (dk_at dksL_law_18 22 rfl rfl)
theorem dL_law_474 : decode cL_law 474 = .ok (.aload_n 0, 1) := dk_42 (dk_at dksL_law_18 23 rfl rfl)
theorem dL_law_475 : decode cL_law 475 = .ok (.iload 4, 2) := dk_21 4 (dk_at dksL_law_19 0 rfl rfl)
theorem dL_law_477 : decode cL_law 477 = .ok (.iconst 1, 1) := dk_4 (dk_at dksL_law_19 2 rfl rfl)
theorem dL_law_478 : decode cL_law 478 = .ok (.iadd, 1) := dk_96 (dk_at dksL_law_19 3 rfl rfl)
theorem dL_law_479 : decode cL_law 479 = .ok (.iaload, 1) := dk_46 (dk_at dksL_law_19 4 rfl rfl)
theorem dL_law_480 : decode cL_law 480 = .ok (.aload_n 0, 1) := dk_42 (dk_at dksL_law_19 5 rfl rfl)
theorem dL_law_481 : decode cL_law 481 = .ok (.iload 4, 2) := dk_21 4 (dk_at dksL_law_19 6 rfl rfl)
theorem dL_law_483 : decode cL_law 483 = .ok (.iconst 2, 1) := dk_5 (dk_at dksL_law_19 8 rfl rfl)
theorem dL_law_484 : decode cL_law 484 = .ok (.iadd, 1) := dk_96 (dk_at dksL_law_19 9 rfl rfl)
theorem dL_law_485 : decode cL_law 485 = .ok (.iaload, 1) := dk_46 (dk_at dksL_law_19 10 rfl rfl)
theorem dL_law_486 : decode cL_law 486 = .ok (.invokevirtual 93, 3) := dk_182 0 93 (dk_at dksL_law_19 11 rfl rfl)
theorem dL_law_489 : decode cL_law 489 = .ok (.istore 6, 2) := dk_54 6 (dk_at dksL_law_19 14 rfl rfl)
theorem dL_law_491 : decode cL_law 491 = .ok (.aload_n 2, 1) := dk_44 (dk_at dksL_law_19 16 rfl rfl)
theorem dL_law_492 : decode cL_law 492 = .ok (.invokevirtual 76, 3) := dk_182 0 76 (dk_at dksL_law_19 17 rfl rfl)
theorem dL_law_495 : decode cL_law 495 = .ok (.iload 5, 2) := dk_21 5 (dk_at dksL_law_19 20 rfl rfl)
theorem dL_law_497 : decode cL_law 497 = .ok (.if_icmp .eq 5, 3) := dk_159 0 5 (dk_at dksL_law_20 0 rfl rfl)
theorem dL_law_500 : decode cL_law 500 = .ok (.iconst 0, 1) := dk_3 (dk_at dksL_law_20 3 rfl rfl)
theorem dL_law_501 : decode cL_law 501 = .ok (.ireturn, 1) := dk_172 (dk_at dksL_law_20 4 rfl rfl)
theorem dL_law_502 : decode cL_law 502 = .ok (.iload 5, 2) := dk_21 5 (dk_at dksL_law_20 5 rfl rfl)
theorem dL_law_504 : decode cL_law 504 = .ok (.ifCond .ne 15, 3) := dk_154 0 15 (dk_at dksL_law_20 7 rfl rfl)
theorem dL_law_507 : decode cL_law 507 = .ok (.aload_n 3, 1) := dk_45 (dk_at dksL_law_20 10 rfl rfl)
theorem dL_law_508 : decode cL_law 508 = .ok (.iconst 0, 1) := dk_3 (dk_at dksL_law_20 11 rfl rfl)
theorem dL_law_509 : decode cL_law 509 = .ok (.laload, 1) := dk_47 (dk_at dksL_law_20 12 rfl rfl)
theorem dL_law_510 : decode cL_law 510 = .ok (.iload 6, 2) := dk_21 6 (dk_at dksL_law_20 13 rfl rfl)
theorem dL_law_512 : decode cL_law 512 = .ok (.i2l, 1) := dk_133 (dk_at dksL_law_20 15 rfl rfl)
theorem dL_law_513 : decode cL_law 513 = .ok (.lcmp, 1) := dk_148 (dk_at dksL_law_20 16 rfl rfl)
theorem dL_law_514 : decode cL_law 514 = .ok (.ifCond .eq 5, 3) := dk_153 0 5 (dk_at dksL_law_20 17 rfl rfl)
theorem dL_law_517 : decode cL_law 517 = .ok (.iconst 0, 1) := dk_3 (dk_at dksL_law_20 20 rfl rfl)
theorem dL_law_518 : decode cL_law 518 = .ok (.ireturn, 1) := dk_172 (dk_at dksL_law_20 21 rfl rfl)
theorem dL_law_519 : decode cL_law 519 = .ok (.goto 121, 3) := dk_167 0 121 (dk_at dksL_law_21 0 rfl rfl)
theorem dL_law_522 : decode cL_law 522 = .ok (.aload_n 1, 1) := dk_43 (dk_at dksL_law_21 3 rfl rfl)
theorem dL_law_523 : decode cL_law 523 = .ok (.aload_n 0, 1) := dk_42 (dk_at dksL_law_21 4 rfl rfl)
theorem dL_law_524 : decode cL_law 524 = .ok (.iload 4, 2) := dk_21 4 (dk_at dksL_law_21 5 rfl rfl)
theorem dL_law_526 : decode cL_law 526 = .ok (.iconst 1, 1) := dk_4 (dk_at dksL_law_21 7 rfl rfl)
theorem dL_law_527 : decode cL_law 527 = .ok (.iadd, 1) := dk_96 (dk_at dksL_law_21 8 rfl rfl)
theorem dL_law_528 : decode cL_law 528 = .ok (.iaload, 1) := dk_46 (dk_at dksL_law_21 9 rfl rfl)
theorem dL_law_529 : decode cL_law 529 = .ok (.aload_n 0, 1) := dk_42 (dk_at dksL_law_21 10 rfl rfl)
theorem dL_law_530 : decode cL_law 530 = .ok (.iload 4, 2) := dk_21 4 (dk_at dksL_law_21 11 rfl rfl)
theorem dL_law_532 : decode cL_law 532 = .ok (.iconst 2, 1) := dk_5 (dk_at dksL_law_21 13 rfl rfl)
theorem dL_law_533 : decode cL_law 533 = .ok (.iadd, 1) := dk_96 (dk_at dksL_law_21 14 rfl rfl)
theorem dL_law_534 : decode cL_law 534 = .ok (.iaload, 1) := dk_46 (dk_at dksL_law_21 15 rfl rfl)
theorem dL_law_535 : decode cL_law 535 = .ok (.i2c, 1) := dk_146 (dk_at dksL_law_21 16 rfl rfl)
theorem dL_law_536 : decode cL_law 536 = .ok (.aload_n 0, 1) := dk_42 (dk_at dksL_law_21 17 rfl rfl)
theorem dL_law_537 : decode cL_law 537 = .ok (.iload 4, 2) := dk_21 4 (dk_at dksL_law_21 18 rfl rfl)
theorem dL_law_539 : decode cL_law 539 = .ok (.iconst 3, 1) := dk_6 (dk_at dksL_law_21 20 rfl rfl)
theorem dL_law_540 : decode cL_law 540 = .ok (.iadd, 1) := dk_96 (dk_at dksL_law_21 21 rfl rfl)
theorem dL_law_541 : decode cL_law 541 = .ok (.iaload, 1) := dk_46 (dk_at dksL_law_21 22 rfl rfl)
theorem dL_law_542 : decode cL_law 542 = .ok (.aload_n 0, 1) := dk_42 (dk_at dksL_law_21 23 rfl rfl)
theorem dL_law_543 : decode cL_law 543 = .ok (.iload 4, 2) := dk_21 4 (dk_at dksL_law_22 0 rfl rfl)
theorem dL_law_545 : decode cL_law 545 = .ok (.iconst 4, 1) := dk_7 (dk_at dksL_law_22 2 rfl rfl)
theorem dL_law_546 : decode cL_law 546 = .ok (.iadd, 1) := dk_96 (dk_at dksL_law_22 3 rfl rfl)
theorem dL_law_547 : decode cL_law 547 = .ok (.iaload, 1) := dk_46 (dk_at dksL_law_22 4 rfl rfl)
theorem dL_law_548 : decode cL_law 548 = .ok (.invokestatic 94, 3) := dk_184 0 94 (dk_at dksL_law_22 5 rfl rfl)
theorem dL_law_551 : decode cL_law 551 = .ok (.istore 5, 2) := dk_54 5 (dk_at dksL_law_22 8 rfl rfl)
theorem dL_law_553 : decode cL_law 553 = .ok (.aload_n 2, 1) := dk_44 (dk_at dksL_law_22 10 rfl rfl)
theorem dL_law_554 : decode cL_law 554 = .ok (.aload_n 0, 1) := dk_42 (dk_at dksL_law_22 11 rfl rfl)
theorem dL_law_555 : decode cL_law 555 = .ok (.iload 4, 2) := dk_21 4 (dk_at dksL_law_22 12 rfl rfl)
theorem dL_law_557 : decode cL_law 557 = .ok (.iconst 1, 1) := dk_4 (dk_at dksL_law_22 14 rfl rfl)
theorem dL_law_558 : decode cL_law 558 = .ok (.iadd, 1) := dk_96 (dk_at dksL_law_22 15 rfl rfl)
theorem dL_law_559 : decode cL_law 559 = .ok (.iaload, 1) := dk_46 (dk_at dksL_law_22 16 rfl rfl)
theorem dL_law_560 : decode cL_law 560 = .ok (.aload_n 0, 1) := dk_42 (dk_at dksL_law_22 17 rfl rfl)
theorem dL_law_561 : decode cL_law 561 = .ok (.iload 4, 2) := dk_21 4 (dk_at dksL_law_22 18 rfl rfl)
theorem dL_law_563 : decode cL_law 563 = .ok (.iconst 2, 1) := dk_5 (dk_at dksL_law_22 20 rfl rfl)
theorem dL_law_564 : decode cL_law 564 = .ok (.iadd, 1) := dk_96 (dk_at dksL_law_22 21 rfl rfl)
theorem dL_law_565 : decode cL_law 565 = .ok (.iaload, 1) := dk_46 (dk_at dksL_law_22 22 rfl rfl)
theorem dL_law_566 : decode cL_law 566 = .ok (.i2c, 1) := dk_146 (dk_at dksL_law_22 23 rfl rfl)
theorem dL_law_567 : decode cL_law 567 = .ok (.aload_n 0, 1) := dk_42 (dk_at dksL_law_23 0 rfl rfl)
theorem dL_law_568 : decode cL_law 568 = .ok (.iload 4, 2) := dk_21 4 (dk_at dksL_law_23 1 rfl rfl)
theorem dL_law_570 : decode cL_law 570 = .ok (.iconst 3, 1) := dk_6 (dk_at dksL_law_23 3 rfl rfl)
theorem dL_law_571 : decode cL_law 571 = .ok (.iadd, 1) := dk_96 (dk_at dksL_law_23 4 rfl rfl)
theorem dL_law_572 : decode cL_law 572 = .ok (.iaload, 1) := dk_46 (dk_at dksL_law_23 5 rfl rfl)
theorem dL_law_573 : decode cL_law 573 = .ok (.aload_n 0, 1) := dk_42 (dk_at dksL_law_23 6 rfl rfl)
theorem dL_law_574 : decode cL_law 574 = .ok (.iload 4, 2) := dk_21 4 (dk_at dksL_law_23 7 rfl rfl)
theorem dL_law_576 : decode cL_law 576 = .ok (.iconst 4, 1) := dk_7 (dk_at dksL_law_23 9 rfl rfl)
theorem dL_law_577 : decode cL_law 577 = .ok (.iadd, 1) := dk_96 (dk_at dksL_law_23 10 rfl rfl)
theorem dL_law_578 : decode cL_law 578 = .ok (.iaload, 1) := dk_46 (dk_at dksL_law_23 11 rfl rfl)
theorem dL_law_579 : decode cL_law 579 = .ok (.invokevirtual 97, 3) := dk_182 0 97 (dk_at dksL_law_23 12 rfl rfl)
theorem dL_law_582 : decode cL_law 582 = .ok (.aload_n 2, 1) := dk_44 (dk_at dksL_law_23 15 rfl rfl)
theorem dL_law_583 : decode cL_law 583 = .ok (.invokevirtual 76, 3) := dk_182 0 76 (dk_at dksL_law_23 16 rfl rfl)
theorem dL_law_586 : decode cL_law 586 = .ok (.iload 5, 2) := dk_21 5 (dk_at dksL_law_23 19 rfl rfl)
theorem dL_law_588 : decode cL_law 588 = .ok (.if_icmp .eq 5, 3) := dk_159 0 5 (dk_at dksL_law_23 21 rfl rfl)
theorem dL_law_591 : decode cL_law 591 = .ok (.iconst 0, 1) := dk_3 (dk_at dksL_law_24 0 rfl rfl)
theorem dL_law_592 : decode cL_law 592 = .ok (.ireturn, 1) := dk_172 (dk_at dksL_law_24 1 rfl rfl)
theorem dL_law_593 : decode cL_law 593 = .ok (.goto 47, 3) := dk_167 0 47 (dk_at dksL_law_24 2 rfl rfl)
theorem dL_law_596 : decode cL_law 596 = .ok (.aload_n 1, 1) := dk_43 (dk_at dksL_law_24 5 rfl rfl)
theorem dL_law_597 : decode cL_law 597 = .ok (.aload_n 3, 1) := dk_45 (dk_at dksL_law_24 6 rfl rfl)
theorem dL_law_598 : decode cL_law 598 = .ok (.invokestatic 98, 3) := dk_184 0 98 (dk_at dksL_law_24 7 rfl rfl)
theorem dL_law_601 : decode cL_law 601 = .ok (.istore 5, 2) := dk_54 5 (dk_at dksL_law_24 10 rfl rfl)
theorem dL_law_603 : decode cL_law 603 = .ok (.aload_n 2, 1) := dk_44 (dk_at dksL_law_24 12 rfl rfl)
theorem dL_law_604 : decode cL_law 604 = .ok (.invokevirtual 101, 3) := dk_182 0 101 (dk_at dksL_law_24 13 rfl rfl)
theorem dL_law_607 : decode cL_law 607 = .ok (.istore 6, 2) := dk_54 6 (dk_at dksL_law_24 16 rfl rfl)
theorem dL_law_609 : decode cL_law 609 = .ok (.aload_n 2, 1) := dk_44 (dk_at dksL_law_24 18 rfl rfl)
theorem dL_law_610 : decode cL_law 610 = .ok (.invokevirtual 76, 3) := dk_182 0 76 (dk_at dksL_law_24 19 rfl rfl)
theorem dL_law_613 : decode cL_law 613 = .ok (.iload 5, 2) := dk_21 5 (dk_at dksL_law_24 22 rfl rfl)
theorem dL_law_615 : decode cL_law 615 = .ok (.if_icmp .eq 5, 3) := dk_159 0 5 (dk_at dksL_law_25 0 rfl rfl)
theorem dL_law_618 : decode cL_law 618 = .ok (.iconst 0, 1) := dk_3 (dk_at dksL_law_25 3 rfl rfl)
theorem dL_law_619 : decode cL_law 619 = .ok (.ireturn, 1) := dk_172 (dk_at dksL_law_25 4 rfl rfl)
theorem dL_law_620 : decode cL_law 620 = .ok (.iload 5, 2) := dk_21 5 (dk_at dksL_law_25 5 rfl rfl)
theorem dL_law_622 : decode cL_law 622 = .ok (.ifCond .ne 15, 3) := dk_154 0 15 (dk_at dksL_law_25 7 rfl rfl)
theorem dL_law_625 : decode cL_law 625 = .ok (.aload_n 3, 1) := dk_45 (dk_at dksL_law_25 10 rfl rfl)
theorem dL_law_626 : decode cL_law 626 = .ok (.iconst 0, 1) := dk_3 (dk_at dksL_law_25 11 rfl rfl)
theorem dL_law_627 : decode cL_law 627 = .ok (.laload, 1) := dk_47 (dk_at dksL_law_25 12 rfl rfl)
theorem dL_law_628 : decode cL_law 628 = .ok (.iload 6, 2) := dk_21 6 (dk_at dksL_law_25 13 rfl rfl)
theorem dL_law_630 : decode cL_law 630 = .ok (.i2l, 1) := dk_133 (dk_at dksL_law_25 15 rfl rfl)
theorem dL_law_631 : decode cL_law 631 = .ok (.lcmp, 1) := dk_148 (dk_at dksL_law_25 16 rfl rfl)
theorem dL_law_632 : decode cL_law 632 = .ok (.ifCond .eq 5, 3) := dk_153 0 5 (dk_at dksL_law_25 17 rfl rfl)
theorem dL_law_635 : decode cL_law 635 = .ok (.iconst 0, 1) := dk_3 (dk_at dksL_law_25 20 rfl rfl)
theorem dL_law_636 : decode cL_law 636 = .ok (.ireturn, 1) := dk_172 (dk_at dksL_law_25 21 rfl rfl)
theorem dL_law_637 : decode cL_law 637 = .ok (.goto 3, 3) := dk_167 0 3 (dk_at dksL_law_26 0 rfl rfl)
theorem dL_law_640 : decode cL_law 640 = .ok (.iinc 4 5, 3) := dk_132 4 5 (dk_at dksL_law_26 3 rfl rfl)
theorem dL_law_643 : decode cL_law 643 = .ok (.goto (-620), 3) := dk_167 253 148 (dk_at dksL_law_26 6 rfl rfl)
theorem dL_law_646 : decode cL_law 646 = .ok (.iconst 1, 1) := dk_4 (dk_at dksL_law_26 9 rfl rfl)
theorem dL_law_647 : decode cL_law 647 = .ok (.ireturn, 1) := dk_172 (dk_at dksL_law_26 10 rfl rfl)
