/-! NotationDeskModel -/
set_option maxRecDepth 100000
def RX6 : String := "NotationDeskModel"
def TX6 : u_T := fun k => match k with
  | 0 => ("NotationDeskModel", "code", "I", false)
  | 1 => ("NotationDeskModel", "module", "Z", false)
  | 2 => ("NotationDeskModel", "size", "I", false)
  | 3 => ("NotationDeskModel", "place", "I", false)
  | 4 => ("NotationDeskModel", "fault", "I", false)
  | 5 => ("NotationDeskModel", "depth", "I", false)
  | 6 => ("NotationDeskModel", "told", "I", false)
  | 7 => ("NotationDeskModel", "text", "[C", true)
  | 8 => ("NotationDeskModel", "open", "[I", true)
  | 9 => ("NotationDeskModel", "names", "[I", true)
  | 10 => ("NotationDeskModel", "types", "I", false)
  | 11 => ("NotationDeskModel", "kind", "[I", true)
  | 12 => ("NotationDeskModel", "low", "[I", true)
  | 13 => ("NotationDeskModel", "high", "[I", true)
  | 14 => ("NotationDeskModel", "digit", "[I", true)
  | 15 => ("NotationDeskModel", "count", "[I", true)
  | 16 => ("NotationDeskModel", "begins", "[I", true)
  | 17 => ("NotationDeskModel", "height", "[I", true)
  | 18 => ("NotationDeskModel", "sized", "[Z", true)
  | 19 => ("NotationDeskModel", "implicit", "[Z", true)
  | 20 => ("NotationDeskModel", "child", "[I", true)
  | 21 => ("NotationDeskModel", "flag", "[I", true)
  | 22 => ("NotationDeskModel", "given", "[I", true)
  | 23 => ("NotationDeskModel", "base", "I", false)
  | 24 => ("NotationDeskModel", "tags", "I", false)
  | 25 => ("NotationDeskModel", "tag", "[I", true)
  | 26 => ("NotationDeskModel", "around", "[I", true)
  | 27 => ("NotationDeskModel", "buffered", "I", false)
  | 28 => ("NotationDeskModel", "sources", "I", false)
  | 29 => ("NotationDeskModel", "makes", "I", false)
  | 30 => ("NotationDeskModel", "bits", "I", false)
  | 31 => ("NotationDeskModel", "buffer", "[I", true)
  | 32 => ("NotationDeskModel", "source", "[I", true)
  | 33 => ("NotationDeskModel", "made", "[I", true)
  | 34 => ("NotationDeskModel", "many", "I", false)
  | 35 => ("NotationDeskModel", "held", "I", false)
  | 36 => ("NotationDeskModel", "type", "[I", true)
  | 37 => ("NotationDeskModel", "number", "[I", true)
  | 38 => ("NotationDeskModel", "which", "[I", true)
  | 39 => ("NotationDeskModel", "parent", "[I", true)
  | 40 => ("NotationDeskModel", "from", "[I", true)
  | 41 => ("NotationDeskModel", "below", "[I", true)
  | 42 => ("NotationDeskModel", "start", "[I", true)
  | 43 => ("NotationDeskModel", "octets", "[I", true)
  | 44 => ("NotationDeskModel", "parts", "I", false)
  | 45 => ("NotationDeskModel", "shown", "[I", true)
  | 46 => ("NotationDeskModel", "spelled", "[I", true)
  | 47 => ("NotationDeskModel", "at", "I", false)
  | 48 => ("NotationDeskModel", "frames", "I", false)
  | 49 => ("NotationDeskModel", "good", "Z", false)
  | 50 => ("NotationDeskModel", "framePart", "[I", true)
  | 51 => ("NotationDeskModel", "frameEnd", "[I", true)
  | 52 => ("NotationDeskModel", "frameNext", "[I", true)
  | 53 => ("NotationDeskModel", "frameBits", "[I", true)
  | 54 => ("NotationDeskModel", "loose", "[Z", true)
  | 55 => ("NotationDeskModel", "operationType", "[I", true)
  | 56 => ("NotationDeskModel", "takes", "[I", true)
  | 57 => ("NotationDeskModel", "answers", "[I", true)
  | _ => ("NotationDeskModel", "served", "[Z", true)
def tyX6 : Nat → FieldType := fun k => match k with
  | 0 => .int
  | 1 => .boolean
  | 2 => .int
  | 3 => .int
  | 4 => .int
  | 5 => .int
  | 6 => .int
  | 7 => .array .char
  | 8 => .array .int
  | 9 => .array .int
  | 10 => .int
  | 11 => .array .int
  | 12 => .array .int
  | 13 => .array .int
  | 14 => .array .int
  | 15 => .array .int
  | 16 => .array .int
  | 17 => .array .int
  | 18 => .array .boolean
  | 19 => .array .boolean
  | 20 => .array .int
  | 21 => .array .int
  | 22 => .array .int
  | 23 => .int
  | 24 => .int
  | 25 => .array .int
  | 26 => .array .int
  | 27 => .int
  | 28 => .int
  | 29 => .int
  | 30 => .int
  | 31 => .array .int
  | 32 => .array .int
  | 33 => .array .int
  | 34 => .int
  | 35 => .int
  | 36 => .array .int
  | 37 => .array .int
  | 38 => .array .int
  | 39 => .array .int
  | 40 => .array .int
  | 41 => .array .int
  | 42 => .array .int
  | 43 => .array .int
  | 44 => .int
  | 45 => .array .int
  | 46 => .array .int
  | 47 => .int
  | 48 => .int
  | 49 => .boolean
  | 50 => .array .int
  | 51 => .array .int
  | 52 => .array .int
  | 53 => .array .int
  | 54 => .array .boolean
  | 55 => .array .int
  | 56 => .array .int
  | 57 => .array .int
  | _ => .array .boolean
abbrev wsX60 : List Cond := u_ws RX6 TX6 59
set_option maxRecDepth 100000 in
theorem nmX6 : ∀ a, a < 59 → ∀ b, b < 59 → a ≠ b → (TX6 a).2.1 ≠ (TX6 b).2.1 := by decide +kernel
set_option maxRecDepth 100000 in
theorem tyX6_ok : ∀ k, k < 59 → parseFieldDescriptor (TX6 k).2.2.1 = some (tyX6 k) := by decide +kernel
abbrev cX6_init : ByteArray := prog_18_method_1_code
def yX6_init : MethodName := ⟨RX6, "<init>", "()V"⟩
def dkwX6_init_15 : List UInt8 := [182, 0, 129, 177]
abbrev dktX6_init_15 : List UInt8 := dkwX6_init_15 ++ []
def dkwX6_init_14 : List UInt8 := [188, 10, 181, 0, 120, 42, 16, 8, 188, 10, 181, 0, 123, 42, 17, 1, 0, 188, 4, 181, 0, 126, 42]
abbrev dktX6_init_14 : List UInt8 := dkwX6_init_14 ++ dktX6_init_15
def dkwX6_init_13 : List UInt8 := [181, 0, 111, 42, 17, 0, 160, 188, 4, 181, 0, 114, 42, 16, 8, 188, 10, 181, 0, 117, 42, 16, 8]
abbrev dktX6_init_13 : List UInt8 := dkwX6_init_13 ++ dktX6_init_14
def dkwX6_init_12 : List UInt8 := [17, 0, 160, 188, 10, 181, 0, 105, 42, 17, 0, 160, 188, 10, 181, 0, 108, 42, 17, 0, 160, 188, 10]
abbrev dktX6_init_12 : List UInt8 := dkwX6_init_12 ++ dktX6_init_13
def dkwX6_init_11 : List UInt8 := [181, 0, 96, 42, 17, 0, 240, 188, 10, 181, 0, 99, 42, 17, 0, 160, 188, 10, 181, 0, 102, 42]
abbrev dktX6_init_11 : List UInt8 := dkwX6_init_11 ++ dktX6_init_12
def dkwX6_init_10 : List UInt8 := [16, 101, 188, 10, 181, 0, 90, 42, 17, 0, 240, 188, 10, 181, 0, 93, 42, 17, 1, 244, 188, 10]
abbrev dktX6_init_10 : List UInt8 := dkwX6_init_10 ++ dktX6_init_11
def dkwX6_init_9 : List UInt8 := [16, 100, 188, 10, 181, 0, 81, 42, 16, 100, 188, 10, 181, 0, 84, 42, 16, 100, 188, 10, 181, 0, 87, 42]
abbrev dktX6_init_9 : List UInt8 := dkwX6_init_9 ++ dktX6_init_10
def dkwX6_init_8 : List UInt8 := [16, 100, 188, 10, 181, 0, 72, 42, 16, 100, 188, 10, 181, 0, 75, 42, 16, 100, 188, 10, 181, 0, 78, 42]
abbrev dktX6_init_8 : List UInt8 := dkwX6_init_8 ++ dktX6_init_9
def dkwX6_init_7 : List UInt8 := [188, 10, 181, 0, 63, 42, 16, 120, 188, 10, 181, 0, 66, 42, 17, 15, 160, 188, 10, 181, 0, 69, 42]
abbrev dktX6_init_7 : List UInt8 := dkwX6_init_7 ++ dktX6_init_8
def dkwX6_init_6 : List UInt8 := [181, 0, 54, 42, 16, 16, 188, 10, 181, 0, 57, 42, 17, 0, 150, 188, 10, 181, 0, 60, 42, 16, 120]
abbrev dktX6_init_6 : List UInt8 := dkwX6_init_6 ++ dktX6_init_7
def dkwX6_init_5 : List UInt8 := [17, 3, 192, 188, 10, 181, 0, 48, 42, 17, 3, 192, 188, 10, 181, 0, 51, 42, 17, 3, 192, 188, 10]
abbrev dktX6_init_5 : List UInt8 := dkwX6_init_5 ++ dktX6_init_6
def dkwX6_init_4 : List UInt8 := [181, 0, 38, 42, 17, 0, 160, 188, 4, 181, 0, 41, 42, 17, 0, 160, 188, 4, 181, 0, 45, 42]
abbrev dktX6_init_4 : List UInt8 := dkwX6_init_4 ++ dktX6_init_5
def dkwX6_init_3 : List UInt8 := [17, 0, 160, 188, 10, 181, 0, 32, 42, 17, 0, 160, 188, 10, 181, 0, 35, 42, 17, 0, 160, 188, 10]
abbrev dktX6_init_3 : List UInt8 := dkwX6_init_3 ++ dktX6_init_4
def dkwX6_init_2 : List UInt8 := [181, 0, 23, 42, 17, 0, 160, 188, 10, 181, 0, 26, 42, 17, 0, 160, 188, 10, 181, 0, 29, 42]
abbrev dktX6_init_2 : List UInt8 := dkwX6_init_2 ++ dktX6_init_3
def dkwX6_init_1 : List UInt8 := [16, 26, 188, 10, 181, 0, 17, 42, 17, 0, 160, 188, 10, 181, 0, 20, 42, 17, 0, 160, 188, 10]
abbrev dktX6_init_1 : List UInt8 := dkwX6_init_1 ++ dktX6_init_2
def dkwX6_init_0 : List UInt8 := [42, 183, 0, 1, 42, 17, 0, 150, 188, 5, 181, 0, 7, 42, 17, 0, 150, 188, 10, 181, 0, 13, 42]
abbrev dktX6_init_0 : List UInt8 := dkwX6_init_0 ++ dktX6_init_1
theorem dksX6_init_0 : cX6_init.data.toList.drop 0 = dktX6_init_0 := by decide +kernel
theorem dksX6_init_1 : cX6_init.data.toList.drop 23 = dktX6_init_1 := dk_seg dksX6_init_0 23 rfl rfl
theorem dksX6_init_2 : cX6_init.data.toList.drop 45 = dktX6_init_2 := dk_seg dksX6_init_1 22 rfl rfl
theorem dksX6_init_3 : cX6_init.data.toList.drop 67 = dktX6_init_3 := dk_seg dksX6_init_2 22 rfl rfl
theorem dksX6_init_4 : cX6_init.data.toList.drop 90 = dktX6_init_4 := dk_seg dksX6_init_3 23 rfl rfl
theorem dksX6_init_5 : cX6_init.data.toList.drop 112 = dktX6_init_5 := dk_seg dksX6_init_4 22 rfl rfl
theorem dksX6_init_6 : cX6_init.data.toList.drop 135 = dktX6_init_6 := dk_seg dksX6_init_5 23 rfl rfl
theorem dksX6_init_7 : cX6_init.data.toList.drop 158 = dktX6_init_7 := dk_seg dksX6_init_6 23 rfl rfl
theorem dksX6_init_8 : cX6_init.data.toList.drop 181 = dktX6_init_8 := dk_seg dksX6_init_7 23 rfl rfl
theorem dksX6_init_9 : cX6_init.data.toList.drop 205 = dktX6_init_9 := dk_seg dksX6_init_8 24 rfl rfl
theorem dksX6_init_10 : cX6_init.data.toList.drop 229 = dktX6_init_10 := dk_seg dksX6_init_9 24 rfl rfl
theorem dksX6_init_11 : cX6_init.data.toList.drop 251 = dktX6_init_11 := dk_seg dksX6_init_10 22 rfl rfl
theorem dksX6_init_12 : cX6_init.data.toList.drop 273 = dktX6_init_12 := dk_seg dksX6_init_11 22 rfl rfl
theorem dksX6_init_13 : cX6_init.data.toList.drop 296 = dktX6_init_13 := dk_seg dksX6_init_12 23 rfl rfl
theorem dksX6_init_14 : cX6_init.data.toList.drop 319 = dktX6_init_14 := dk_seg dksX6_init_13 23 rfl rfl
theorem dksX6_init_15 : cX6_init.data.toList.drop 342 = dktX6_init_15 := dk_seg dksX6_init_14 23 rfl rfl
theorem dX6_init_0 : decode cX6_init 0 = .ok (.aload_n 0, 1) := dk_42 (dk_at dksX6_init_0 0 rfl rfl)
theorem dX6_init_1 : decode cX6_init 1 = .ok (.invokespecial 1, 3) := dk_183 0 1 (dk_at dksX6_init_0 1 rfl rfl)
theorem dX6_init_4 : decode cX6_init 4 = .ok (.aload_n 0, 1) := dk_42 (dk_at dksX6_init_0 4 rfl rfl)
theorem dX6_init_5 : decode cX6_init 5 = .ok (.sipush 150, 3) := dk_17 0 150 (dk_at dksX6_init_0 5 rfl rfl)
theorem dX6_init_8 : decode cX6_init 8 = .ok (.newarray .char, 2) := dk_188_5 (dk_at dksX6_init_0 8 rfl rfl)
theorem dX6_init_10 : decode cX6_init 10 = .ok (.putfield 7, 3) := dk_181 0 7 (dk_at dksX6_init_0 10 rfl rfl)
theorem dX6_init_13 : decode cX6_init 13 = .ok (.aload_n 0, 1) := dk_42 (dk_at dksX6_init_0 13 rfl rfl)
theorem dX6_init_14 : decode cX6_init 14 = .ok (.sipush 150, 3) := dk_17 0 150 (dk_at dksX6_init_0 14 rfl rfl)
theorem dX6_init_17 : decode cX6_init 17 = .ok (.newarray .int, 2) := dk_188_10 (dk_at dksX6_init_0 17 rfl rfl)
theorem dX6_init_19 : decode cX6_init 19 = .ok (.putfield 13, 3) := dk_181 0 13 (dk_at dksX6_init_0 19 rfl rfl)
theorem dX6_init_22 : decode cX6_init 22 = .ok (.aload_n 0, 1) := dk_42 (dk_at dksX6_init_0 22 rfl rfl)
theorem dX6_init_23 : decode cX6_init 23 = .ok (.bipush 26, 2) := dk_16 26 (dk_at dksX6_init_1 0 rfl rfl)
theorem dX6_init_25 : decode cX6_init 25 = .ok (.newarray .int, 2) := dk_188_10 (dk_at dksX6_init_1 2 rfl rfl)
theorem dX6_init_27 : decode cX6_init 27 = .ok (.putfield 17, 3) := dk_181 0 17 (dk_at dksX6_init_1 4 rfl rfl)
theorem dX6_init_30 : decode cX6_init 30 = .ok (.aload_n 0, 1) := dk_42 (dk_at dksX6_init_1 7 rfl rfl)
theorem dX6_init_31 : decode cX6_init 31 = .ok (.sipush 160, 3) := dk_17 0 160 (dk_at dksX6_init_1 8 rfl rfl)
theorem dX6_init_34 : decode cX6_init 34 = .ok (.newarray .int, 2) := dk_188_10 (dk_at dksX6_init_1 11 rfl rfl)
theorem dX6_init_36 : decode cX6_init 36 = .ok (.putfield 20, 3) := dk_181 0 20 (dk_at dksX6_init_1 13 rfl rfl)
theorem dX6_init_39 : decode cX6_init 39 = .ok (.aload_n 0, 1) := dk_42 (dk_at dksX6_init_1 16 rfl rfl)
theorem dX6_init_40 : decode cX6_init 40 = .ok (.sipush 160, 3) := dk_17 0 160 (dk_at dksX6_init_1 17 rfl rfl)
theorem dX6_init_43 : decode cX6_init 43 = .ok (.newarray .int, 2) := dk_188_10 (dk_at dksX6_init_1 20 rfl rfl)
theorem dX6_init_45 : decode cX6_init 45 = .ok (.putfield 23, 3) := dk_181 0 23 (dk_at dksX6_init_2 0 rfl rfl)
theorem dX6_init_48 : decode cX6_init 48 = .ok (.aload_n 0, 1) := dk_42 (dk_at dksX6_init_2 3 rfl rfl)
theorem dX6_init_49 : decode cX6_init 49 = .ok (.sipush 160, 3) := dk_17 0 160 (dk_at dksX6_init_2 4 rfl rfl)
theorem dX6_init_52 : decode cX6_init 52 = .ok (.newarray .int, 2) := dk_188_10 (dk_at dksX6_init_2 7 rfl rfl)
theorem dX6_init_54 : decode cX6_init 54 = .ok (.putfield 26, 3) := dk_181 0 26 (dk_at dksX6_init_2 9 rfl rfl)
theorem dX6_init_57 : decode cX6_init 57 = .ok (.aload_n 0, 1) := dk_42 (dk_at dksX6_init_2 12 rfl rfl)
theorem dX6_init_58 : decode cX6_init 58 = .ok (.sipush 160, 3) := dk_17 0 160 (dk_at dksX6_init_2 13 rfl rfl)
theorem dX6_init_61 : decode cX6_init 61 = .ok (.newarray .int, 2) := dk_188_10 (dk_at dksX6_init_2 16 rfl rfl)
theorem dX6_init_63 : decode cX6_init 63 = .ok (.putfield 29, 3) := dk_181 0 29 (dk_at dksX6_init_2 18 rfl rfl)
theorem dX6_init_66 : decode cX6_init 66 = .ok (.aload_n 0, 1) := dk_42 (dk_at dksX6_init_2 21 rfl rfl)
theorem dX6_init_67 : decode cX6_init 67 = .ok (.sipush 160, 3) := dk_17 0 160 (dk_at dksX6_init_3 0 rfl rfl)
theorem dX6_init_70 : decode cX6_init 70 = .ok (.newarray .int, 2) := dk_188_10 (dk_at dksX6_init_3 3 rfl rfl)
theorem dX6_init_72 : decode cX6_init 72 = .ok (.putfield 32, 3) := dk_181 0 32 (dk_at dksX6_init_3 5 rfl rfl)
theorem dX6_init_75 : decode cX6_init 75 = .ok (.aload_n 0, 1) := dk_42 (dk_at dksX6_init_3 8 rfl rfl)
theorem dX6_init_76 : decode cX6_init 76 = .ok (.sipush 160, 3) := dk_17 0 160 (dk_at dksX6_init_3 9 rfl rfl)
theorem dX6_init_79 : decode cX6_init 79 = .ok (.newarray .int, 2) := dk_188_10 (dk_at dksX6_init_3 12 rfl rfl)
theorem dX6_init_81 : decode cX6_init 81 = .ok (.putfield 35, 3) := dk_181 0 35 (dk_at dksX6_init_3 14 rfl rfl)
theorem dX6_init_84 : decode cX6_init 84 = .ok (.aload_n 0, 1) := dk_42 (dk_at dksX6_init_3 17 rfl rfl)
theorem dX6_init_85 : decode cX6_init 85 = .ok (.sipush 160, 3) := dk_17 0 160 (dk_at dksX6_init_3 18 rfl rfl)
theorem dX6_init_88 : decode cX6_init 88 = .ok (.newarray .int, 2) := dk_188_10 (dk_at dksX6_init_3 21 rfl rfl)
theorem dX6_init_90 : decode cX6_init 90 = .ok (.putfield 38, 3) := dk_181 0 38 (dk_at dksX6_init_4 0 rfl rfl)
theorem dX6_init_93 : decode cX6_init 93 = .ok (.aload_n 0, 1) := dk_42 (dk_at dksX6_init_4 3 rfl rfl)
theorem dX6_init_94 : decode cX6_init 94 = .ok (.sipush 160, 3) := dk_17 0 160 (dk_at dksX6_init_4 4 rfl rfl)
theorem dX6_init_97 : decode cX6_init 97 = .ok (.newarray .boolean, 2) := dk_188_4 (dk_at dksX6_init_4 7 rfl rfl)
theorem dX6_init_99 : decode cX6_init 99 = .ok (.putfield 41, 3) := dk_181 0 41 (dk_at dksX6_init_4 9 rfl rfl)
theorem dX6_init_102 : decode cX6_init 102 = .ok (.aload_n 0, 1) := dk_42 (dk_at dksX6_init_4 12 rfl rfl)
theorem dX6_init_103 : decode cX6_init 103 = .ok (.sipush 160, 3) := dk_17 0 160 (dk_at dksX6_init_4 13 rfl rfl)
theorem dX6_init_106 : decode cX6_init 106 = .ok (.newarray .boolean, 2) := dk_188_4 (dk_at dksX6_init_4 16 rfl rfl)
theorem dX6_init_108 : decode cX6_init 108 = .ok (.putfield 45, 3) := dk_181 0 45 (dk_at dksX6_init_4 18 rfl rfl)
theorem dX6_init_111 : decode cX6_init 111 = .ok (.aload_n 0, 1) := dk_42 (dk_at dksX6_init_4 21 rfl rfl)
theorem dX6_init_112 : decode cX6_init 112 = .ok (.sipush 960, 3) := dk_17 3 192 (dk_at dksX6_init_5 0 rfl rfl)
theorem dX6_init_115 : decode cX6_init 115 = .ok (.newarray .int, 2) := dk_188_10 (dk_at dksX6_init_5 3 rfl rfl)
theorem dX6_init_117 : decode cX6_init 117 = .ok (.putfield 48, 3) := dk_181 0 48 (dk_at dksX6_init_5 5 rfl rfl)
theorem dX6_init_120 : decode cX6_init 120 = .ok (.aload_n 0, 1) := dk_42 (dk_at dksX6_init_5 8 rfl rfl)
theorem dX6_init_121 : decode cX6_init 121 = .ok (.sipush 960, 3) := dk_17 3 192 (dk_at dksX6_init_5 9 rfl rfl)
theorem dX6_init_124 : decode cX6_init 124 = .ok (.newarray .int, 2) := dk_188_10 (dk_at dksX6_init_5 12 rfl rfl)
theorem dX6_init_126 : decode cX6_init 126 = .ok (.putfield 51, 3) := dk_181 0 51 (dk_at dksX6_init_5 14 rfl rfl)
theorem dX6_init_129 : decode cX6_init 129 = .ok (.aload_n 0, 1) := dk_42 (dk_at dksX6_init_5 17 rfl rfl)
theorem dX6_init_130 : decode cX6_init 130 = .ok (.sipush 960, 3) := dk_17 3 192 (dk_at dksX6_init_5 18 rfl rfl)
theorem dX6_init_133 : decode cX6_init 133 = .ok (.newarray .int, 2) := dk_188_10 (dk_at dksX6_init_5 21 rfl rfl)
theorem dX6_init_135 : decode cX6_init 135 = .ok (.putfield 54, 3) := dk_181 0 54 (dk_at dksX6_init_6 0 rfl rfl)
theorem dX6_init_138 : decode cX6_init 138 = .ok (.aload_n 0, 1) := dk_42 (dk_at dksX6_init_6 3 rfl rfl)
theorem dX6_init_139 : decode cX6_init 139 = .ok (.bipush 16, 2) := dk_16 16 (dk_at dksX6_init_6 4 rfl rfl)
theorem dX6_init_141 : decode cX6_init 141 = .ok (.newarray .int, 2) := dk_188_10 (dk_at dksX6_init_6 6 rfl rfl)
theorem dX6_init_143 : decode cX6_init 143 = .ok (.putfield 57, 3) := dk_181 0 57 (dk_at dksX6_init_6 8 rfl rfl)
theorem dX6_init_146 : decode cX6_init 146 = .ok (.aload_n 0, 1) := dk_42 (dk_at dksX6_init_6 11 rfl rfl)
theorem dX6_init_147 : decode cX6_init 147 = .ok (.sipush 150, 3) := dk_17 0 150 (dk_at dksX6_init_6 12 rfl rfl)
theorem dX6_init_150 : decode cX6_init 150 = .ok (.newarray .int, 2) := dk_188_10 (dk_at dksX6_init_6 15 rfl rfl)
theorem dX6_init_152 : decode cX6_init 152 = .ok (.putfield 60, 3) := dk_181 0 60 (dk_at dksX6_init_6 17 rfl rfl)
theorem dX6_init_155 : decode cX6_init 155 = .ok (.aload_n 0, 1) := dk_42 (dk_at dksX6_init_6 20 rfl rfl)
theorem dX6_init_156 : decode cX6_init 156 = .ok (.bipush 120, 2) := dk_16 120 (dk_at dksX6_init_6 21 rfl rfl)
theorem dX6_init_158 : decode cX6_init 158 = .ok (.newarray .int, 2) := dk_188_10 (dk_at dksX6_init_7 0 rfl rfl)
theorem dX6_init_160 : decode cX6_init 160 = .ok (.putfield 63, 3) := dk_181 0 63 (dk_at dksX6_init_7 2 rfl rfl)
theorem dX6_init_163 : decode cX6_init 163 = .ok (.aload_n 0, 1) := dk_42 (dk_at dksX6_init_7 5 rfl rfl)
theorem dX6_init_164 : decode cX6_init 164 = .ok (.bipush 120, 2) := dk_16 120 (dk_at dksX6_init_7 6 rfl rfl)
theorem dX6_init_166 : decode cX6_init 166 = .ok (.newarray .int, 2) := dk_188_10 (dk_at dksX6_init_7 8 rfl rfl)
theorem dX6_init_168 : decode cX6_init 168 = .ok (.putfield 66, 3) := dk_181 0 66 (dk_at dksX6_init_7 10 rfl rfl)
theorem dX6_init_171 : decode cX6_init 171 = .ok (.aload_n 0, 1) := dk_42 (dk_at dksX6_init_7 13 rfl rfl)
theorem dX6_init_172 : decode cX6_init 172 = .ok (.sipush 4000, 3) := dk_17 15 160 (dk_at dksX6_init_7 14 rfl rfl)
theorem dX6_init_175 : decode cX6_init 175 = .ok (.newarray .int, 2) := dk_188_10 (dk_at dksX6_init_7 17 rfl rfl)
theorem dX6_init_177 : decode cX6_init 177 = .ok (.putfield 69, 3) := dk_181 0 69 (dk_at dksX6_init_7 19 rfl rfl)
theorem dX6_init_180 : decode cX6_init 180 = .ok (.aload_n 0, 1) := dk_42 (dk_at dksX6_init_7 22 rfl rfl)
theorem dX6_init_181 : decode cX6_init 181 = .ok (.bipush 100, 2) := dk_16 100 (dk_at dksX6_init_8 0 rfl rfl)
theorem dX6_init_183 : decode cX6_init 183 = .ok (.newarray .int, 2) := dk_188_10 (dk_at dksX6_init_8 2 rfl rfl)
theorem dX6_init_185 : decode cX6_init 185 = .ok (.putfield 72, 3) := dk_181 0 72 (dk_at dksX6_init_8 4 rfl rfl)
theorem dX6_init_188 : decode cX6_init 188 = .ok (.aload_n 0, 1) := dk_42 (dk_at dksX6_init_8 7 rfl rfl)
theorem dX6_init_189 : decode cX6_init 189 = .ok (.bipush 100, 2) := dk_16 100 (dk_at dksX6_init_8 8 rfl rfl)
theorem dX6_init_191 : decode cX6_init 191 = .ok (.newarray .int, 2) := dk_188_10 (dk_at dksX6_init_8 10 rfl rfl)
theorem dX6_init_193 : decode cX6_init 193 = .ok (.putfield 75, 3) := dk_181 0 75 (dk_at dksX6_init_8 12 rfl rfl)
theorem dX6_init_196 : decode cX6_init 196 = .ok (.aload_n 0, 1) := dk_42 (dk_at dksX6_init_8 15 rfl rfl)
theorem dX6_init_197 : decode cX6_init 197 = .ok (.bipush 100, 2) := dk_16 100 (dk_at dksX6_init_8 16 rfl rfl)
theorem dX6_init_199 : decode cX6_init 199 = .ok (.newarray .int, 2) := dk_188_10 (dk_at dksX6_init_8 18 rfl rfl)
theorem dX6_init_201 : decode cX6_init 201 = .ok (.putfield 78, 3) := dk_181 0 78 (dk_at dksX6_init_8 20 rfl rfl)
theorem dX6_init_204 : decode cX6_init 204 = .ok (.aload_n 0, 1) := dk_42 (dk_at dksX6_init_8 23 rfl rfl)
theorem dX6_init_205 : decode cX6_init 205 = .ok (.bipush 100, 2) := dk_16 100 (dk_at dksX6_init_9 0 rfl rfl)
theorem dX6_init_207 : decode cX6_init 207 = .ok (.newarray .int, 2) := dk_188_10 (dk_at dksX6_init_9 2 rfl rfl)
theorem dX6_init_209 : decode cX6_init 209 = .ok (.putfield 81, 3) := dk_181 0 81 (dk_at dksX6_init_9 4 rfl rfl)
theorem dX6_init_212 : decode cX6_init 212 = .ok (.aload_n 0, 1) := dk_42 (dk_at dksX6_init_9 7 rfl rfl)
theorem dX6_init_213 : decode cX6_init 213 = .ok (.bipush 100, 2) := dk_16 100 (dk_at dksX6_init_9 8 rfl rfl)
theorem dX6_init_215 : decode cX6_init 215 = .ok (.newarray .int, 2) := dk_188_10 (dk_at dksX6_init_9 10 rfl rfl)
theorem dX6_init_217 : decode cX6_init 217 = .ok (.putfield 84, 3) := dk_181 0 84 (dk_at dksX6_init_9 12 rfl rfl)
theorem dX6_init_220 : decode cX6_init 220 = .ok (.aload_n 0, 1) := dk_42 (dk_at dksX6_init_9 15 rfl rfl)
theorem dX6_init_221 : decode cX6_init 221 = .ok (.bipush 100, 2) := dk_16 100 (dk_at dksX6_init_9 16 rfl rfl)
theorem dX6_init_223 : decode cX6_init 223 = .ok (.newarray .int, 2) := dk_188_10 (dk_at dksX6_init_9 18 rfl rfl)
theorem dX6_init_225 : decode cX6_init 225 = .ok (.putfield 87, 3) := dk_181 0 87 (dk_at dksX6_init_9 20 rfl rfl)
theorem dX6_init_228 : decode cX6_init 228 = .ok (.aload_n 0, 1) := dk_42 (dk_at dksX6_init_9 23 rfl rfl)
theorem dX6_init_229 : decode cX6_init 229 = .ok (.bipush 101, 2) := dk_16 101 (dk_at dksX6_init_10 0 rfl rfl)
theorem dX6_init_231 : decode cX6_init 231 = .ok (.newarray .int, 2) := dk_188_10 (dk_at dksX6_init_10 2 rfl rfl)
theorem dX6_init_233 : decode cX6_init 233 = .ok (.putfield 90, 3) := dk_181 0 90 (dk_at dksX6_init_10 4 rfl rfl)
theorem dX6_init_236 : decode cX6_init 236 = .ok (.aload_n 0, 1) := dk_42 (dk_at dksX6_init_10 7 rfl rfl)
theorem dX6_init_237 : decode cX6_init 237 = .ok (.sipush 240, 3) := dk_17 0 240 (dk_at dksX6_init_10 8 rfl rfl)
theorem dX6_init_240 : decode cX6_init 240 = .ok (.newarray .int, 2) := dk_188_10 (dk_at dksX6_init_10 11 rfl rfl)
theorem dX6_init_242 : decode cX6_init 242 = .ok (.putfield 93, 3) := dk_181 0 93 (dk_at dksX6_init_10 13 rfl rfl)
theorem dX6_init_245 : decode cX6_init 245 = .ok (.aload_n 0, 1) := dk_42 (dk_at dksX6_init_10 16 rfl rfl)
theorem dX6_init_246 : decode cX6_init 246 = .ok (.sipush 500, 3) := dk_17 1 244 (dk_at dksX6_init_10 17 rfl rfl)
theorem dX6_init_249 : decode cX6_init 249 = .ok (.newarray .int, 2) := dk_188_10 (dk_at dksX6_init_10 20 rfl rfl)
theorem dX6_init_251 : decode cX6_init 251 = .ok (.putfield 96, 3) := dk_181 0 96 (dk_at dksX6_init_11 0 rfl rfl)
theorem dX6_init_254 : decode cX6_init 254 = .ok (.aload_n 0, 1) := dk_42 (dk_at dksX6_init_11 3 rfl rfl)
theorem dX6_init_255 : decode cX6_init 255 = .ok (.sipush 240, 3) := dk_17 0 240 (dk_at dksX6_init_11 4 rfl rfl)
theorem dX6_init_258 : decode cX6_init 258 = .ok (.newarray .int, 2) := dk_188_10 (dk_at dksX6_init_11 7 rfl rfl)
theorem dX6_init_260 : decode cX6_init 260 = .ok (.putfield 99, 3) := dk_181 0 99 (dk_at dksX6_init_11 9 rfl rfl)
theorem dX6_init_263 : decode cX6_init 263 = .ok (.aload_n 0, 1) := dk_42 (dk_at dksX6_init_11 12 rfl rfl)
theorem dX6_init_264 : decode cX6_init 264 = .ok (.sipush 160, 3) := dk_17 0 160 (dk_at dksX6_init_11 13 rfl rfl)
theorem dX6_init_267 : decode cX6_init 267 = .ok (.newarray .int, 2) := dk_188_10 (dk_at dksX6_init_11 16 rfl rfl)
theorem dX6_init_269 : decode cX6_init 269 = .ok (.putfield 102, 3) := dk_181 0 102 (dk_at dksX6_init_11 18 rfl rfl)
theorem dX6_init_272 : decode cX6_init 272 = .ok (.aload_n 0, 1) := dk_42 (dk_at dksX6_init_11 21 rfl rfl)
theorem dX6_init_273 : decode cX6_init 273 = .ok (.sipush 160, 3) := dk_17 0 160 (dk_at dksX6_init_12 0 rfl rfl)
theorem dX6_init_276 : decode cX6_init 276 = .ok (.newarray .int, 2) := dk_188_10 (dk_at dksX6_init_12 3 rfl rfl)
theorem dX6_init_278 : decode cX6_init 278 = .ok (.putfield 105, 3) := dk_181 0 105 (dk_at dksX6_init_12 5 rfl rfl)
theorem dX6_init_281 : decode cX6_init 281 = .ok (.aload_n 0, 1) := dk_42 (dk_at dksX6_init_12 8 rfl rfl)
theorem dX6_init_282 : decode cX6_init 282 = .ok (.sipush 160, 3) := dk_17 0 160 (dk_at dksX6_init_12 9 rfl rfl)
theorem dX6_init_285 : decode cX6_init 285 = .ok (.newarray .int, 2) := dk_188_10 (dk_at dksX6_init_12 12 rfl rfl)
theorem dX6_init_287 : decode cX6_init 287 = .ok (.putfield 108, 3) := dk_181 0 108 (dk_at dksX6_init_12 14 rfl rfl)
theorem dX6_init_290 : decode cX6_init 290 = .ok (.aload_n 0, 1) := dk_42 (dk_at dksX6_init_12 17 rfl rfl)
theorem dX6_init_291 : decode cX6_init 291 = .ok (.sipush 160, 3) := dk_17 0 160 (dk_at dksX6_init_12 18 rfl rfl)
theorem dX6_init_294 : decode cX6_init 294 = .ok (.newarray .int, 2) := dk_188_10 (dk_at dksX6_init_12 21 rfl rfl)
theorem dX6_init_296 : decode cX6_init 296 = .ok (.putfield 111, 3) := dk_181 0 111 (dk_at dksX6_init_13 0 rfl rfl)
theorem dX6_init_299 : decode cX6_init 299 = .ok (.aload_n 0, 1) := dk_42 (dk_at dksX6_init_13 3 rfl rfl)
theorem dX6_init_300 : decode cX6_init 300 = .ok (.sipush 160, 3) := dk_17 0 160 (dk_at dksX6_init_13 4 rfl rfl)
theorem dX6_init_303 : decode cX6_init 303 = .ok (.newarray .boolean, 2) := dk_188_4 (dk_at dksX6_init_13 7 rfl rfl)
theorem dX6_init_305 : decode cX6_init 305 = .ok (.putfield 114, 3) := dk_181 0 114 (dk_at dksX6_init_13 9 rfl rfl)
theorem dX6_init_308 : decode cX6_init 308 = .ok (.aload_n 0, 1) := dk_42 (dk_at dksX6_init_13 12 rfl rfl)
theorem dX6_init_309 : decode cX6_init 309 = .ok (.bipush 8, 2) := dk_16 8 (dk_at dksX6_init_13 13 rfl rfl)
theorem dX6_init_311 : decode cX6_init 311 = .ok (.newarray .int, 2) := dk_188_10 (dk_at dksX6_init_13 15 rfl rfl)
theorem dX6_init_313 : decode cX6_init 313 = .ok (.putfield 117, 3) := dk_181 0 117 (dk_at dksX6_init_13 17 rfl rfl)
theorem dX6_init_316 : decode cX6_init 316 = .ok (.aload_n 0, 1) := dk_42 (dk_at dksX6_init_13 20 rfl rfl)
theorem dX6_init_317 : decode cX6_init 317 = .ok (.bipush 8, 2) := dk_16 8 (dk_at dksX6_init_13 21 rfl rfl)
theorem dX6_init_319 : decode cX6_init 319 = .ok (.newarray .int, 2) := dk_188_10 (dk_at dksX6_init_14 0 rfl rfl)
theorem dX6_init_321 : decode cX6_init 321 = .ok (.putfield 120, 3) := dk_181 0 120 (dk_at dksX6_init_14 2 rfl rfl)
theorem dX6_init_324 : decode cX6_init 324 = .ok (.aload_n 0, 1) := dk_42 (dk_at dksX6_init_14 5 rfl rfl)
theorem dX6_init_325 : decode cX6_init 325 = .ok (.bipush 8, 2) := dk_16 8 (dk_at dksX6_init_14 6 rfl rfl)
theorem dX6_init_327 : decode cX6_init 327 = .ok (.newarray .int, 2) := dk_188_10 (dk_at dksX6_init_14 8 rfl rfl)
theorem dX6_init_329 : decode cX6_init 329 = .ok (.putfield 123, 3) := dk_181 0 123 (dk_at dksX6_init_14 10 rfl rfl)
theorem dX6_init_332 : decode cX6_init 332 = .ok (.aload_n 0, 1) := dk_42 (dk_at dksX6_init_14 13 rfl rfl)
theorem dX6_init_333 : decode cX6_init 333 = .ok (.sipush 256, 3) := dk_17 1 0 (dk_at dksX6_init_14 14 rfl rfl)
theorem dX6_init_336 : decode cX6_init 336 = .ok (.newarray .boolean, 2) := dk_188_4 (dk_at dksX6_init_14 17 rfl rfl)
theorem dX6_init_338 : decode cX6_init 338 = .ok (.putfield 126, 3) := dk_181 0 126 (dk_at dksX6_init_14 19 rfl rfl)
theorem dX6_init_341 : decode cX6_init 341 = .ok (.aload_n 0, 1) := dk_42 (dk_at dksX6_init_14 22 rfl rfl)
theorem dX6_init_342 : decode cX6_init 342 = .ok (.invokevirtual 129, 3) := dk_182 0 129 (dk_at dksX6_init_15 0 rfl rfl)
theorem dX6_init_345 : decode cX6_init 345 = .ok (.return_, 1) := dk_177 (dk_at dksX6_init_15 3 rfl rfl)
abbrev cX6_leave : ByteArray := prog_18_method_5_code
def yX6_leave : MethodName := ⟨RX6, "leave", "()V"⟩
def dkwX6_leave_2 : List UInt8 := [132, 1, 1, 167, 255, 239, 177]
abbrev dktX6_leave_2 : List UInt8 := dkwX6_leave_2 ++ []
def dkwX6_leave_1 : List UInt8 := [79, 132, 1, 1, 167, 255, 240, 3, 60, 27, 17, 1, 0, 162, 0, 16, 42, 180, 0, 126, 27, 3, 84]
abbrev dktX6_leave_1 : List UInt8 := dkwX6_leave_1 ++ dktX6_leave_2
def dkwX6_leave_0 : List UInt8 := [42, 3, 181, 0, 136, 42, 3, 181, 0, 140, 3, 60, 27, 16, 8, 162, 0, 16, 42, 180, 0, 117, 27, 2]
abbrev dktX6_leave_0 : List UInt8 := dkwX6_leave_0 ++ dktX6_leave_1
theorem dksX6_leave_0 : cX6_leave.data.toList.drop 0 = dktX6_leave_0 := by decide +kernel
theorem dksX6_leave_1 : cX6_leave.data.toList.drop 24 = dktX6_leave_1 := dk_seg dksX6_leave_0 24 rfl rfl
theorem dksX6_leave_2 : cX6_leave.data.toList.drop 47 = dktX6_leave_2 := dk_seg dksX6_leave_1 23 rfl rfl
theorem dX6_leave_0 : decode cX6_leave 0 = .ok (.aload_n 0, 1) := dk_42 (dk_at dksX6_leave_0 0 rfl rfl)
theorem dX6_leave_1 : decode cX6_leave 1 = .ok (.iconst 0, 1) := dk_3 (dk_at dksX6_leave_0 1 rfl rfl)
theorem dX6_leave_2 : decode cX6_leave 2 = .ok (.putfield 136, 3) := dk_181 0 136 (dk_at dksX6_leave_0 2 rfl rfl)
theorem dX6_leave_5 : decode cX6_leave 5 = .ok (.aload_n 0, 1) := dk_42 (dk_at dksX6_leave_0 5 rfl rfl)
theorem dX6_leave_6 : decode cX6_leave 6 = .ok (.iconst 0, 1) := dk_3 (dk_at dksX6_leave_0 6 rfl rfl)
theorem dX6_leave_7 : decode cX6_leave 7 = .ok (.putfield 140, 3) := dk_181 0 140 (dk_at dksX6_leave_0 7 rfl rfl)
theorem dX6_leave_10 : decode cX6_leave 10 = .ok (.iconst 0, 1) := dk_3 (dk_at dksX6_leave_0 10 rfl rfl)
theorem dX6_leave_11 : decode cX6_leave 11 = .ok (.istore_n 1, 1) := dk_60 (dk_at dksX6_leave_0 11 rfl rfl)
theorem dX6_leave_12 : decode cX6_leave 12 = .ok (.iload_n 1, 1) := dk_27 (dk_at dksX6_leave_0 12 rfl rfl)
theorem dX6_leave_13 : decode cX6_leave 13 = .ok (.bipush 8, 2) := dk_16 8 (dk_at dksX6_leave_0 13 rfl rfl)
theorem dX6_leave_15 : decode cX6_leave 15 = .ok (.if_icmp .ge 16, 3) := dk_162 0 16 (dk_at dksX6_leave_0 15 rfl rfl)
theorem dX6_leave_18 : decode cX6_leave 18 = .ok (.aload_n 0, 1) := dk_42 (dk_at dksX6_leave_0 18 rfl rfl)
theorem dX6_leave_19 : decode cX6_leave 19 = .ok (.getfield 117, 3) := dk_180 0 117 (dk_at dksX6_leave_0 19 rfl rfl)
theorem dX6_leave_22 : decode cX6_leave 22 = .ok (.iload_n 1, 1) := dk_27 (dk_at dksX6_leave_0 22 rfl rfl)
theorem dX6_leave_23 : decode cX6_leave 23 = .ok (.iconst (-1), 1) := dk_2 (dk_at dksX6_leave_0 23 rfl rfl)
theorem dX6_leave_24 : decode cX6_leave 24 = .ok (.iastore, 1) := dk_79 (dk_at dksX6_leave_1 0 rfl rfl)
theorem dX6_leave_25 : decode cX6_leave 25 = .ok (.iinc 1 1, 3) := dk_132 1 1 (dk_at dksX6_leave_1 1 rfl rfl)
theorem dX6_leave_28 : decode cX6_leave 28 = .ok (.goto (-16), 3) := dk_167 255 240 (dk_at dksX6_leave_1 4 rfl rfl)
theorem dX6_leave_31 : decode cX6_leave 31 = .ok (.iconst 0, 1) := dk_3 (dk_at dksX6_leave_1 7 rfl rfl)
theorem dX6_leave_32 : decode cX6_leave 32 = .ok (.istore_n 1, 1) := dk_60 (dk_at dksX6_leave_1 8 rfl rfl)
theorem dX6_leave_33 : decode cX6_leave 33 = .ok (.iload_n 1, 1) := dk_27 (dk_at dksX6_leave_1 9 rfl rfl)
theorem dX6_leave_34 : decode cX6_leave 34 = .ok (.sipush 256, 3) := dk_17 1 0 (dk_at dksX6_leave_1 10 rfl rfl)
theorem dX6_leave_37 : decode cX6_leave 37 = .ok (.if_icmp .ge 16, 3) := dk_162 0 16 (dk_at dksX6_leave_1 13 rfl rfl)
theorem dX6_leave_40 : decode cX6_leave 40 = .ok (.aload_n 0, 1) := dk_42 (dk_at dksX6_leave_1 16 rfl rfl)
theorem dX6_leave_41 : decode cX6_leave 41 = .ok (.getfield 126, 3) := dk_180 0 126 (dk_at dksX6_leave_1 17 rfl rfl)
theorem dX6_leave_44 : decode cX6_leave 44 = .ok (.iload_n 1, 1) := dk_27 (dk_at dksX6_leave_1 20 rfl rfl)
theorem dX6_leave_45 : decode cX6_leave 45 = .ok (.iconst 0, 1) := dk_3 (dk_at dksX6_leave_1 21 rfl rfl)
theorem dX6_leave_46 : decode cX6_leave 46 = .ok (.bastore, 1) := dk_84 (dk_at dksX6_leave_1 22 rfl rfl)
theorem dX6_leave_47 : decode cX6_leave 47 = .ok (.iinc 1 1, 3) := dk_132 1 1 (dk_at dksX6_leave_2 0 rfl rfl)
theorem dX6_leave_50 : decode cX6_leave 50 = .ok (.goto (-17), 3) := dk_167 255 239 (dk_at dksX6_leave_2 3 rfl rfl)
theorem dX6_leave_53 : decode cX6_leave 53 = .ok (.return_, 1) := dk_177 (dk_at dksX6_leave_2 6 rfl rfl)
abbrev cX6_thrown : ByteArray := prog_18_method_2_code
def yX6_thrown : MethodName := ⟨RX6, "thrown", "()I"⟩
theorem dX6_thrown_0 : decode cX6_thrown 0 = .ok (.aload_n 0, 1) := by decide +kernel
theorem dX6_thrown_1 : decode cX6_thrown 1 = .ok (.getfield 132, 3) := by decide +kernel
theorem dX6_thrown_4 : decode cX6_thrown 4 = .ok (.ireturn, 1) := by decide +kernel
abbrev cX6_type : ByteArray := prog_18_method_6_code
def yX6_type : MethodName := ⟨RX6, "type", "(C)Z"⟩
def dkwX6_type_1 : List UInt8 := [180, 0, 143, 27, 85, 42, 89, 180, 0, 143, 4, 96, 181, 0, 143, 42, 182, 0, 129, 4, 172]
abbrev dktX6_type_1 : List UInt8 := dkwX6_type_1 ++ []
def dkwX6_type_0 : List UInt8 := [42, 3, 181, 0, 132, 42, 180, 0, 143, 17, 0, 150, 160, 0, 5, 3, 172, 42, 180, 0, 7, 42]
abbrev dktX6_type_0 : List UInt8 := dkwX6_type_0 ++ dktX6_type_1
theorem dksX6_type_0 : cX6_type.data.toList.drop 0 = dktX6_type_0 := by decide +kernel
theorem dksX6_type_1 : cX6_type.data.toList.drop 22 = dktX6_type_1 := dk_seg dksX6_type_0 22 rfl rfl
theorem dX6_type_0 : decode cX6_type 0 = .ok (.aload_n 0, 1) := dk_42 (dk_at dksX6_type_0 0 rfl rfl)
theorem dX6_type_1 : decode cX6_type 1 = .ok (.iconst 0, 1) := dk_3 (dk_at dksX6_type_0 1 rfl rfl)
theorem dX6_type_2 : decode cX6_type 2 = .ok (.putfield 132, 3) := dk_181 0 132 (dk_at dksX6_type_0 2 rfl rfl)
theorem dX6_type_5 : decode cX6_type 5 = .ok (.aload_n 0, 1) := dk_42 (dk_at dksX6_type_0 5 rfl rfl)
theorem dX6_type_6 : decode cX6_type 6 = .ok (.getfield 143, 3) := dk_180 0 143 (dk_at dksX6_type_0 6 rfl rfl)
theorem dX6_type_9 : decode cX6_type 9 = .ok (.sipush 150, 3) := dk_17 0 150 (dk_at dksX6_type_0 9 rfl rfl)
theorem dX6_type_12 : decode cX6_type 12 = .ok (.if_icmp .ne 5, 3) := dk_160 0 5 (dk_at dksX6_type_0 12 rfl rfl)
theorem dX6_type_15 : decode cX6_type 15 = .ok (.iconst 0, 1) := dk_3 (dk_at dksX6_type_0 15 rfl rfl)
theorem dX6_type_16 : decode cX6_type 16 = .ok (.ireturn, 1) := dk_172 (dk_at dksX6_type_0 16 rfl rfl)
theorem dX6_type_17 : decode cX6_type 17 = .ok (.aload_n 0, 1) := dk_42 (dk_at dksX6_type_0 17 rfl rfl)
theorem dX6_type_18 : decode cX6_type 18 = .ok (.getfield 7, 3) := dk_180 0 7 (dk_at dksX6_type_0 18 rfl rfl)
theorem dX6_type_21 : decode cX6_type 21 = .ok (.aload_n 0, 1) := dk_42 (dk_at dksX6_type_0 21 rfl rfl)
theorem dX6_type_22 : decode cX6_type 22 = .ok (.getfield 143, 3) := dk_180 0 143 (dk_at dksX6_type_1 0 rfl rfl)
theorem dX6_type_25 : decode cX6_type 25 = .ok (.iload_n 1, 1) := dk_27 (dk_at dksX6_type_1 3 rfl rfl)
theorem dX6_type_26 : decode cX6_type 26 = .ok (.castore, 1) := dk_85 (dk_at dksX6_type_1 4 rfl rfl)
theorem dX6_type_27 : decode cX6_type 27 = .ok (.aload_n 0, 1) := dk_42 (dk_at dksX6_type_1 5 rfl rfl)
theorem dX6_type_28 : decode cX6_type 28 = .ok (.dup, 1) := dk_89 (dk_at dksX6_type_1 6 rfl rfl)
theorem dX6_type_29 : decode cX6_type 29 = .ok (.getfield 143, 3) := dk_180 0 143 (dk_at dksX6_type_1 7 rfl rfl)
theorem dX6_type_32 : decode cX6_type 32 = .ok (.iconst 1, 1) := dk_4 (dk_at dksX6_type_1 10 rfl rfl)
theorem dX6_type_33 : decode cX6_type 33 = .ok (.iadd, 1) := dk_96 (dk_at dksX6_type_1 11 rfl rfl)
theorem dX6_type_34 : decode cX6_type 34 = .ok (.putfield 143, 3) := dk_181 0 143 (dk_at dksX6_type_1 12 rfl rfl)
theorem dX6_type_37 : decode cX6_type 37 = .ok (.aload_n 0, 1) := dk_42 (dk_at dksX6_type_1 15 rfl rfl)
theorem dX6_type_38 : decode cX6_type 38 = .ok (.invokevirtual 129, 3) := dk_182 0 129 (dk_at dksX6_type_1 16 rfl rfl)
theorem dX6_type_41 : decode cX6_type 41 = .ok (.iconst 1, 1) := dk_4 (dk_at dksX6_type_1 19 rfl rfl)
theorem dX6_type_42 : decode cX6_type 42 = .ok (.ireturn, 1) := dk_172 (dk_at dksX6_type_1 20 rfl rfl)
abbrev cX6_clear : ByteArray := prog_18_method_7_code
def yX6_clear : MethodName := ⟨RX6, "clear", "()I"⟩
def dkwX6_clear_0 : List UInt8 := [42, 180, 0, 143, 60, 42, 3, 181, 0, 132, 42, 3, 181, 0, 143, 42, 182, 0, 129, 27, 172]
abbrev dktX6_clear_0 : List UInt8 := dkwX6_clear_0 ++ []
theorem dksX6_clear_0 : cX6_clear.data.toList.drop 0 = dktX6_clear_0 := by decide +kernel
theorem dX6_clear_0 : decode cX6_clear 0 = .ok (.aload_n 0, 1) := dk_42 (dk_at dksX6_clear_0 0 rfl rfl)
theorem dX6_clear_1 : decode cX6_clear 1 = .ok (.getfield 143, 3) := dk_180 0 143 (dk_at dksX6_clear_0 1 rfl rfl)
theorem dX6_clear_4 : decode cX6_clear 4 = .ok (.istore_n 1, 1) := dk_60 (dk_at dksX6_clear_0 4 rfl rfl)
theorem dX6_clear_5 : decode cX6_clear 5 = .ok (.aload_n 0, 1) := dk_42 (dk_at dksX6_clear_0 5 rfl rfl)
theorem dX6_clear_6 : decode cX6_clear 6 = .ok (.iconst 0, 1) := dk_3 (dk_at dksX6_clear_0 6 rfl rfl)
theorem dX6_clear_7 : decode cX6_clear 7 = .ok (.putfield 132, 3) := dk_181 0 132 (dk_at dksX6_clear_0 7 rfl rfl)
theorem dX6_clear_10 : decode cX6_clear 10 = .ok (.aload_n 0, 1) := dk_42 (dk_at dksX6_clear_0 10 rfl rfl)
theorem dX6_clear_11 : decode cX6_clear 11 = .ok (.iconst 0, 1) := dk_3 (dk_at dksX6_clear_0 11 rfl rfl)
theorem dX6_clear_12 : decode cX6_clear 12 = .ok (.putfield 143, 3) := dk_181 0 143 (dk_at dksX6_clear_0 12 rfl rfl)
theorem dX6_clear_15 : decode cX6_clear 15 = .ok (.aload_n 0, 1) := dk_42 (dk_at dksX6_clear_0 15 rfl rfl)
theorem dX6_clear_16 : decode cX6_clear 16 = .ok (.invokevirtual 129, 3) := dk_182 0 129 (dk_at dksX6_clear_0 16 rfl rfl)
theorem dX6_clear_19 : decode cX6_clear 19 = .ok (.iload_n 1, 1) := dk_27 (dk_at dksX6_clear_0 19 rfl rfl)
theorem dX6_clear_20 : decode cX6_clear 20 = .ok (.ireturn, 1) := dk_172 (dk_at dksX6_clear_0 20 rfl rfl)
abbrev cX6_compile : ByteArray := prog_18_method_11_code
def yX6_compile : MethodName := ⟨RX6, "compile", "()I"⟩
def dkwX6_compile_3 : List UInt8 := [180, 0, 149, 154, 0, 7, 4, 167, 0, 4, 3, 181, 0, 136, 42, 180, 0, 149, 172]
abbrev dktX6_compile_3 : List UInt8 := dkwX6_compile_3 ++ []
def dkwX6_compile_2 : List UInt8 := [182, 0, 163, 42, 180, 0, 149, 154, 0, 14, 42, 180, 0, 146, 42, 180, 0, 143, 161, 255, 237, 42, 42]
abbrev dktX6_compile_2 : List UInt8 := dkwX6_compile_2 ++ dktX6_compile_3
def dkwX6_compile_1 : List UInt8 := [3, 60, 27, 16, 26, 162, 0, 16, 42, 180, 0, 17, 27, 2, 79, 132, 1, 1, 167, 255, 240, 42]
abbrev dktX6_compile_1 : List UInt8 := dkwX6_compile_1 ++ dktX6_compile_2
def dkwX6_compile_0 : List UInt8 := [42, 3, 181, 0, 132, 42, 182, 0, 129, 42, 3, 181, 0, 160, 42, 3, 181, 0, 146, 42, 3, 181, 0, 149]
abbrev dktX6_compile_0 : List UInt8 := dkwX6_compile_0 ++ dktX6_compile_1
theorem dksX6_compile_0 : cX6_compile.data.toList.drop 0 = dktX6_compile_0 := by decide +kernel
theorem dksX6_compile_1 : cX6_compile.data.toList.drop 24 = dktX6_compile_1 := dk_seg dksX6_compile_0 24 rfl rfl
theorem dksX6_compile_2 : cX6_compile.data.toList.drop 46 = dktX6_compile_2 := dk_seg dksX6_compile_1 22 rfl rfl
theorem dksX6_compile_3 : cX6_compile.data.toList.drop 69 = dktX6_compile_3 := dk_seg dksX6_compile_2 23 rfl rfl
theorem dX6_compile_0 : decode cX6_compile 0 = .ok (.aload_n 0, 1) := dk_42 (dk_at dksX6_compile_0 0 rfl rfl)
theorem dX6_compile_1 : decode cX6_compile 1 = .ok (.iconst 0, 1) := dk_3 (dk_at dksX6_compile_0 1 rfl rfl)
theorem dX6_compile_2 : decode cX6_compile 2 = .ok (.putfield 132, 3) := dk_181 0 132 (dk_at dksX6_compile_0 2 rfl rfl)
theorem dX6_compile_5 : decode cX6_compile 5 = .ok (.aload_n 0, 1) := dk_42 (dk_at dksX6_compile_0 5 rfl rfl)
theorem dX6_compile_6 : decode cX6_compile 6 = .ok (.invokevirtual 129, 3) := dk_182 0 129 (dk_at dksX6_compile_0 6 rfl rfl)
theorem dX6_compile_9 : decode cX6_compile 9 = .ok (.aload_n 0, 1) := dk_42 (dk_at dksX6_compile_0 9 rfl rfl)
theorem dX6_compile_10 : decode cX6_compile 10 = .ok (.iconst 0, 1) := dk_3 (dk_at dksX6_compile_0 10 rfl rfl)
theorem dX6_compile_11 : decode cX6_compile 11 = .ok (.putfield 160, 3) := dk_181 0 160 (dk_at dksX6_compile_0 11 rfl rfl)
theorem dX6_compile_14 : decode cX6_compile 14 = .ok (.aload_n 0, 1) := dk_42 (dk_at dksX6_compile_0 14 rfl rfl)
theorem dX6_compile_15 : decode cX6_compile 15 = .ok (.iconst 0, 1) := dk_3 (dk_at dksX6_compile_0 15 rfl rfl)
theorem dX6_compile_16 : decode cX6_compile 16 = .ok (.putfield 146, 3) := dk_181 0 146 (dk_at dksX6_compile_0 16 rfl rfl)
theorem dX6_compile_19 : decode cX6_compile 19 = .ok (.aload_n 0, 1) := dk_42 (dk_at dksX6_compile_0 19 rfl rfl)
theorem dX6_compile_20 : decode cX6_compile 20 = .ok (.iconst 0, 1) := dk_3 (dk_at dksX6_compile_0 20 rfl rfl)
theorem dX6_compile_21 : decode cX6_compile 21 = .ok (.putfield 149, 3) := dk_181 0 149 (dk_at dksX6_compile_0 21 rfl rfl)
theorem dX6_compile_24 : decode cX6_compile 24 = .ok (.iconst 0, 1) := dk_3 (dk_at dksX6_compile_1 0 rfl rfl)
theorem dX6_compile_25 : decode cX6_compile 25 = .ok (.istore_n 1, 1) := dk_60 (dk_at dksX6_compile_1 1 rfl rfl)
theorem dX6_compile_26 : decode cX6_compile 26 = .ok (.iload_n 1, 1) := dk_27 (dk_at dksX6_compile_1 2 rfl rfl)
theorem dX6_compile_27 : decode cX6_compile 27 = .ok (.bipush 26, 2) := dk_16 26 (dk_at dksX6_compile_1 3 rfl rfl)
theorem dX6_compile_29 : decode cX6_compile 29 = .ok (.if_icmp .ge 16, 3) := dk_162 0 16 (dk_at dksX6_compile_1 5 rfl rfl)
theorem dX6_compile_32 : decode cX6_compile 32 = .ok (.aload_n 0, 1) := dk_42 (dk_at dksX6_compile_1 8 rfl rfl)
theorem dX6_compile_33 : decode cX6_compile 33 = .ok (.getfield 17, 3) := dk_180 0 17 (dk_at dksX6_compile_1 9 rfl rfl)
theorem dX6_compile_36 : decode cX6_compile 36 = .ok (.iload_n 1, 1) := dk_27 (dk_at dksX6_compile_1 12 rfl rfl)
theorem dX6_compile_37 : decode cX6_compile 37 = .ok (.iconst (-1), 1) := dk_2 (dk_at dksX6_compile_1 13 rfl rfl)
theorem dX6_compile_38 : decode cX6_compile 38 = .ok (.iastore, 1) := dk_79 (dk_at dksX6_compile_1 14 rfl rfl)
theorem dX6_compile_39 : decode cX6_compile 39 = .ok (.iinc 1 1, 3) := dk_132 1 1 (dk_at dksX6_compile_1 15 rfl rfl)
theorem dX6_compile_42 : decode cX6_compile 42 = .ok (.goto (-16), 3) := dk_167 255 240 (dk_at dksX6_compile_1 18 rfl rfl)
theorem dX6_compile_45 : decode cX6_compile 45 = .ok (.aload_n 0, 1) := dk_42 (dk_at dksX6_compile_1 21 rfl rfl)
theorem dX6_compile_46 : decode cX6_compile 46 = .ok (.invokevirtual 163, 3) := dk_182 0 163 (dk_at dksX6_compile_2 0 rfl rfl)
theorem dX6_compile_49 : decode cX6_compile 49 = .ok (.aload_n 0, 1) := dk_42 (dk_at dksX6_compile_2 3 rfl rfl)
theorem dX6_compile_50 : decode cX6_compile 50 = .ok (.getfield 149, 3) := dk_180 0 149 (dk_at dksX6_compile_2 4 rfl rfl)
theorem dX6_compile_53 : decode cX6_compile 53 = .ok (.ifCond .ne 14, 3) := dk_154 0 14 (dk_at dksX6_compile_2 7 rfl rfl)
theorem dX6_compile_56 : decode cX6_compile 56 = .ok (.aload_n 0, 1) := dk_42 (dk_at dksX6_compile_2 10 rfl rfl)
theorem dX6_compile_57 : decode cX6_compile 57 = .ok (.getfield 146, 3) := dk_180 0 146 (dk_at dksX6_compile_2 11 rfl rfl)
theorem dX6_compile_60 : decode cX6_compile 60 = .ok (.aload_n 0, 1) := dk_42 (dk_at dksX6_compile_2 14 rfl rfl)
theorem dX6_compile_61 : decode cX6_compile 61 = .ok (.getfield 143, 3) := dk_180 0 143 (dk_at dksX6_compile_2 15 rfl rfl)
theorem dX6_compile_64 : decode cX6_compile 64 = .ok (.if_icmp .lt (-19), 3) := dk_161 255 237 (dk_at dksX6_compile_2 18 rfl rfl)
theorem dX6_compile_67 : decode cX6_compile 67 = .ok (.aload_n 0, 1) := dk_42 (dk_at dksX6_compile_2 21 rfl rfl)
theorem dX6_compile_68 : decode cX6_compile 68 = .ok (.aload_n 0, 1) := dk_42 (dk_at dksX6_compile_2 22 rfl rfl)
theorem dX6_compile_69 : decode cX6_compile 69 = .ok (.getfield 149, 3) := dk_180 0 149 (dk_at dksX6_compile_3 0 rfl rfl)
theorem dX6_compile_72 : decode cX6_compile 72 = .ok (.ifCond .ne 7, 3) := dk_154 0 7 (dk_at dksX6_compile_3 3 rfl rfl)
theorem dX6_compile_75 : decode cX6_compile 75 = .ok (.iconst 1, 1) := dk_4 (dk_at dksX6_compile_3 6 rfl rfl)
theorem dX6_compile_76 : decode cX6_compile 76 = .ok (.goto 4, 3) := dk_167 0 4 (dk_at dksX6_compile_3 7 rfl rfl)
theorem dX6_compile_79 : decode cX6_compile 79 = .ok (.iconst 0, 1) := dk_3 (dk_at dksX6_compile_3 10 rfl rfl)
theorem dX6_compile_80 : decode cX6_compile 80 = .ok (.putfield 136, 3) := dk_181 0 136 (dk_at dksX6_compile_3 11 rfl rfl)
theorem dX6_compile_83 : decode cX6_compile 83 = .ok (.aload_n 0, 1) := dk_42 (dk_at dksX6_compile_3 14 rfl rfl)
theorem dX6_compile_84 : decode cX6_compile 84 = .ok (.getfield 149, 3) := dk_180 0 149 (dk_at dksX6_compile_3 15 rfl rfl)
theorem dX6_compile_87 : decode cX6_compile 87 = .ok (.ireturn, 1) := dk_172 (dk_at dksX6_compile_3 18 rfl rfl)
abbrev cX6_definition : ByteArray := prog_18_method_12_code
def yX6_definition : MethodName := ⟨RX6, "definition", "()V"⟩
def dkwX6_definition_4 : List UInt8 := [182, 0, 170, 153, 0, 10, 42, 180, 0, 17, 27, 28, 79, 177]
abbrev dktX6_definition_4 : List UInt8 := dkwX6_definition_4 ++ []
def dkwX6_definition_3 : List UInt8 := [16, 61, 182, 0, 170, 153, 0, 10, 42, 182, 0, 174, 167, 0, 4, 2, 61, 28, 155, 0, 19, 42, 16, 59]
abbrev dktX6_definition_3 : List UInt8 := dkwX6_definition_3 ++ dktX6_definition_4
def dkwX6_definition_2 : List UInt8 := [182, 0, 156, 87, 42, 180, 0, 149, 158, 0, 4, 177, 42, 89, 180, 0, 146, 4, 96, 181, 0, 146, 42]
abbrev dktX6_definition_2 : List UInt8 := dkwX6_definition_2 ++ dktX6_definition_3
def dkwX6_definition_1 : List UInt8 := [182, 0, 156, 87, 167, 0, 22, 42, 180, 0, 17, 27, 46, 155, 0, 13, 42, 5, 42, 180, 0, 146]
abbrev dktX6_definition_1 : List UInt8 := dkwX6_definition_1 ++ dktX6_definition_2
def dkwX6_definition_0 : List UInt8 := [42, 182, 0, 152, 16, 65, 100, 60, 27, 3, 16, 25, 184, 0, 166, 154, 0, 16, 42, 4, 42, 180, 0, 146]
abbrev dktX6_definition_0 : List UInt8 := dkwX6_definition_0 ++ dktX6_definition_1
theorem dksX6_definition_0 : cX6_definition.data.toList.drop 0 = dktX6_definition_0 := by decide +kernel
theorem dksX6_definition_1 : cX6_definition.data.toList.drop 24 = dktX6_definition_1 := dk_seg dksX6_definition_0 24 rfl rfl
theorem dksX6_definition_2 : cX6_definition.data.toList.drop 46 = dktX6_definition_2 := dk_seg dksX6_definition_1 22 rfl rfl
theorem dksX6_definition_3 : cX6_definition.data.toList.drop 69 = dktX6_definition_3 := dk_seg dksX6_definition_2 23 rfl rfl
theorem dksX6_definition_4 : cX6_definition.data.toList.drop 93 = dktX6_definition_4 := dk_seg dksX6_definition_3 24 rfl rfl
theorem dX6_definition_0 : decode cX6_definition 0 = .ok (.aload_n 0, 1) := dk_42 (dk_at dksX6_definition_0 0 rfl rfl)
theorem dX6_definition_1 : decode cX6_definition 1 = .ok (.invokevirtual 152, 3) := dk_182 0 152 (dk_at dksX6_definition_0 1 rfl rfl)
theorem dX6_definition_4 : decode cX6_definition 4 = .ok (.bipush 65, 2) := dk_16 65 (dk_at dksX6_definition_0 4 rfl rfl)
theorem dX6_definition_6 : decode cX6_definition 6 = .ok (.isub, 1) := dk_100 (dk_at dksX6_definition_0 6 rfl rfl)
theorem dX6_definition_7 : decode cX6_definition 7 = .ok (.istore_n 1, 1) := dk_60 (dk_at dksX6_definition_0 7 rfl rfl)
theorem dX6_definition_8 : decode cX6_definition 8 = .ok (.iload_n 1, 1) := dk_27 (dk_at dksX6_definition_0 8 rfl rfl)
theorem dX6_definition_9 : decode cX6_definition 9 = .ok (.iconst 0, 1) := dk_3 (dk_at dksX6_definition_0 9 rfl rfl)
theorem dX6_definition_10 : decode cX6_definition 10 = .ok (.bipush 25, 2) := dk_16 25 (dk_at dksX6_definition_0 10 rfl rfl)
theorem dX6_definition_12 : decode cX6_definition 12 = .ok (.invokestatic 166, 3) := dk_184 0 166 (dk_at dksX6_definition_0 12 rfl rfl)
theorem dX6_definition_15 : decode cX6_definition 15 = .ok (.ifCond .ne 16, 3) := dk_154 0 16 (dk_at dksX6_definition_0 15 rfl rfl)
theorem dX6_definition_18 : decode cX6_definition 18 = .ok (.aload_n 0, 1) := dk_42 (dk_at dksX6_definition_0 18 rfl rfl)
theorem dX6_definition_19 : decode cX6_definition 19 = .ok (.iconst 1, 1) := dk_4 (dk_at dksX6_definition_0 19 rfl rfl)
theorem dX6_definition_20 : decode cX6_definition 20 = .ok (.aload_n 0, 1) := dk_42 (dk_at dksX6_definition_0 20 rfl rfl)
theorem dX6_definition_21 : decode cX6_definition 21 = .ok (.getfield 146, 3) := dk_180 0 146 (dk_at dksX6_definition_0 21 rfl rfl)
theorem dX6_definition_24 : decode cX6_definition 24 = .ok (.invokevirtual 156, 3) := dk_182 0 156 (dk_at dksX6_definition_1 0 rfl rfl)
theorem dX6_definition_27 : decode cX6_definition 27 = .ok (.pop, 1) := dk_87 (dk_at dksX6_definition_1 3 rfl rfl)
theorem dX6_definition_28 : decode cX6_definition 28 = .ok (.goto 22, 3) := dk_167 0 22 (dk_at dksX6_definition_1 4 rfl rfl)
theorem dX6_definition_31 : decode cX6_definition 31 = .ok (.aload_n 0, 1) := dk_42 (dk_at dksX6_definition_1 7 rfl rfl)
theorem dX6_definition_32 : decode cX6_definition 32 = .ok (.getfield 17, 3) := dk_180 0 17 (dk_at dksX6_definition_1 8 rfl rfl)
theorem dX6_definition_35 : decode cX6_definition 35 = .ok (.iload_n 1, 1) := dk_27 (dk_at dksX6_definition_1 11 rfl rfl)
theorem dX6_definition_36 : decode cX6_definition 36 = .ok (.iaload, 1) := dk_46 (dk_at dksX6_definition_1 12 rfl rfl)
theorem dX6_definition_37 : decode cX6_definition 37 = .ok (.ifCond .lt 13, 3) := dk_155 0 13 (dk_at dksX6_definition_1 13 rfl rfl)
theorem dX6_definition_40 : decode cX6_definition 40 = .ok (.aload_n 0, 1) := dk_42 (dk_at dksX6_definition_1 16 rfl rfl)
theorem dX6_definition_41 : decode cX6_definition 41 = .ok (.iconst 2, 1) := dk_5 (dk_at dksX6_definition_1 17 rfl rfl)
theorem dX6_definition_42 : decode cX6_definition 42 = .ok (.aload_n 0, 1) := dk_42 (dk_at dksX6_definition_1 18 rfl rfl)
theorem dX6_definition_43 : decode cX6_definition 43 = .ok (.getfield 146, 3) := dk_180 0 146 (dk_at dksX6_definition_1 19 rfl rfl)
theorem dX6_definition_46 : decode cX6_definition 46 = .ok (.invokevirtual 156, 3) := dk_182 0 156 (dk_at dksX6_definition_2 0 rfl rfl)
theorem dX6_definition_49 : decode cX6_definition 49 = .ok (.pop, 1) := dk_87 (dk_at dksX6_definition_2 3 rfl rfl)
theorem dX6_definition_50 : decode cX6_definition 50 = .ok (.aload_n 0, 1) := dk_42 (dk_at dksX6_definition_2 4 rfl rfl)
theorem dX6_definition_51 : decode cX6_definition 51 = .ok (.getfield 149, 3) := dk_180 0 149 (dk_at dksX6_definition_2 5 rfl rfl)
theorem dX6_definition_54 : decode cX6_definition 54 = .ok (.ifCond .le 4, 3) := dk_158 0 4 (dk_at dksX6_definition_2 8 rfl rfl)
theorem dX6_definition_57 : decode cX6_definition 57 = .ok (.return_, 1) := dk_177 (dk_at dksX6_definition_2 11 rfl rfl)
theorem dX6_definition_58 : decode cX6_definition 58 = .ok (.aload_n 0, 1) := dk_42 (dk_at dksX6_definition_2 12 rfl rfl)
theorem dX6_definition_59 : decode cX6_definition 59 = .ok (.dup, 1) := dk_89 (dk_at dksX6_definition_2 13 rfl rfl)
theorem dX6_definition_60 : decode cX6_definition 60 = .ok (.getfield 146, 3) := dk_180 0 146 (dk_at dksX6_definition_2 14 rfl rfl)
theorem dX6_definition_63 : decode cX6_definition 63 = .ok (.iconst 1, 1) := dk_4 (dk_at dksX6_definition_2 17 rfl rfl)
theorem dX6_definition_64 : decode cX6_definition 64 = .ok (.iadd, 1) := dk_96 (dk_at dksX6_definition_2 18 rfl rfl)
theorem dX6_definition_65 : decode cX6_definition 65 = .ok (.putfield 146, 3) := dk_181 0 146 (dk_at dksX6_definition_2 19 rfl rfl)
theorem dX6_definition_68 : decode cX6_definition 68 = .ok (.aload_n 0, 1) := dk_42 (dk_at dksX6_definition_2 22 rfl rfl)
theorem dX6_definition_69 : decode cX6_definition 69 = .ok (.bipush 61, 2) := dk_16 61 (dk_at dksX6_definition_3 0 rfl rfl)
theorem dX6_definition_71 : decode cX6_definition 71 = .ok (.invokevirtual 170, 3) := dk_182 0 170 (dk_at dksX6_definition_3 2 rfl rfl)
theorem dX6_definition_74 : decode cX6_definition 74 = .ok (.ifCond .eq 10, 3) := dk_153 0 10 (dk_at dksX6_definition_3 5 rfl rfl)
theorem dX6_definition_77 : decode cX6_definition 77 = .ok (.aload_n 0, 1) := dk_42 (dk_at dksX6_definition_3 8 rfl rfl)
theorem dX6_definition_78 : decode cX6_definition 78 = .ok (.invokevirtual 174, 3) := dk_182 0 174 (dk_at dksX6_definition_3 9 rfl rfl)
theorem dX6_definition_81 : decode cX6_definition 81 = .ok (.goto 4, 3) := dk_167 0 4 (dk_at dksX6_definition_3 12 rfl rfl)
theorem dX6_definition_84 : decode cX6_definition 84 = .ok (.iconst (-1), 1) := dk_2 (dk_at dksX6_definition_3 15 rfl rfl)
theorem dX6_definition_85 : decode cX6_definition 85 = .ok (.istore_n 2, 1) := dk_61 (dk_at dksX6_definition_3 16 rfl rfl)
theorem dX6_definition_86 : decode cX6_definition 86 = .ok (.iload_n 2, 1) := dk_28 (dk_at dksX6_definition_3 17 rfl rfl)
theorem dX6_definition_87 : decode cX6_definition 87 = .ok (.ifCond .lt 19, 3) := dk_155 0 19 (dk_at dksX6_definition_3 18 rfl rfl)
theorem dX6_definition_90 : decode cX6_definition 90 = .ok (.aload_n 0, 1) := dk_42 (dk_at dksX6_definition_3 21 rfl rfl)
theorem dX6_definition_91 : decode cX6_definition 91 = .ok (.bipush 59, 2) := dk_16 59 (dk_at dksX6_definition_3 22 rfl rfl)
theorem dX6_definition_93 : decode cX6_definition 93 = .ok (.invokevirtual 170, 3) := dk_182 0 170 (dk_at dksX6_definition_4 0 rfl rfl)
theorem dX6_definition_96 : decode cX6_definition 96 = .ok (.ifCond .eq 10, 3) := dk_153 0 10 (dk_at dksX6_definition_4 3 rfl rfl)
theorem dX6_definition_99 : decode cX6_definition 99 = .ok (.aload_n 0, 1) := dk_42 (dk_at dksX6_definition_4 6 rfl rfl)
theorem dX6_definition_100 : decode cX6_definition 100 = .ok (.getfield 17, 3) := dk_180 0 17 (dk_at dksX6_definition_4 7 rfl rfl)
theorem dX6_definition_103 : decode cX6_definition 103 = .ok (.iload_n 1, 1) := dk_27 (dk_at dksX6_definition_4 10 rfl rfl)
theorem dX6_definition_104 : decode cX6_definition 104 = .ok (.iload_n 2, 1) := dk_28 (dk_at dksX6_definition_4 11 rfl rfl)
theorem dX6_definition_105 : decode cX6_definition 105 = .ok (.iastore, 1) := dk_79 (dk_at dksX6_definition_4 12 rfl rfl)
theorem dX6_definition_106 : decode cX6_definition 106 = .ok (.return_, 1) := dk_177 (dk_at dksX6_definition_4 13 rfl rfl)
abbrev cX6_look : ByteArray := prog_18_method_8_code
def yX6_look : MethodName := ⟨RX6, "look", "()I"⟩
def dkwX6_look_1 : List UInt8 := [172]
abbrev dktX6_look_1 : List UInt8 := dkwX6_look_1 ++ []
def dkwX6_look_0 : List UInt8 := [42, 180, 0, 146, 42, 180, 0, 143, 162, 0, 15, 42, 180, 0, 7, 42, 180, 0, 146, 52, 167, 0, 4, 2]
abbrev dktX6_look_0 : List UInt8 := dkwX6_look_0 ++ dktX6_look_1
theorem dksX6_look_0 : cX6_look.data.toList.drop 0 = dktX6_look_0 := by decide +kernel
theorem dksX6_look_1 : cX6_look.data.toList.drop 24 = dktX6_look_1 := dk_seg dksX6_look_0 24 rfl rfl
theorem dX6_look_0 : decode cX6_look 0 = .ok (.aload_n 0, 1) := dk_42 (dk_at dksX6_look_0 0 rfl rfl)
theorem dX6_look_1 : decode cX6_look 1 = .ok (.getfield 146, 3) := dk_180 0 146 (dk_at dksX6_look_0 1 rfl rfl)
theorem dX6_look_4 : decode cX6_look 4 = .ok (.aload_n 0, 1) := dk_42 (dk_at dksX6_look_0 4 rfl rfl)
theorem dX6_look_5 : decode cX6_look 5 = .ok (.getfield 143, 3) := dk_180 0 143 (dk_at dksX6_look_0 5 rfl rfl)
theorem dX6_look_8 : decode cX6_look 8 = .ok (.if_icmp .ge 15, 3) := dk_162 0 15 (dk_at dksX6_look_0 8 rfl rfl)
theorem dX6_look_11 : decode cX6_look 11 = .ok (.aload_n 0, 1) := dk_42 (dk_at dksX6_look_0 11 rfl rfl)
theorem dX6_look_12 : decode cX6_look 12 = .ok (.getfield 7, 3) := dk_180 0 7 (dk_at dksX6_look_0 12 rfl rfl)
theorem dX6_look_15 : decode cX6_look 15 = .ok (.aload_n 0, 1) := dk_42 (dk_at dksX6_look_0 15 rfl rfl)
theorem dX6_look_16 : decode cX6_look 16 = .ok (.getfield 146, 3) := dk_180 0 146 (dk_at dksX6_look_0 16 rfl rfl)
theorem dX6_look_19 : decode cX6_look 19 = .ok (.caload, 1) := dk_52 (dk_at dksX6_look_0 19 rfl rfl)
theorem dX6_look_20 : decode cX6_look 20 = .ok (.goto 4, 3) := dk_167 0 4 (dk_at dksX6_look_0 20 rfl rfl)
theorem dX6_look_23 : decode cX6_look 23 = .ok (.iconst (-1), 1) := dk_2 (dk_at dksX6_look_0 23 rfl rfl)
theorem dX6_look_24 : decode cX6_look 24 = .ok (.ireturn, 1) := dk_172 (dk_at dksX6_look_1 0 rfl rfl)
abbrev cX6_in : ByteArray := prog_18_method_4_code
def yX6_in : MethodName := ⟨RX6, "in", "(III)Z"⟩
def dkwX6_in_0 : List UInt8 := [26, 27, 161, 0, 12, 26, 28, 163, 0, 7, 4, 167, 0, 4, 3, 172]
abbrev dktX6_in_0 : List UInt8 := dkwX6_in_0 ++ []
theorem dksX6_in_0 : cX6_in.data.toList.drop 0 = dktX6_in_0 := by decide +kernel
theorem dX6_in_0 : decode cX6_in 0 = .ok (.iload_n 0, 1) := dk_26 (dk_at dksX6_in_0 0 rfl rfl)
theorem dX6_in_1 : decode cX6_in 1 = .ok (.iload_n 1, 1) := dk_27 (dk_at dksX6_in_0 1 rfl rfl)
theorem dX6_in_2 : decode cX6_in 2 = .ok (.if_icmp .lt 12, 3) := dk_161 0 12 (dk_at dksX6_in_0 2 rfl rfl)
theorem dX6_in_5 : decode cX6_in 5 = .ok (.iload_n 0, 1) := dk_26 (dk_at dksX6_in_0 5 rfl rfl)
theorem dX6_in_6 : decode cX6_in 6 = .ok (.iload_n 2, 1) := dk_28 (dk_at dksX6_in_0 6 rfl rfl)
theorem dX6_in_7 : decode cX6_in 7 = .ok (.if_icmp .gt 7, 3) := dk_163 0 7 (dk_at dksX6_in_0 7 rfl rfl)
theorem dX6_in_10 : decode cX6_in 10 = .ok (.iconst 1, 1) := dk_4 (dk_at dksX6_in_0 10 rfl rfl)
theorem dX6_in_11 : decode cX6_in 11 = .ok (.goto 4, 3) := dk_167 0 4 (dk_at dksX6_in_0 11 rfl rfl)
theorem dX6_in_14 : decode cX6_in 14 = .ok (.iconst 0, 1) := dk_3 (dk_at dksX6_in_0 14 rfl rfl)
theorem dX6_in_15 : decode cX6_in 15 = .ok (.ireturn, 1) := dk_172 (dk_at dksX6_in_0 15 rfl rfl)
abbrev cX6_stop : ByteArray := prog_18_method_9_code
def yX6_stop : MethodName := ⟨RX6, "stop", "(II)I"⟩
def dkwX6_stop_0 : List UInt8 := [42, 180, 0, 149, 154, 0, 13, 42, 27, 16, 16, 28, 104, 96, 181, 0, 149, 2, 172]
abbrev dktX6_stop_0 : List UInt8 := dkwX6_stop_0 ++ []
theorem dksX6_stop_0 : cX6_stop.data.toList.drop 0 = dktX6_stop_0 := by decide +kernel
theorem dX6_stop_0 : decode cX6_stop 0 = .ok (.aload_n 0, 1) := dk_42 (dk_at dksX6_stop_0 0 rfl rfl)
theorem dX6_stop_1 : decode cX6_stop 1 = .ok (.getfield 149, 3) := dk_180 0 149 (dk_at dksX6_stop_0 1 rfl rfl)
theorem dX6_stop_4 : decode cX6_stop 4 = .ok (.ifCond .ne 13, 3) := dk_154 0 13 (dk_at dksX6_stop_0 4 rfl rfl)
theorem dX6_stop_7 : decode cX6_stop 7 = .ok (.aload_n 0, 1) := dk_42 (dk_at dksX6_stop_0 7 rfl rfl)
theorem dX6_stop_8 : decode cX6_stop 8 = .ok (.iload_n 1, 1) := dk_27 (dk_at dksX6_stop_0 8 rfl rfl)
theorem dX6_stop_9 : decode cX6_stop 9 = .ok (.bipush 16, 2) := dk_16 16 (dk_at dksX6_stop_0 9 rfl rfl)
theorem dX6_stop_11 : decode cX6_stop 11 = .ok (.iload_n 2, 1) := dk_28 (dk_at dksX6_stop_0 11 rfl rfl)
theorem dX6_stop_12 : decode cX6_stop 12 = .ok (.imul, 1) := dk_104 (dk_at dksX6_stop_0 12 rfl rfl)
theorem dX6_stop_13 : decode cX6_stop 13 = .ok (.iadd, 1) := dk_96 (dk_at dksX6_stop_0 13 rfl rfl)
theorem dX6_stop_14 : decode cX6_stop 14 = .ok (.putfield 149, 3) := dk_181 0 149 (dk_at dksX6_stop_0 14 rfl rfl)
theorem dX6_stop_17 : decode cX6_stop 17 = .ok (.iconst (-1), 1) := dk_2 (dk_at dksX6_stop_0 17 rfl rfl)
theorem dX6_stop_18 : decode cX6_stop 18 = .ok (.ireturn, 1) := dk_172 (dk_at dksX6_stop_0 18 rfl rfl)
abbrev cX6_need : ByteArray := prog_18_method_10_code
def yX6_need : MethodName := ⟨RX6, "need", "(I)Z"⟩
def dkwX6_need_1 : List UInt8 := [180, 0, 146, 182, 0, 156, 87, 42, 180, 0, 149, 154, 0, 7, 4, 167, 0, 4, 3, 172]
abbrev dktX6_need_1 : List UInt8 := dkwX6_need_1 ++ []
def dkwX6_need_0 : List UInt8 := [42, 182, 0, 152, 27, 160, 0, 16, 42, 89, 180, 0, 146, 4, 96, 181, 0, 146, 167, 0, 13, 42, 4, 42]
abbrev dktX6_need_0 : List UInt8 := dkwX6_need_0 ++ dktX6_need_1
theorem dksX6_need_0 : cX6_need.data.toList.drop 0 = dktX6_need_0 := by decide +kernel
theorem dksX6_need_1 : cX6_need.data.toList.drop 24 = dktX6_need_1 := dk_seg dksX6_need_0 24 rfl rfl
theorem dX6_need_0 : decode cX6_need 0 = .ok (.aload_n 0, 1) := dk_42 (dk_at dksX6_need_0 0 rfl rfl)
theorem dX6_need_1 : decode cX6_need 1 = .ok (.invokevirtual 152, 3) := dk_182 0 152 (dk_at dksX6_need_0 1 rfl rfl)
theorem dX6_need_4 : decode cX6_need 4 = .ok (.iload_n 1, 1) := dk_27 (dk_at dksX6_need_0 4 rfl rfl)
theorem dX6_need_5 : decode cX6_need 5 = .ok (.if_icmp .ne 16, 3) := dk_160 0 16 (dk_at dksX6_need_0 5 rfl rfl)
theorem dX6_need_8 : decode cX6_need 8 = .ok (.aload_n 0, 1) := dk_42 (dk_at dksX6_need_0 8 rfl rfl)
theorem dX6_need_9 : decode cX6_need 9 = .ok (.dup, 1) := dk_89 (dk_at dksX6_need_0 9 rfl rfl)
theorem dX6_need_10 : decode cX6_need 10 = .ok (.getfield 146, 3) := dk_180 0 146 (dk_at dksX6_need_0 10 rfl rfl)
theorem dX6_need_13 : decode cX6_need 13 = .ok (.iconst 1, 1) := dk_4 (dk_at dksX6_need_0 13 rfl rfl)
theorem dX6_need_14 : decode cX6_need 14 = .ok (.iadd, 1) := dk_96 (dk_at dksX6_need_0 14 rfl rfl)
theorem dX6_need_15 : decode cX6_need 15 = .ok (.putfield 146, 3) := dk_181 0 146 (dk_at dksX6_need_0 15 rfl rfl)
theorem dX6_need_18 : decode cX6_need 18 = .ok (.goto 13, 3) := dk_167 0 13 (dk_at dksX6_need_0 18 rfl rfl)
theorem dX6_need_21 : decode cX6_need 21 = .ok (.aload_n 0, 1) := dk_42 (dk_at dksX6_need_0 21 rfl rfl)
theorem dX6_need_22 : decode cX6_need 22 = .ok (.iconst 1, 1) := dk_4 (dk_at dksX6_need_0 22 rfl rfl)
theorem dX6_need_23 : decode cX6_need 23 = .ok (.aload_n 0, 1) := dk_42 (dk_at dksX6_need_0 23 rfl rfl)
theorem dX6_need_24 : decode cX6_need 24 = .ok (.getfield 146, 3) := dk_180 0 146 (dk_at dksX6_need_1 0 rfl rfl)
theorem dX6_need_27 : decode cX6_need 27 = .ok (.invokevirtual 156, 3) := dk_182 0 156 (dk_at dksX6_need_1 3 rfl rfl)
theorem dX6_need_30 : decode cX6_need 30 = .ok (.pop, 1) := dk_87 (dk_at dksX6_need_1 6 rfl rfl)
theorem dX6_need_31 : decode cX6_need 31 = .ok (.aload_n 0, 1) := dk_42 (dk_at dksX6_need_1 7 rfl rfl)
theorem dX6_need_32 : decode cX6_need 32 = .ok (.getfield 149, 3) := dk_180 0 149 (dk_at dksX6_need_1 8 rfl rfl)
theorem dX6_need_35 : decode cX6_need 35 = .ok (.ifCond .ne 7, 3) := dk_154 0 7 (dk_at dksX6_need_1 11 rfl rfl)
theorem dX6_need_38 : decode cX6_need 38 = .ok (.iconst 1, 1) := dk_4 (dk_at dksX6_need_1 14 rfl rfl)
theorem dX6_need_39 : decode cX6_need 39 = .ok (.goto 4, 3) := dk_167 0 4 (dk_at dksX6_need_1 15 rfl rfl)
theorem dX6_need_42 : decode cX6_need 42 = .ok (.iconst 0, 1) := dk_3 (dk_at dksX6_need_1 18 rfl rfl)
theorem dX6_need_43 : decode cX6_need 43 = .ok (.ireturn, 1) := dk_172 (dk_at dksX6_need_1 19 rfl rfl)
abbrev cX6_whole : ByteArray := prog_18_method_13_code
def yX6_whole : MethodName := ⟨RX6, "whole", "()I"⟩
def dkwX6_whole_2 : List UInt8 := [154, 0, 5, 27, 172, 167, 255, 211, 2, 172]
abbrev dktX6_whole_2 : List UInt8 := dkwX6_whole_2 ++ []
def dkwX6_whole_1 : List UInt8 := [180, 0, 177, 158, 0, 12, 42, 27, 182, 0, 183, 60, 167, 255, 239, 27, 155, 0, 12, 42, 180, 0, 149]
abbrev dktX6_whole_1 : List UInt8 := dkwX6_whole_1 ++ dktX6_whole_2
def dkwX6_whole_0 : List UInt8 := [42, 3, 181, 0, 177, 42, 180, 0, 149, 154, 0, 44, 42, 182, 0, 180, 60, 27, 155, 0, 19, 42]
abbrev dktX6_whole_0 : List UInt8 := dkwX6_whole_0 ++ dktX6_whole_1
theorem dksX6_whole_0 : cX6_whole.data.toList.drop 0 = dktX6_whole_0 := by decide +kernel
theorem dksX6_whole_1 : cX6_whole.data.toList.drop 22 = dktX6_whole_1 := dk_seg dksX6_whole_0 22 rfl rfl
theorem dksX6_whole_2 : cX6_whole.data.toList.drop 45 = dktX6_whole_2 := dk_seg dksX6_whole_1 23 rfl rfl
theorem dX6_whole_0 : decode cX6_whole 0 = .ok (.aload_n 0, 1) := dk_42 (dk_at dksX6_whole_0 0 rfl rfl)
theorem dX6_whole_1 : decode cX6_whole 1 = .ok (.iconst 0, 1) := dk_3 (dk_at dksX6_whole_0 1 rfl rfl)
theorem dX6_whole_2 : decode cX6_whole 2 = .ok (.putfield 177, 3) := dk_181 0 177 (dk_at dksX6_whole_0 2 rfl rfl)
theorem dX6_whole_5 : decode cX6_whole 5 = .ok (.aload_n 0, 1) := dk_42 (dk_at dksX6_whole_0 5 rfl rfl)
theorem dX6_whole_6 : decode cX6_whole 6 = .ok (.getfield 149, 3) := dk_180 0 149 (dk_at dksX6_whole_0 6 rfl rfl)
theorem dX6_whole_9 : decode cX6_whole 9 = .ok (.ifCond .ne 44, 3) := dk_154 0 44 (dk_at dksX6_whole_0 9 rfl rfl)
theorem dX6_whole_12 : decode cX6_whole 12 = .ok (.aload_n 0, 1) := dk_42 (dk_at dksX6_whole_0 12 rfl rfl)
theorem dX6_whole_13 : decode cX6_whole 13 = .ok (.invokevirtual 180, 3) := dk_182 0 180 (dk_at dksX6_whole_0 13 rfl rfl)
theorem dX6_whole_16 : decode cX6_whole 16 = .ok (.istore_n 1, 1) := dk_60 (dk_at dksX6_whole_0 16 rfl rfl)
theorem dX6_whole_17 : decode cX6_whole 17 = .ok (.iload_n 1, 1) := dk_27 (dk_at dksX6_whole_0 17 rfl rfl)
theorem dX6_whole_18 : decode cX6_whole 18 = .ok (.ifCond .lt 19, 3) := dk_155 0 19 (dk_at dksX6_whole_0 18 rfl rfl)
theorem dX6_whole_21 : decode cX6_whole 21 = .ok (.aload_n 0, 1) := dk_42 (dk_at dksX6_whole_0 21 rfl rfl)
theorem dX6_whole_22 : decode cX6_whole 22 = .ok (.getfield 177, 3) := dk_180 0 177 (dk_at dksX6_whole_1 0 rfl rfl)
theorem dX6_whole_25 : decode cX6_whole 25 = .ok (.ifCond .le 12, 3) := dk_158 0 12 (dk_at dksX6_whole_1 3 rfl rfl)
theorem dX6_whole_28 : decode cX6_whole 28 = .ok (.aload_n 0, 1) := dk_42 (dk_at dksX6_whole_1 6 rfl rfl)
theorem dX6_whole_29 : decode cX6_whole 29 = .ok (.iload_n 1, 1) := dk_27 (dk_at dksX6_whole_1 7 rfl rfl)
theorem dX6_whole_30 : decode cX6_whole 30 = .ok (.invokevirtual 183, 3) := dk_182 0 183 (dk_at dksX6_whole_1 8 rfl rfl)
theorem dX6_whole_33 : decode cX6_whole 33 = .ok (.istore_n 1, 1) := dk_60 (dk_at dksX6_whole_1 11 rfl rfl)
theorem dX6_whole_34 : decode cX6_whole 34 = .ok (.goto (-17), 3) := dk_167 255 239 (dk_at dksX6_whole_1 12 rfl rfl)
theorem dX6_whole_37 : decode cX6_whole 37 = .ok (.iload_n 1, 1) := dk_27 (dk_at dksX6_whole_1 15 rfl rfl)
theorem dX6_whole_38 : decode cX6_whole 38 = .ok (.ifCond .lt 12, 3) := dk_155 0 12 (dk_at dksX6_whole_1 16 rfl rfl)
theorem dX6_whole_41 : decode cX6_whole 41 = .ok (.aload_n 0, 1) := dk_42 (dk_at dksX6_whole_1 19 rfl rfl)
theorem dX6_whole_42 : decode cX6_whole 42 = .ok (.getfield 149, 3) := dk_180 0 149 (dk_at dksX6_whole_1 20 rfl rfl)
theorem dX6_whole_45 : decode cX6_whole 45 = .ok (.ifCond .ne 5, 3) := dk_154 0 5 (dk_at dksX6_whole_2 0 rfl rfl)
theorem dX6_whole_48 : decode cX6_whole 48 = .ok (.iload_n 1, 1) := dk_27 (dk_at dksX6_whole_2 3 rfl rfl)
theorem dX6_whole_49 : decode cX6_whole 49 = .ok (.ireturn, 1) := dk_172 (dk_at dksX6_whole_2 4 rfl rfl)
theorem dX6_whole_50 : decode cX6_whole 50 = .ok (.goto (-45), 3) := dk_167 255 211 (dk_at dksX6_whole_2 5 rfl rfl)
theorem dX6_whole_53 : decode cX6_whole 53 = .ok (.iconst (-1), 1) := dk_2 (dk_at dksX6_whole_2 8 rfl rfl)
theorem dX6_whole_54 : decode cX6_whole 54 = .ok (.ireturn, 1) := dk_172 (dk_at dksX6_whole_2 9 rfl rfl)
abbrev cX6_begin : ByteArray := prog_18_method_16_code
def yX6_begin : MethodName := ⟨RX6, "begin", "()I"⟩
def dkwX6_begin_11 : List UInt8 := [158, 0, 7, 2, 167, 0, 18, 28, 16, 7, 160, 0, 11, 42, 29, 182, 0, 196, 167, 0, 4, 29, 172]
abbrev dktX6_begin_11 : List UInt8 := dkwX6_begin_11 ++ []
def dkwX6_begin_10 : List UInt8 := [160, 0, 18, 42, 29, 28, 5, 160, 0, 7, 4, 167, 0, 4, 3, 182, 0, 199, 42, 180, 0, 149]
abbrev dktX6_begin_10 : List UInt8 := dkwX6_begin_10 ++ dktX6_begin_11
def dkwX6_begin_9 : List UInt8 := [96, 181, 0, 146, 29, 172, 28, 4, 159, 0, 32, 28, 8, 159, 0, 27, 42, 182, 0, 152, 16, 40]
abbrev dktX6_begin_9 : List UInt8 := dkwX6_begin_9 ++ dktX6_begin_10
def dkwX6_begin_8 : List UInt8 := [159, 0, 12, 42, 182, 0, 152, 16, 125, 159, 0, 9, 42, 29, 182, 0, 196, 172, 42, 89, 180, 0, 146, 4]
abbrev dktX6_begin_8 : List UInt8 := dkwX6_begin_8 ++ dktX6_begin_9
def dkwX6_begin_7 : List UInt8 := [159, 0, 9, 28, 16, 9, 160, 0, 47, 42, 16, 123, 182, 0, 170, 154, 0, 5, 2, 172, 28, 16, 9]
abbrev dktX6_begin_7 : List UInt8 := dkwX6_begin_7 ++ dktX6_begin_8
def dkwX6_begin_6 : List UInt8 := [182, 0, 156, 172, 42, 89, 180, 0, 146, 4, 96, 181, 0, 146, 42, 28, 182, 0, 193, 62, 28, 16, 6]
abbrev dktX6_begin_6 : List UInt8 := dkwX6_begin_6 ++ dktX6_begin_7
def dkwX6_begin_5 : List UInt8 := [42, 180, 0, 146, 182, 0, 156, 172, 42, 180, 0, 177, 16, 6, 161, 0, 13, 42, 8, 42, 180, 0, 146]
abbrev dktX6_begin_5 : List UInt8 := dkwX6_begin_5 ++ dktX6_begin_6
def dkwX6_begin_4 : List UInt8 := [16, 7, 167, 0, 15, 27, 16, 99, 160, 0, 8, 16, 9, 167, 0, 4, 3, 61, 28, 154, 0, 13, 42, 4]
abbrev dktX6_begin_4 : List UInt8 := dkwX6_begin_4 ++ dktX6_begin_5
def dkwX6_begin_3 : List UInt8 := [160, 0, 7, 8, 167, 0, 37, 27, 16, 113, 160, 0, 8, 16, 6, 167, 0, 26, 27, 16, 108, 160, 0, 8]
abbrev dktX6_begin_3 : List UInt8 := dkwX6_begin_3 ++ dktX6_begin_4
def dkwX6_begin_2 : List UInt8 := [16, 105, 160, 0, 7, 5, 167, 0, 57, 27, 16, 111, 160, 0, 7, 7, 167, 0, 47, 27, 16, 110]
abbrev dktX6_begin_2 : List UInt8 := dkwX6_begin_2 ++ dktX6_begin_3
def dkwX6_begin_1 : List UInt8 := [153, 0, 12, 42, 27, 16, 65, 100, 182, 0, 190, 172, 27, 16, 98, 160, 0, 7, 4, 167, 0, 67, 27]
abbrev dktX6_begin_1 : List UInt8 := dkwX6_begin_1 ++ dktX6_begin_2
def dkwX6_begin_0 : List UInt8 := [42, 182, 0, 152, 60, 27, 16, 91, 160, 0, 8, 42, 182, 0, 187, 172, 27, 16, 65, 16, 90, 184, 0, 166]
abbrev dktX6_begin_0 : List UInt8 := dkwX6_begin_0 ++ dktX6_begin_1
theorem dksX6_begin_0 : cX6_begin.data.toList.drop 0 = dktX6_begin_0 := by decide +kernel
theorem dksX6_begin_1 : cX6_begin.data.toList.drop 24 = dktX6_begin_1 := dk_seg dksX6_begin_0 24 rfl rfl
theorem dksX6_begin_2 : cX6_begin.data.toList.drop 47 = dktX6_begin_2 := dk_seg dksX6_begin_1 23 rfl rfl
theorem dksX6_begin_3 : cX6_begin.data.toList.drop 69 = dktX6_begin_3 := dk_seg dksX6_begin_2 22 rfl rfl
theorem dksX6_begin_4 : cX6_begin.data.toList.drop 93 = dktX6_begin_4 := dk_seg dksX6_begin_3 24 rfl rfl
theorem dksX6_begin_5 : cX6_begin.data.toList.drop 117 = dktX6_begin_5 := dk_seg dksX6_begin_4 24 rfl rfl
theorem dksX6_begin_6 : cX6_begin.data.toList.drop 140 = dktX6_begin_6 := dk_seg dksX6_begin_5 23 rfl rfl
theorem dksX6_begin_7 : cX6_begin.data.toList.drop 163 = dktX6_begin_7 := dk_seg dksX6_begin_6 23 rfl rfl
theorem dksX6_begin_8 : cX6_begin.data.toList.drop 186 = dktX6_begin_8 := dk_seg dksX6_begin_7 23 rfl rfl
theorem dksX6_begin_9 : cX6_begin.data.toList.drop 210 = dktX6_begin_9 := dk_seg dksX6_begin_8 24 rfl rfl
theorem dksX6_begin_10 : cX6_begin.data.toList.drop 232 = dktX6_begin_10 := dk_seg dksX6_begin_9 22 rfl rfl
theorem dksX6_begin_11 : cX6_begin.data.toList.drop 254 = dktX6_begin_11 := dk_seg dksX6_begin_10 22 rfl rfl
theorem dX6_begin_0 : decode cX6_begin 0 = .ok (.aload_n 0, 1) := dk_42 (dk_at dksX6_begin_0 0 rfl rfl)
theorem dX6_begin_1 : decode cX6_begin 1 = .ok (.invokevirtual 152, 3) := dk_182 0 152 (dk_at dksX6_begin_0 1 rfl rfl)
theorem dX6_begin_4 : decode cX6_begin 4 = .ok (.istore_n 1, 1) := dk_60 (dk_at dksX6_begin_0 4 rfl rfl)
theorem dX6_begin_5 : decode cX6_begin 5 = .ok (.iload_n 1, 1) := dk_27 (dk_at dksX6_begin_0 5 rfl rfl)
theorem dX6_begin_6 : decode cX6_begin 6 = .ok (.bipush 91, 2) := dk_16 91 (dk_at dksX6_begin_0 6 rfl rfl)
theorem dX6_begin_8 : decode cX6_begin 8 = .ok (.if_icmp .ne 8, 3) := dk_160 0 8 (dk_at dksX6_begin_0 8 rfl rfl)
theorem dX6_begin_11 : decode cX6_begin 11 = .ok (.aload_n 0, 1) := dk_42 (dk_at dksX6_begin_0 11 rfl rfl)
theorem dX6_begin_12 : decode cX6_begin 12 = .ok (.invokevirtual 187, 3) := dk_182 0 187 (dk_at dksX6_begin_0 12 rfl rfl)
theorem dX6_begin_15 : decode cX6_begin 15 = .ok (.ireturn, 1) := dk_172 (dk_at dksX6_begin_0 15 rfl rfl)
theorem dX6_begin_16 : decode cX6_begin 16 = .ok (.iload_n 1, 1) := dk_27 (dk_at dksX6_begin_0 16 rfl rfl)
theorem dX6_begin_17 : decode cX6_begin 17 = .ok (.bipush 65, 2) := dk_16 65 (dk_at dksX6_begin_0 17 rfl rfl)
theorem dX6_begin_19 : decode cX6_begin 19 = .ok (.bipush 90, 2) := dk_16 90 (dk_at dksX6_begin_0 19 rfl rfl)
theorem dX6_begin_21 : decode cX6_begin 21 = .ok (.invokestatic 166, 3) := dk_184 0 166 (dk_at dksX6_begin_0 21 rfl rfl)
theorem dX6_begin_24 : decode cX6_begin 24 = .ok (.ifCond .eq 12, 3) := dk_153 0 12 (dk_at dksX6_begin_1 0 rfl rfl)
theorem dX6_begin_27 : decode cX6_begin 27 = .ok (.aload_n 0, 1) := dk_42 (dk_at dksX6_begin_1 3 rfl rfl)
theorem dX6_begin_28 : decode cX6_begin 28 = .ok (.iload_n 1, 1) := dk_27 (dk_at dksX6_begin_1 4 rfl rfl)
theorem dX6_begin_29 : decode cX6_begin 29 = .ok (.bipush 65, 2) := dk_16 65 (dk_at dksX6_begin_1 5 rfl rfl)
theorem dX6_begin_31 : decode cX6_begin 31 = .ok (.isub, 1) := dk_100 (dk_at dksX6_begin_1 7 rfl rfl)
theorem dX6_begin_32 : decode cX6_begin 32 = .ok (.invokevirtual 190, 3) := dk_182 0 190 (dk_at dksX6_begin_1 8 rfl rfl)
theorem dX6_begin_35 : decode cX6_begin 35 = .ok (.ireturn, 1) := dk_172 (dk_at dksX6_begin_1 11 rfl rfl)
theorem dX6_begin_36 : decode cX6_begin 36 = .ok (.iload_n 1, 1) := dk_27 (dk_at dksX6_begin_1 12 rfl rfl)
theorem dX6_begin_37 : decode cX6_begin 37 = .ok (.bipush 98, 2) := dk_16 98 (dk_at dksX6_begin_1 13 rfl rfl)
theorem dX6_begin_39 : decode cX6_begin 39 = .ok (.if_icmp .ne 7, 3) := dk_160 0 7 (dk_at dksX6_begin_1 15 rfl rfl)
theorem dX6_begin_42 : decode cX6_begin 42 = .ok (.iconst 1, 1) := dk_4 (dk_at dksX6_begin_1 18 rfl rfl)
theorem dX6_begin_43 : decode cX6_begin 43 = .ok (.goto 67, 3) := dk_167 0 67 (dk_at dksX6_begin_1 19 rfl rfl)
theorem dX6_begin_46 : decode cX6_begin 46 = .ok (.iload_n 1, 1) := dk_27 (dk_at dksX6_begin_1 22 rfl rfl)
theorem dX6_begin_47 : decode cX6_begin 47 = .ok (.bipush 105, 2) := dk_16 105 (dk_at dksX6_begin_2 0 rfl rfl)
theorem dX6_begin_49 : decode cX6_begin 49 = .ok (.if_icmp .ne 7, 3) := dk_160 0 7 (dk_at dksX6_begin_2 2 rfl rfl)
theorem dX6_begin_52 : decode cX6_begin 52 = .ok (.iconst 2, 1) := dk_5 (dk_at dksX6_begin_2 5 rfl rfl)
theorem dX6_begin_53 : decode cX6_begin 53 = .ok (.goto 57, 3) := dk_167 0 57 (dk_at dksX6_begin_2 6 rfl rfl)
theorem dX6_begin_56 : decode cX6_begin 56 = .ok (.iload_n 1, 1) := dk_27 (dk_at dksX6_begin_2 9 rfl rfl)
theorem dX6_begin_57 : decode cX6_begin 57 = .ok (.bipush 111, 2) := dk_16 111 (dk_at dksX6_begin_2 10 rfl rfl)
theorem dX6_begin_59 : decode cX6_begin 59 = .ok (.if_icmp .ne 7, 3) := dk_160 0 7 (dk_at dksX6_begin_2 12 rfl rfl)
theorem dX6_begin_62 : decode cX6_begin 62 = .ok (.iconst 4, 1) := dk_7 (dk_at dksX6_begin_2 15 rfl rfl)
theorem dX6_begin_63 : decode cX6_begin 63 = .ok (.goto 47, 3) := dk_167 0 47 (dk_at dksX6_begin_2 16 rfl rfl)
theorem dX6_begin_66 : decode cX6_begin 66 = .ok (.iload_n 1, 1) := dk_27 (dk_at dksX6_begin_2 19 rfl rfl)
theorem dX6_begin_67 : decode cX6_begin 67 = .ok (.bipush 110, 2) := dk_16 110 (dk_at dksX6_begin_2 20 rfl rfl)
theorem dX6_begin_69 : decode cX6_begin 69 = .ok (.if_icmp .ne 7, 3) := dk_160 0 7 (dk_at dksX6_begin_3 0 rfl rfl)
theorem dX6_begin_72 : decode cX6_begin 72 = .ok (.iconst 5, 1) := dk_8 (dk_at dksX6_begin_3 3 rfl rfl)
theorem dX6_begin_73 : decode cX6_begin 73 = .ok (.goto 37, 3) := dk_167 0 37 (dk_at dksX6_begin_3 4 rfl rfl)
theorem dX6_begin_76 : decode cX6_begin 76 = .ok (.iload_n 1, 1) := dk_27 (dk_at dksX6_begin_3 7 rfl rfl)
theorem dX6_begin_77 : decode cX6_begin 77 = .ok (.bipush 113, 2) := dk_16 113 (dk_at dksX6_begin_3 8 rfl rfl)
theorem dX6_begin_79 : decode cX6_begin 79 = .ok (.if_icmp .ne 8, 3) := dk_160 0 8 (dk_at dksX6_begin_3 10 rfl rfl)
theorem dX6_begin_82 : decode cX6_begin 82 = .ok (.bipush 6, 2) := dk_16 6 (dk_at dksX6_begin_3 13 rfl rfl)
theorem dX6_begin_84 : decode cX6_begin 84 = .ok (.goto 26, 3) := dk_167 0 26 (dk_at dksX6_begin_3 15 rfl rfl)
theorem dX6_begin_87 : decode cX6_begin 87 = .ok (.iload_n 1, 1) := dk_27 (dk_at dksX6_begin_3 18 rfl rfl)
theorem dX6_begin_88 : decode cX6_begin 88 = .ok (.bipush 108, 2) := dk_16 108 (dk_at dksX6_begin_3 19 rfl rfl)
theorem dX6_begin_90 : decode cX6_begin 90 = .ok (.if_icmp .ne 8, 3) := dk_160 0 8 (dk_at dksX6_begin_3 21 rfl rfl)
theorem dX6_begin_93 : decode cX6_begin 93 = .ok (.bipush 7, 2) := dk_16 7 (dk_at dksX6_begin_4 0 rfl rfl)
theorem dX6_begin_95 : decode cX6_begin 95 = .ok (.goto 15, 3) := dk_167 0 15 (dk_at dksX6_begin_4 2 rfl rfl)
theorem dX6_begin_98 : decode cX6_begin 98 = .ok (.iload_n 1, 1) := dk_27 (dk_at dksX6_begin_4 5 rfl rfl)
theorem dX6_begin_99 : decode cX6_begin 99 = .ok (.bipush 99, 2) := dk_16 99 (dk_at dksX6_begin_4 6 rfl rfl)
theorem dX6_begin_101 : decode cX6_begin 101 = .ok (.if_icmp .ne 8, 3) := dk_160 0 8 (dk_at dksX6_begin_4 8 rfl rfl)
theorem dX6_begin_104 : decode cX6_begin 104 = .ok (.bipush 9, 2) := dk_16 9 (dk_at dksX6_begin_4 11 rfl rfl)
theorem dX6_begin_106 : decode cX6_begin 106 = .ok (.goto 4, 3) := dk_167 0 4 (dk_at dksX6_begin_4 13 rfl rfl)
theorem dX6_begin_109 : decode cX6_begin 109 = .ok (.iconst 0, 1) := dk_3 (dk_at dksX6_begin_4 16 rfl rfl)
theorem dX6_begin_110 : decode cX6_begin 110 = .ok (.istore_n 2, 1) := dk_61 (dk_at dksX6_begin_4 17 rfl rfl)
theorem dX6_begin_111 : decode cX6_begin 111 = .ok (.iload_n 2, 1) := dk_28 (dk_at dksX6_begin_4 18 rfl rfl)
theorem dX6_begin_112 : decode cX6_begin 112 = .ok (.ifCond .ne 13, 3) := dk_154 0 13 (dk_at dksX6_begin_4 19 rfl rfl)
theorem dX6_begin_115 : decode cX6_begin 115 = .ok (.aload_n 0, 1) := dk_42 (dk_at dksX6_begin_4 22 rfl rfl)
theorem dX6_begin_116 : decode cX6_begin 116 = .ok (.iconst 1, 1) := dk_4 (dk_at dksX6_begin_4 23 rfl rfl)
theorem dX6_begin_117 : decode cX6_begin 117 = .ok (.aload_n 0, 1) := dk_42 (dk_at dksX6_begin_5 0 rfl rfl)
theorem dX6_begin_118 : decode cX6_begin 118 = .ok (.getfield 146, 3) := dk_180 0 146 (dk_at dksX6_begin_5 1 rfl rfl)
theorem dX6_begin_121 : decode cX6_begin 121 = .ok (.invokevirtual 156, 3) := dk_182 0 156 (dk_at dksX6_begin_5 4 rfl rfl)
theorem dX6_begin_124 : decode cX6_begin 124 = .ok (.ireturn, 1) := dk_172 (dk_at dksX6_begin_5 7 rfl rfl)
theorem dX6_begin_125 : decode cX6_begin 125 = .ok (.aload_n 0, 1) := dk_42 (dk_at dksX6_begin_5 8 rfl rfl)
theorem dX6_begin_126 : decode cX6_begin 126 = .ok (.getfield 177, 3) := dk_180 0 177 (dk_at dksX6_begin_5 9 rfl rfl)
theorem dX6_begin_129 : decode cX6_begin 129 = .ok (.bipush 6, 2) := dk_16 6 (dk_at dksX6_begin_5 12 rfl rfl)
theorem dX6_begin_131 : decode cX6_begin 131 = .ok (.if_icmp .lt 13, 3) := dk_161 0 13 (dk_at dksX6_begin_5 14 rfl rfl)
theorem dX6_begin_134 : decode cX6_begin 134 = .ok (.aload_n 0, 1) := dk_42 (dk_at dksX6_begin_5 17 rfl rfl)
theorem dX6_begin_135 : decode cX6_begin 135 = .ok (.iconst 5, 1) := dk_8 (dk_at dksX6_begin_5 18 rfl rfl)
theorem dX6_begin_136 : decode cX6_begin 136 = .ok (.aload_n 0, 1) := dk_42 (dk_at dksX6_begin_5 19 rfl rfl)
theorem dX6_begin_137 : decode cX6_begin 137 = .ok (.getfield 146, 3) := dk_180 0 146 (dk_at dksX6_begin_5 20 rfl rfl)
theorem dX6_begin_140 : decode cX6_begin 140 = .ok (.invokevirtual 156, 3) := dk_182 0 156 (dk_at dksX6_begin_6 0 rfl rfl)
theorem dX6_begin_143 : decode cX6_begin 143 = .ok (.ireturn, 1) := dk_172 (dk_at dksX6_begin_6 3 rfl rfl)
theorem dX6_begin_144 : decode cX6_begin 144 = .ok (.aload_n 0, 1) := dk_42 (dk_at dksX6_begin_6 4 rfl rfl)
theorem dX6_begin_145 : decode cX6_begin 145 = .ok (.dup, 1) := dk_89 (dk_at dksX6_begin_6 5 rfl rfl)
theorem dX6_begin_146 : decode cX6_begin 146 = .ok (.getfield 146, 3) := dk_180 0 146 (dk_at dksX6_begin_6 6 rfl rfl)
theorem dX6_begin_149 : decode cX6_begin 149 = .ok (.iconst 1, 1) := dk_4 (dk_at dksX6_begin_6 9 rfl rfl)
theorem dX6_begin_150 : decode cX6_begin 150 = .ok (.iadd, 1) := dk_96 (dk_at dksX6_begin_6 10 rfl rfl)
theorem dX6_begin_151 : decode cX6_begin 151 = .ok (.putfield 146, 3) := dk_181 0 146 (dk_at dksX6_begin_6 11 rfl rfl)
theorem dX6_begin_154 : decode cX6_begin 154 = .ok (.aload_n 0, 1) := dk_42 (dk_at dksX6_begin_6 14 rfl rfl)
theorem dX6_begin_155 : decode cX6_begin 155 = .ok (.iload_n 2, 1) := dk_28 (dk_at dksX6_begin_6 15 rfl rfl)
theorem dX6_begin_156 : decode cX6_begin 156 = .ok (.invokevirtual 193, 3) := dk_182 0 193 (dk_at dksX6_begin_6 16 rfl rfl)
theorem dX6_begin_159 : decode cX6_begin 159 = .ok (.istore_n 3, 1) := dk_62 (dk_at dksX6_begin_6 19 rfl rfl)
theorem dX6_begin_160 : decode cX6_begin 160 = .ok (.iload_n 2, 1) := dk_28 (dk_at dksX6_begin_6 20 rfl rfl)
theorem dX6_begin_161 : decode cX6_begin 161 = .ok (.bipush 6, 2) := dk_16 6 (dk_at dksX6_begin_6 21 rfl rfl)
theorem dX6_begin_163 : decode cX6_begin 163 = .ok (.if_icmp .eq 9, 3) := dk_159 0 9 (dk_at dksX6_begin_7 0 rfl rfl)
theorem dX6_begin_166 : decode cX6_begin 166 = .ok (.iload_n 2, 1) := dk_28 (dk_at dksX6_begin_7 3 rfl rfl)
theorem dX6_begin_167 : decode cX6_begin 167 = .ok (.bipush 9, 2) := dk_16 9 (dk_at dksX6_begin_7 4 rfl rfl)
theorem dX6_begin_169 : decode cX6_begin 169 = .ok (.if_icmp .ne 47, 3) := dk_160 0 47 (dk_at dksX6_begin_7 6 rfl rfl)
theorem dX6_begin_172 : decode cX6_begin 172 = .ok (.aload_n 0, 1) := dk_42 (dk_at dksX6_begin_7 9 rfl rfl)
theorem dX6_begin_173 : decode cX6_begin 173 = .ok (.bipush 123, 2) := dk_16 123 (dk_at dksX6_begin_7 10 rfl rfl)
theorem dX6_begin_175 : decode cX6_begin 175 = .ok (.invokevirtual 170, 3) := dk_182 0 170 (dk_at dksX6_begin_7 12 rfl rfl)
theorem dX6_begin_178 : decode cX6_begin 178 = .ok (.ifCond .ne 5, 3) := dk_154 0 5 (dk_at dksX6_begin_7 15 rfl rfl)
theorem dX6_begin_181 : decode cX6_begin 181 = .ok (.iconst (-1), 1) := dk_2 (dk_at dksX6_begin_7 18 rfl rfl)
theorem dX6_begin_182 : decode cX6_begin 182 = .ok (.ireturn, 1) := dk_172 (dk_at dksX6_begin_7 19 rfl rfl)
theorem dX6_begin_183 : decode cX6_begin 183 = .ok (.iload_n 2, 1) := dk_28 (dk_at dksX6_begin_7 20 rfl rfl)
theorem dX6_begin_184 : decode cX6_begin 184 = .ok (.bipush 9, 2) := dk_16 9 (dk_at dksX6_begin_7 21 rfl rfl)
theorem dX6_begin_186 : decode cX6_begin 186 = .ok (.if_icmp .eq 12, 3) := dk_159 0 12 (dk_at dksX6_begin_8 0 rfl rfl)
theorem dX6_begin_189 : decode cX6_begin 189 = .ok (.aload_n 0, 1) := dk_42 (dk_at dksX6_begin_8 3 rfl rfl)
theorem dX6_begin_190 : decode cX6_begin 190 = .ok (.invokevirtual 152, 3) := dk_182 0 152 (dk_at dksX6_begin_8 4 rfl rfl)
theorem dX6_begin_193 : decode cX6_begin 193 = .ok (.bipush 125, 2) := dk_16 125 (dk_at dksX6_begin_8 7 rfl rfl)
theorem dX6_begin_195 : decode cX6_begin 195 = .ok (.if_icmp .eq 9, 3) := dk_159 0 9 (dk_at dksX6_begin_8 9 rfl rfl)
theorem dX6_begin_198 : decode cX6_begin 198 = .ok (.aload_n 0, 1) := dk_42 (dk_at dksX6_begin_8 12 rfl rfl)
theorem dX6_begin_199 : decode cX6_begin 199 = .ok (.iload_n 3, 1) := dk_29 (dk_at dksX6_begin_8 13 rfl rfl)
theorem dX6_begin_200 : decode cX6_begin 200 = .ok (.invokevirtual 196, 3) := dk_182 0 196 (dk_at dksX6_begin_8 14 rfl rfl)
theorem dX6_begin_203 : decode cX6_begin 203 = .ok (.ireturn, 1) := dk_172 (dk_at dksX6_begin_8 17 rfl rfl)
theorem dX6_begin_204 : decode cX6_begin 204 = .ok (.aload_n 0, 1) := dk_42 (dk_at dksX6_begin_8 18 rfl rfl)
theorem dX6_begin_205 : decode cX6_begin 205 = .ok (.dup, 1) := dk_89 (dk_at dksX6_begin_8 19 rfl rfl)
theorem dX6_begin_206 : decode cX6_begin 206 = .ok (.getfield 146, 3) := dk_180 0 146 (dk_at dksX6_begin_8 20 rfl rfl)
theorem dX6_begin_209 : decode cX6_begin 209 = .ok (.iconst 1, 1) := dk_4 (dk_at dksX6_begin_8 23 rfl rfl)
theorem dX6_begin_210 : decode cX6_begin 210 = .ok (.iadd, 1) := dk_96 (dk_at dksX6_begin_9 0 rfl rfl)
theorem dX6_begin_211 : decode cX6_begin 211 = .ok (.putfield 146, 3) := dk_181 0 146 (dk_at dksX6_begin_9 1 rfl rfl)
theorem dX6_begin_214 : decode cX6_begin 214 = .ok (.iload_n 3, 1) := dk_29 (dk_at dksX6_begin_9 4 rfl rfl)
theorem dX6_begin_215 : decode cX6_begin 215 = .ok (.ireturn, 1) := dk_172 (dk_at dksX6_begin_9 5 rfl rfl)
theorem dX6_begin_216 : decode cX6_begin 216 = .ok (.iload_n 2, 1) := dk_28 (dk_at dksX6_begin_9 6 rfl rfl)
theorem dX6_begin_217 : decode cX6_begin 217 = .ok (.iconst 1, 1) := dk_4 (dk_at dksX6_begin_9 7 rfl rfl)
theorem dX6_begin_218 : decode cX6_begin 218 = .ok (.if_icmp .eq 32, 3) := dk_159 0 32 (dk_at dksX6_begin_9 8 rfl rfl)
theorem dX6_begin_221 : decode cX6_begin 221 = .ok (.iload_n 2, 1) := dk_28 (dk_at dksX6_begin_9 11 rfl rfl)
theorem dX6_begin_222 : decode cX6_begin 222 = .ok (.iconst 5, 1) := dk_8 (dk_at dksX6_begin_9 12 rfl rfl)
theorem dX6_begin_223 : decode cX6_begin 223 = .ok (.if_icmp .eq 27, 3) := dk_159 0 27 (dk_at dksX6_begin_9 13 rfl rfl)
theorem dX6_begin_226 : decode cX6_begin 226 = .ok (.aload_n 0, 1) := dk_42 (dk_at dksX6_begin_9 16 rfl rfl)
theorem dX6_begin_227 : decode cX6_begin 227 = .ok (.invokevirtual 152, 3) := dk_182 0 152 (dk_at dksX6_begin_9 17 rfl rfl)
theorem dX6_begin_230 : decode cX6_begin 230 = .ok (.bipush 40, 2) := dk_16 40 (dk_at dksX6_begin_9 20 rfl rfl)
theorem dX6_begin_232 : decode cX6_begin 232 = .ok (.if_icmp .ne 18, 3) := dk_160 0 18 (dk_at dksX6_begin_10 0 rfl rfl)
theorem dX6_begin_235 : decode cX6_begin 235 = .ok (.aload_n 0, 1) := dk_42 (dk_at dksX6_begin_10 3 rfl rfl)
theorem dX6_begin_236 : decode cX6_begin 236 = .ok (.iload_n 3, 1) := dk_29 (dk_at dksX6_begin_10 4 rfl rfl)
theorem dX6_begin_237 : decode cX6_begin 237 = .ok (.iload_n 2, 1) := dk_28 (dk_at dksX6_begin_10 5 rfl rfl)
theorem dX6_begin_238 : decode cX6_begin 238 = .ok (.iconst 2, 1) := dk_5 (dk_at dksX6_begin_10 6 rfl rfl)
theorem dX6_begin_239 : decode cX6_begin 239 = .ok (.if_icmp .ne 7, 3) := dk_160 0 7 (dk_at dksX6_begin_10 7 rfl rfl)
theorem dX6_begin_242 : decode cX6_begin 242 = .ok (.iconst 1, 1) := dk_4 (dk_at dksX6_begin_10 10 rfl rfl)
theorem dX6_begin_243 : decode cX6_begin 243 = .ok (.goto 4, 3) := dk_167 0 4 (dk_at dksX6_begin_10 11 rfl rfl)
theorem dX6_begin_246 : decode cX6_begin 246 = .ok (.iconst 0, 1) := dk_3 (dk_at dksX6_begin_10 14 rfl rfl)
theorem dX6_begin_247 : decode cX6_begin 247 = .ok (.invokevirtual 199, 3) := dk_182 0 199 (dk_at dksX6_begin_10 15 rfl rfl)
theorem dX6_begin_250 : decode cX6_begin 250 = .ok (.aload_n 0, 1) := dk_42 (dk_at dksX6_begin_10 18 rfl rfl)
theorem dX6_begin_251 : decode cX6_begin 251 = .ok (.getfield 149, 3) := dk_180 0 149 (dk_at dksX6_begin_10 19 rfl rfl)
theorem dX6_begin_254 : decode cX6_begin 254 = .ok (.ifCond .le 7, 3) := dk_158 0 7 (dk_at dksX6_begin_11 0 rfl rfl)
theorem dX6_begin_257 : decode cX6_begin 257 = .ok (.iconst (-1), 1) := dk_2 (dk_at dksX6_begin_11 3 rfl rfl)
theorem dX6_begin_258 : decode cX6_begin 258 = .ok (.goto 18, 3) := dk_167 0 18 (dk_at dksX6_begin_11 4 rfl rfl)
theorem dX6_begin_261 : decode cX6_begin 261 = .ok (.iload_n 2, 1) := dk_28 (dk_at dksX6_begin_11 7 rfl rfl)
theorem dX6_begin_262 : decode cX6_begin 262 = .ok (.bipush 7, 2) := dk_16 7 (dk_at dksX6_begin_11 8 rfl rfl)
theorem dX6_begin_264 : decode cX6_begin 264 = .ok (.if_icmp .ne 11, 3) := dk_160 0 11 (dk_at dksX6_begin_11 10 rfl rfl)
theorem dX6_begin_267 : decode cX6_begin 267 = .ok (.aload_n 0, 1) := dk_42 (dk_at dksX6_begin_11 13 rfl rfl)
theorem dX6_begin_268 : decode cX6_begin 268 = .ok (.iload_n 3, 1) := dk_29 (dk_at dksX6_begin_11 14 rfl rfl)
theorem dX6_begin_269 : decode cX6_begin 269 = .ok (.invokevirtual 196, 3) := dk_182 0 196 (dk_at dksX6_begin_11 15 rfl rfl)
theorem dX6_begin_272 : decode cX6_begin 272 = .ok (.goto 4, 3) := dk_167 0 4 (dk_at dksX6_begin_11 18 rfl rfl)
theorem dX6_begin_275 : decode cX6_begin 275 = .ok (.iload_n 3, 1) := dk_29 (dk_at dksX6_begin_11 21 rfl rfl)
theorem dX6_begin_276 : decode cX6_begin 276 = .ok (.ireturn, 1) := dk_172 (dk_at dksX6_begin_11 22 rfl rfl)
abbrev cX6_tagged : ByteArray := prog_18_method_17_code
def yX6_tagged : MethodName := ⟨RX6, "tagged", "()I"⟩
def dkwX6_tagged_6 : List UInt8 := [167, 0, 4, 2, 172]
abbrev dktX6_tagged_6 : List UInt8 := dkwX6_tagged_6 ++ []
def dkwX6_tagged_5 : List UInt8 := [180, 0, 29, 27, 46, 96, 120, 79, 42, 16, 93, 182, 0, 170, 153, 0, 11, 42, 27, 182, 0, 196]
abbrev dktX6_tagged_5 : List UInt8 := dkwX6_tagged_5 ++ dktX6_tagged_6
def dkwX6_tagged_4 : List UInt8 := [51, 153, 0, 7, 4, 167, 0, 4, 3, 96, 181, 0, 146, 42, 180, 0, 35, 27, 4, 16, 20, 42]
abbrev dktX6_tagged_4 : List UInt8 := dkwX6_tagged_4 ++ dktX6_tagged_5
def dkwX6_tagged_3 : List UInt8 := [182, 0, 152, 16, 33, 160, 0, 7, 4, 167, 0, 4, 3, 84, 42, 89, 180, 0, 146, 42, 180, 0, 45, 27]
abbrev dktX6_tagged_3 : List UInt8 := dkwX6_tagged_3 ++ dktX6_tagged_4
def dkwX6_tagged_2 : List UInt8 := [42, 180, 0, 146, 182, 0, 156, 172, 42, 89, 180, 0, 146, 4, 96, 181, 0, 146, 42, 180, 0, 45, 27, 42]
abbrev dktX6_tagged_2 : List UInt8 := dkwX6_tagged_2 ++ dktX6_tagged_3
def dkwX6_tagged_1 : List UInt8 := [182, 0, 152, 16, 48, 100, 79, 42, 180, 0, 29, 27, 46, 3, 16, 9, 184, 0, 166, 154, 0, 13, 42, 4]
abbrev dktX6_tagged_1 : List UInt8 := dkwX6_tagged_1 ++ dktX6_tagged_2
def dkwX6_tagged_0 : List UInt8 := [42, 89, 180, 0, 146, 4, 96, 181, 0, 146, 42, 16, 10, 182, 0, 193, 60, 42, 180, 0, 29, 27, 42]
abbrev dktX6_tagged_0 : List UInt8 := dkwX6_tagged_0 ++ dktX6_tagged_1
theorem dksX6_tagged_0 : cX6_tagged.data.toList.drop 0 = dktX6_tagged_0 := by decide +kernel
theorem dksX6_tagged_1 : cX6_tagged.data.toList.drop 23 = dktX6_tagged_1 := dk_seg dksX6_tagged_0 23 rfl rfl
theorem dksX6_tagged_2 : cX6_tagged.data.toList.drop 47 = dktX6_tagged_2 := dk_seg dksX6_tagged_1 24 rfl rfl
theorem dksX6_tagged_3 : cX6_tagged.data.toList.drop 71 = dktX6_tagged_3 := dk_seg dksX6_tagged_2 24 rfl rfl
theorem dksX6_tagged_4 : cX6_tagged.data.toList.drop 95 = dktX6_tagged_4 := dk_seg dksX6_tagged_3 24 rfl rfl
theorem dksX6_tagged_5 : cX6_tagged.data.toList.drop 117 = dktX6_tagged_5 := dk_seg dksX6_tagged_4 22 rfl rfl
theorem dksX6_tagged_6 : cX6_tagged.data.toList.drop 139 = dktX6_tagged_6 := dk_seg dksX6_tagged_5 22 rfl rfl
theorem dX6_tagged_0 : decode cX6_tagged 0 = .ok (.aload_n 0, 1) := dk_42 (dk_at dksX6_tagged_0 0 rfl rfl)
theorem dX6_tagged_1 : decode cX6_tagged 1 = .ok (.dup, 1) := dk_89 (dk_at dksX6_tagged_0 1 rfl rfl)
theorem dX6_tagged_2 : decode cX6_tagged 2 = .ok (.getfield 146, 3) := dk_180 0 146 (dk_at dksX6_tagged_0 2 rfl rfl)
theorem dX6_tagged_5 : decode cX6_tagged 5 = .ok (.iconst 1, 1) := dk_4 (dk_at dksX6_tagged_0 5 rfl rfl)
theorem dX6_tagged_6 : decode cX6_tagged 6 = .ok (.iadd, 1) := dk_96 (dk_at dksX6_tagged_0 6 rfl rfl)
theorem dX6_tagged_7 : decode cX6_tagged 7 = .ok (.putfield 146, 3) := dk_181 0 146 (dk_at dksX6_tagged_0 7 rfl rfl)
theorem dX6_tagged_10 : decode cX6_tagged 10 = .ok (.aload_n 0, 1) := dk_42 (dk_at dksX6_tagged_0 10 rfl rfl)
theorem dX6_tagged_11 : decode cX6_tagged 11 = .ok (.bipush 10, 2) := dk_16 10 (dk_at dksX6_tagged_0 11 rfl rfl)
theorem dX6_tagged_13 : decode cX6_tagged 13 = .ok (.invokevirtual 193, 3) := dk_182 0 193 (dk_at dksX6_tagged_0 13 rfl rfl)
theorem dX6_tagged_16 : decode cX6_tagged 16 = .ok (.istore_n 1, 1) := dk_60 (dk_at dksX6_tagged_0 16 rfl rfl)
theorem dX6_tagged_17 : decode cX6_tagged 17 = .ok (.aload_n 0, 1) := dk_42 (dk_at dksX6_tagged_0 17 rfl rfl)
theorem dX6_tagged_18 : decode cX6_tagged 18 = .ok (.getfield 29, 3) := dk_180 0 29 (dk_at dksX6_tagged_0 18 rfl rfl)
theorem dX6_tagged_21 : decode cX6_tagged 21 = .ok (.iload_n 1, 1) := dk_27 (dk_at dksX6_tagged_0 21 rfl rfl)
theorem dX6_tagged_22 : decode cX6_tagged 22 = .ok (.aload_n 0, 1) := dk_42 (dk_at dksX6_tagged_0 22 rfl rfl)
theorem dX6_tagged_23 : decode cX6_tagged 23 = .ok (.invokevirtual 152, 3) := dk_182 0 152 (dk_at dksX6_tagged_1 0 rfl rfl)
theorem dX6_tagged_26 : decode cX6_tagged 26 = .ok (.bipush 48, 2) := dk_16 48 (dk_at dksX6_tagged_1 3 rfl rfl)
theorem dX6_tagged_28 : decode cX6_tagged 28 = .ok (.isub, 1) := dk_100 (dk_at dksX6_tagged_1 5 rfl rfl)
theorem dX6_tagged_29 : decode cX6_tagged 29 = .ok (.iastore, 1) := dk_79 (dk_at dksX6_tagged_1 6 rfl rfl)
theorem dX6_tagged_30 : decode cX6_tagged 30 = .ok (.aload_n 0, 1) := dk_42 (dk_at dksX6_tagged_1 7 rfl rfl)
theorem dX6_tagged_31 : decode cX6_tagged 31 = .ok (.getfield 29, 3) := dk_180 0 29 (dk_at dksX6_tagged_1 8 rfl rfl)
theorem dX6_tagged_34 : decode cX6_tagged 34 = .ok (.iload_n 1, 1) := dk_27 (dk_at dksX6_tagged_1 11 rfl rfl)
theorem dX6_tagged_35 : decode cX6_tagged 35 = .ok (.iaload, 1) := dk_46 (dk_at dksX6_tagged_1 12 rfl rfl)
theorem dX6_tagged_36 : decode cX6_tagged 36 = .ok (.iconst 0, 1) := dk_3 (dk_at dksX6_tagged_1 13 rfl rfl)
theorem dX6_tagged_37 : decode cX6_tagged 37 = .ok (.bipush 9, 2) := dk_16 9 (dk_at dksX6_tagged_1 14 rfl rfl)
theorem dX6_tagged_39 : decode cX6_tagged 39 = .ok (.invokestatic 166, 3) := dk_184 0 166 (dk_at dksX6_tagged_1 16 rfl rfl)
theorem dX6_tagged_42 : decode cX6_tagged 42 = .ok (.ifCond .ne 13, 3) := dk_154 0 13 (dk_at dksX6_tagged_1 19 rfl rfl)
theorem dX6_tagged_45 : decode cX6_tagged 45 = .ok (.aload_n 0, 1) := dk_42 (dk_at dksX6_tagged_1 22 rfl rfl)
theorem dX6_tagged_46 : decode cX6_tagged 46 = .ok (.iconst 1, 1) := dk_4 (dk_at dksX6_tagged_1 23 rfl rfl)
theorem dX6_tagged_47 : decode cX6_tagged 47 = .ok (.aload_n 0, 1) := dk_42 (dk_at dksX6_tagged_2 0 rfl rfl)
theorem dX6_tagged_48 : decode cX6_tagged 48 = .ok (.getfield 146, 3) := dk_180 0 146 (dk_at dksX6_tagged_2 1 rfl rfl)
theorem dX6_tagged_51 : decode cX6_tagged 51 = .ok (.invokevirtual 156, 3) := dk_182 0 156 (dk_at dksX6_tagged_2 4 rfl rfl)
theorem dX6_tagged_54 : decode cX6_tagged 54 = .ok (.ireturn, 1) := dk_172 (dk_at dksX6_tagged_2 7 rfl rfl)
theorem dX6_tagged_55 : decode cX6_tagged 55 = .ok (.aload_n 0, 1) := dk_42 (dk_at dksX6_tagged_2 8 rfl rfl)
theorem dX6_tagged_56 : decode cX6_tagged 56 = .ok (.dup, 1) := dk_89 (dk_at dksX6_tagged_2 9 rfl rfl)
theorem dX6_tagged_57 : decode cX6_tagged 57 = .ok (.getfield 146, 3) := dk_180 0 146 (dk_at dksX6_tagged_2 10 rfl rfl)
theorem dX6_tagged_60 : decode cX6_tagged 60 = .ok (.iconst 1, 1) := dk_4 (dk_at dksX6_tagged_2 13 rfl rfl)
theorem dX6_tagged_61 : decode cX6_tagged 61 = .ok (.iadd, 1) := dk_96 (dk_at dksX6_tagged_2 14 rfl rfl)
theorem dX6_tagged_62 : decode cX6_tagged 62 = .ok (.putfield 146, 3) := dk_181 0 146 (dk_at dksX6_tagged_2 15 rfl rfl)
theorem dX6_tagged_65 : decode cX6_tagged 65 = .ok (.aload_n 0, 1) := dk_42 (dk_at dksX6_tagged_2 18 rfl rfl)
theorem dX6_tagged_66 : decode cX6_tagged 66 = .ok (.getfield 45, 3) := dk_180 0 45 (dk_at dksX6_tagged_2 19 rfl rfl)
theorem dX6_tagged_69 : decode cX6_tagged 69 = .ok (.iload_n 1, 1) := dk_27 (dk_at dksX6_tagged_2 22 rfl rfl)
theorem dX6_tagged_70 : decode cX6_tagged 70 = .ok (.aload_n 0, 1) := dk_42 (dk_at dksX6_tagged_2 23 rfl rfl)
theorem dX6_tagged_71 : decode cX6_tagged 71 = .ok (.invokevirtual 152, 3) := dk_182 0 152 (dk_at dksX6_tagged_3 0 rfl rfl)
theorem dX6_tagged_74 : decode cX6_tagged 74 = .ok (.bipush 33, 2) := dk_16 33 (dk_at dksX6_tagged_3 3 rfl rfl)
theorem dX6_tagged_76 : decode cX6_tagged 76 = .ok (.if_icmp .ne 7, 3) := dk_160 0 7 (dk_at dksX6_tagged_3 5 rfl rfl)
theorem dX6_tagged_79 : decode cX6_tagged 79 = .ok (.iconst 1, 1) := dk_4 (dk_at dksX6_tagged_3 8 rfl rfl)
theorem dX6_tagged_80 : decode cX6_tagged 80 = .ok (.goto 4, 3) := dk_167 0 4 (dk_at dksX6_tagged_3 9 rfl rfl)
theorem dX6_tagged_83 : decode cX6_tagged 83 = .ok (.iconst 0, 1) := dk_3 (dk_at dksX6_tagged_3 12 rfl rfl)
theorem dX6_tagged_84 : decode cX6_tagged 84 = .ok (.bastore, 1) := dk_84 (dk_at dksX6_tagged_3 13 rfl rfl)
theorem dX6_tagged_85 : decode cX6_tagged 85 = .ok (.aload_n 0, 1) := dk_42 (dk_at dksX6_tagged_3 14 rfl rfl)
theorem dX6_tagged_86 : decode cX6_tagged 86 = .ok (.dup, 1) := dk_89 (dk_at dksX6_tagged_3 15 rfl rfl)
theorem dX6_tagged_87 : decode cX6_tagged 87 = .ok (.getfield 146, 3) := dk_180 0 146 (dk_at dksX6_tagged_3 16 rfl rfl)
theorem dX6_tagged_90 : decode cX6_tagged 90 = .ok (.aload_n 0, 1) := dk_42 (dk_at dksX6_tagged_3 19 rfl rfl)
theorem dX6_tagged_91 : decode cX6_tagged 91 = .ok (.getfield 45, 3) := dk_180 0 45 (dk_at dksX6_tagged_3 20 rfl rfl)
theorem dX6_tagged_94 : decode cX6_tagged 94 = .ok (.iload_n 1, 1) := dk_27 (dk_at dksX6_tagged_3 23 rfl rfl)
theorem dX6_tagged_95 : decode cX6_tagged 95 = .ok (.baload, 1) := dk_51 (dk_at dksX6_tagged_4 0 rfl rfl)
theorem dX6_tagged_96 : decode cX6_tagged 96 = .ok (.ifCond .eq 7, 3) := dk_153 0 7 (dk_at dksX6_tagged_4 1 rfl rfl)
theorem dX6_tagged_99 : decode cX6_tagged 99 = .ok (.iconst 1, 1) := dk_4 (dk_at dksX6_tagged_4 4 rfl rfl)
theorem dX6_tagged_100 : decode cX6_tagged 100 = .ok (.goto 4, 3) := dk_167 0 4 (dk_at dksX6_tagged_4 5 rfl rfl)
theorem dX6_tagged_103 : decode cX6_tagged 103 = .ok (.iconst 0, 1) := dk_3 (dk_at dksX6_tagged_4 8 rfl rfl)
theorem dX6_tagged_104 : decode cX6_tagged 104 = .ok (.iadd, 1) := dk_96 (dk_at dksX6_tagged_4 9 rfl rfl)
theorem dX6_tagged_105 : decode cX6_tagged 105 = .ok (.putfield 146, 3) := dk_181 0 146 (dk_at dksX6_tagged_4 10 rfl rfl)
theorem dX6_tagged_108 : decode cX6_tagged 108 = .ok (.aload_n 0, 1) := dk_42 (dk_at dksX6_tagged_4 13 rfl rfl)
theorem dX6_tagged_109 : decode cX6_tagged 109 = .ok (.getfield 35, 3) := dk_180 0 35 (dk_at dksX6_tagged_4 14 rfl rfl)
theorem dX6_tagged_112 : decode cX6_tagged 112 = .ok (.iload_n 1, 1) := dk_27 (dk_at dksX6_tagged_4 17 rfl rfl)
theorem dX6_tagged_113 : decode cX6_tagged 113 = .ok (.iconst 1, 1) := dk_4 (dk_at dksX6_tagged_4 18 rfl rfl)
theorem dX6_tagged_114 : decode cX6_tagged 114 = .ok (.bipush 20, 2) := dk_16 20 (dk_at dksX6_tagged_4 19 rfl rfl)
theorem dX6_tagged_116 : decode cX6_tagged 116 = .ok (.aload_n 0, 1) := dk_42 (dk_at dksX6_tagged_4 21 rfl rfl)
theorem dX6_tagged_117 : decode cX6_tagged 117 = .ok (.getfield 29, 3) := dk_180 0 29 (dk_at dksX6_tagged_5 0 rfl rfl)
theorem dX6_tagged_120 : decode cX6_tagged 120 = .ok (.iload_n 1, 1) := dk_27 (dk_at dksX6_tagged_5 3 rfl rfl)
theorem dX6_tagged_121 : decode cX6_tagged 121 = .ok (.iaload, 1) := dk_46 (dk_at dksX6_tagged_5 4 rfl rfl)
theorem dX6_tagged_122 : decode cX6_tagged 122 = .ok (.iadd, 1) := dk_96 (dk_at dksX6_tagged_5 5 rfl rfl)
theorem dX6_tagged_123 : decode cX6_tagged 123 = .ok (.ishl, 1) := dk_120 (dk_at dksX6_tagged_5 6 rfl rfl)
theorem dX6_tagged_124 : decode cX6_tagged 124 = .ok (.iastore, 1) := dk_79 (dk_at dksX6_tagged_5 7 rfl rfl)
theorem dX6_tagged_125 : decode cX6_tagged 125 = .ok (.aload_n 0, 1) := dk_42 (dk_at dksX6_tagged_5 8 rfl rfl)
theorem dX6_tagged_126 : decode cX6_tagged 126 = .ok (.bipush 93, 2) := dk_16 93 (dk_at dksX6_tagged_5 9 rfl rfl)
theorem dX6_tagged_128 : decode cX6_tagged 128 = .ok (.invokevirtual 170, 3) := dk_182 0 170 (dk_at dksX6_tagged_5 11 rfl rfl)
theorem dX6_tagged_131 : decode cX6_tagged 131 = .ok (.ifCond .eq 11, 3) := dk_153 0 11 (dk_at dksX6_tagged_5 14 rfl rfl)
theorem dX6_tagged_134 : decode cX6_tagged 134 = .ok (.aload_n 0, 1) := dk_42 (dk_at dksX6_tagged_5 17 rfl rfl)
theorem dX6_tagged_135 : decode cX6_tagged 135 = .ok (.iload_n 1, 1) := dk_27 (dk_at dksX6_tagged_5 18 rfl rfl)
theorem dX6_tagged_136 : decode cX6_tagged 136 = .ok (.invokevirtual 196, 3) := dk_182 0 196 (dk_at dksX6_tagged_5 19 rfl rfl)
theorem dX6_tagged_139 : decode cX6_tagged 139 = .ok (.goto 4, 3) := dk_167 0 4 (dk_at dksX6_tagged_6 0 rfl rfl)
theorem dX6_tagged_142 : decode cX6_tagged 142 = .ok (.iconst (-1), 1) := dk_2 (dk_at dksX6_tagged_6 3 rfl rfl)
theorem dX6_tagged_143 : decode cX6_tagged 143 = .ok (.ireturn, 1) := dk_172 (dk_at dksX6_tagged_6 4 rfl rfl)
abbrev cX6_add : ByteArray := prog_18_method_14_code
def yX6_add : MethodName := ⟨RX6, "add", "(I)I"⟩
def dkwX6_add_5 : List UInt8 := [28, 172]
abbrev dktX6_add_5 : List UInt8 := dkwX6_add_5 ++ []
def dkwX6_add_4 : List UInt8 := [3, 167, 0, 5, 16, 16, 62, 42, 180, 0, 35, 28, 29, 154, 0, 7, 3, 167, 0, 6, 4, 29, 120, 79]
abbrev dktX6_add_4 : List UInt8 := dkwX6_add_4 ++ dktX6_add_5
def dkwX6_add_3 : List UInt8 := [167, 0, 30, 27, 8, 160, 0, 7, 8, 167, 0, 21, 27, 16, 9, 159, 0, 9, 27, 16, 10, 160, 0, 7]
abbrev dktX6_add_3 : List UInt8 := dkwX6_add_3 ++ dktX6_add_4
def dkwX6_add_2 : List UInt8 := [160, 0, 7, 4, 167, 0, 48, 27, 5, 160, 0, 7, 5, 167, 0, 39, 27, 7, 160, 0, 7, 7]
abbrev dktX6_add_2 : List UInt8 := dkwX6_add_2 ++ dktX6_add_3
def dkwX6_add_1 : List UInt8 := [180, 0, 32, 28, 3, 79, 42, 180, 0, 38, 28, 3, 79, 42, 180, 0, 41, 28, 3, 84, 27, 4]
abbrev dktX6_add_1 : List UInt8 := dkwX6_add_1 ++ dktX6_add_2
def dkwX6_add_0 : List UInt8 := [42, 180, 0, 160, 61, 42, 89, 180, 0, 160, 4, 96, 181, 0, 160, 42, 180, 0, 20, 28, 27, 79, 42]
abbrev dktX6_add_0 : List UInt8 := dkwX6_add_0 ++ dktX6_add_1
theorem dksX6_add_0 : cX6_add.data.toList.drop 0 = dktX6_add_0 := by decide +kernel
theorem dksX6_add_1 : cX6_add.data.toList.drop 23 = dktX6_add_1 := dk_seg dksX6_add_0 23 rfl rfl
theorem dksX6_add_2 : cX6_add.data.toList.drop 45 = dktX6_add_2 := dk_seg dksX6_add_1 22 rfl rfl
theorem dksX6_add_3 : cX6_add.data.toList.drop 67 = dktX6_add_3 := dk_seg dksX6_add_2 22 rfl rfl
theorem dksX6_add_4 : cX6_add.data.toList.drop 91 = dktX6_add_4 := dk_seg dksX6_add_3 24 rfl rfl
theorem dksX6_add_5 : cX6_add.data.toList.drop 115 = dktX6_add_5 := dk_seg dksX6_add_4 24 rfl rfl
theorem dX6_add_0 : decode cX6_add 0 = .ok (.aload_n 0, 1) := dk_42 (dk_at dksX6_add_0 0 rfl rfl)
theorem dX6_add_1 : decode cX6_add 1 = .ok (.getfield 160, 3) := dk_180 0 160 (dk_at dksX6_add_0 1 rfl rfl)
theorem dX6_add_4 : decode cX6_add 4 = .ok (.istore_n 2, 1) := dk_61 (dk_at dksX6_add_0 4 rfl rfl)
theorem dX6_add_5 : decode cX6_add 5 = .ok (.aload_n 0, 1) := dk_42 (dk_at dksX6_add_0 5 rfl rfl)
theorem dX6_add_6 : decode cX6_add 6 = .ok (.dup, 1) := dk_89 (dk_at dksX6_add_0 6 rfl rfl)
theorem dX6_add_7 : decode cX6_add 7 = .ok (.getfield 160, 3) := dk_180 0 160 (dk_at dksX6_add_0 7 rfl rfl)
theorem dX6_add_10 : decode cX6_add 10 = .ok (.iconst 1, 1) := dk_4 (dk_at dksX6_add_0 10 rfl rfl)
theorem dX6_add_11 : decode cX6_add 11 = .ok (.iadd, 1) := dk_96 (dk_at dksX6_add_0 11 rfl rfl)
theorem dX6_add_12 : decode cX6_add 12 = .ok (.putfield 160, 3) := dk_181 0 160 (dk_at dksX6_add_0 12 rfl rfl)
theorem dX6_add_15 : decode cX6_add 15 = .ok (.aload_n 0, 1) := dk_42 (dk_at dksX6_add_0 15 rfl rfl)
theorem dX6_add_16 : decode cX6_add 16 = .ok (.getfield 20, 3) := dk_180 0 20 (dk_at dksX6_add_0 16 rfl rfl)
theorem dX6_add_19 : decode cX6_add 19 = .ok (.iload_n 2, 1) := dk_28 (dk_at dksX6_add_0 19 rfl rfl)
theorem dX6_add_20 : decode cX6_add 20 = .ok (.iload_n 1, 1) := dk_27 (dk_at dksX6_add_0 20 rfl rfl)
theorem dX6_add_21 : decode cX6_add 21 = .ok (.iastore, 1) := dk_79 (dk_at dksX6_add_0 21 rfl rfl)
theorem dX6_add_22 : decode cX6_add 22 = .ok (.aload_n 0, 1) := dk_42 (dk_at dksX6_add_0 22 rfl rfl)
theorem dX6_add_23 : decode cX6_add 23 = .ok (.getfield 32, 3) := dk_180 0 32 (dk_at dksX6_add_1 0 rfl rfl)
theorem dX6_add_26 : decode cX6_add 26 = .ok (.iload_n 2, 1) := dk_28 (dk_at dksX6_add_1 3 rfl rfl)
theorem dX6_add_27 : decode cX6_add 27 = .ok (.iconst 0, 1) := dk_3 (dk_at dksX6_add_1 4 rfl rfl)
theorem dX6_add_28 : decode cX6_add 28 = .ok (.iastore, 1) := dk_79 (dk_at dksX6_add_1 5 rfl rfl)
theorem dX6_add_29 : decode cX6_add 29 = .ok (.aload_n 0, 1) := dk_42 (dk_at dksX6_add_1 6 rfl rfl)
theorem dX6_add_30 : decode cX6_add 30 = .ok (.getfield 38, 3) := dk_180 0 38 (dk_at dksX6_add_1 7 rfl rfl)
theorem dX6_add_33 : decode cX6_add 33 = .ok (.iload_n 2, 1) := dk_28 (dk_at dksX6_add_1 10 rfl rfl)
theorem dX6_add_34 : decode cX6_add 34 = .ok (.iconst 0, 1) := dk_3 (dk_at dksX6_add_1 11 rfl rfl)
theorem dX6_add_35 : decode cX6_add 35 = .ok (.iastore, 1) := dk_79 (dk_at dksX6_add_1 12 rfl rfl)
theorem dX6_add_36 : decode cX6_add 36 = .ok (.aload_n 0, 1) := dk_42 (dk_at dksX6_add_1 13 rfl rfl)
theorem dX6_add_37 : decode cX6_add 37 = .ok (.getfield 41, 3) := dk_180 0 41 (dk_at dksX6_add_1 14 rfl rfl)
theorem dX6_add_40 : decode cX6_add 40 = .ok (.iload_n 2, 1) := dk_28 (dk_at dksX6_add_1 17 rfl rfl)
theorem dX6_add_41 : decode cX6_add 41 = .ok (.iconst 0, 1) := dk_3 (dk_at dksX6_add_1 18 rfl rfl)
theorem dX6_add_42 : decode cX6_add 42 = .ok (.bastore, 1) := dk_84 (dk_at dksX6_add_1 19 rfl rfl)
theorem dX6_add_43 : decode cX6_add 43 = .ok (.iload_n 1, 1) := dk_27 (dk_at dksX6_add_1 20 rfl rfl)
theorem dX6_add_44 : decode cX6_add 44 = .ok (.iconst 1, 1) := dk_4 (dk_at dksX6_add_1 21 rfl rfl)
theorem dX6_add_45 : decode cX6_add 45 = .ok (.if_icmp .ne 7, 3) := dk_160 0 7 (dk_at dksX6_add_2 0 rfl rfl)
theorem dX6_add_48 : decode cX6_add 48 = .ok (.iconst 1, 1) := dk_4 (dk_at dksX6_add_2 3 rfl rfl)
theorem dX6_add_49 : decode cX6_add 49 = .ok (.goto 48, 3) := dk_167 0 48 (dk_at dksX6_add_2 4 rfl rfl)
theorem dX6_add_52 : decode cX6_add 52 = .ok (.iload_n 1, 1) := dk_27 (dk_at dksX6_add_2 7 rfl rfl)
theorem dX6_add_53 : decode cX6_add 53 = .ok (.iconst 2, 1) := dk_5 (dk_at dksX6_add_2 8 rfl rfl)
theorem dX6_add_54 : decode cX6_add 54 = .ok (.if_icmp .ne 7, 3) := dk_160 0 7 (dk_at dksX6_add_2 9 rfl rfl)
theorem dX6_add_57 : decode cX6_add 57 = .ok (.iconst 2, 1) := dk_5 (dk_at dksX6_add_2 12 rfl rfl)
theorem dX6_add_58 : decode cX6_add 58 = .ok (.goto 39, 3) := dk_167 0 39 (dk_at dksX6_add_2 13 rfl rfl)
theorem dX6_add_61 : decode cX6_add 61 = .ok (.iload_n 1, 1) := dk_27 (dk_at dksX6_add_2 16 rfl rfl)
theorem dX6_add_62 : decode cX6_add 62 = .ok (.iconst 4, 1) := dk_7 (dk_at dksX6_add_2 17 rfl rfl)
theorem dX6_add_63 : decode cX6_add 63 = .ok (.if_icmp .ne 7, 3) := dk_160 0 7 (dk_at dksX6_add_2 18 rfl rfl)
theorem dX6_add_66 : decode cX6_add 66 = .ok (.iconst 4, 1) := dk_7 (dk_at dksX6_add_2 21 rfl rfl)
theorem dX6_add_67 : decode cX6_add 67 = .ok (.goto 30, 3) := dk_167 0 30 (dk_at dksX6_add_3 0 rfl rfl)
theorem dX6_add_70 : decode cX6_add 70 = .ok (.iload_n 1, 1) := dk_27 (dk_at dksX6_add_3 3 rfl rfl)
theorem dX6_add_71 : decode cX6_add 71 = .ok (.iconst 5, 1) := dk_8 (dk_at dksX6_add_3 4 rfl rfl)
theorem dX6_add_72 : decode cX6_add 72 = .ok (.if_icmp .ne 7, 3) := dk_160 0 7 (dk_at dksX6_add_3 5 rfl rfl)
theorem dX6_add_75 : decode cX6_add 75 = .ok (.iconst 5, 1) := dk_8 (dk_at dksX6_add_3 8 rfl rfl)
theorem dX6_add_76 : decode cX6_add 76 = .ok (.goto 21, 3) := dk_167 0 21 (dk_at dksX6_add_3 9 rfl rfl)
theorem dX6_add_79 : decode cX6_add 79 = .ok (.iload_n 1, 1) := dk_27 (dk_at dksX6_add_3 12 rfl rfl)
theorem dX6_add_80 : decode cX6_add 80 = .ok (.bipush 9, 2) := dk_16 9 (dk_at dksX6_add_3 13 rfl rfl)
theorem dX6_add_82 : decode cX6_add 82 = .ok (.if_icmp .eq 9, 3) := dk_159 0 9 (dk_at dksX6_add_3 15 rfl rfl)
theorem dX6_add_85 : decode cX6_add 85 = .ok (.iload_n 1, 1) := dk_27 (dk_at dksX6_add_3 18 rfl rfl)
theorem dX6_add_86 : decode cX6_add 86 = .ok (.bipush 10, 2) := dk_16 10 (dk_at dksX6_add_3 19 rfl rfl)
theorem dX6_add_88 : decode cX6_add 88 = .ok (.if_icmp .ne 7, 3) := dk_160 0 7 (dk_at dksX6_add_3 21 rfl rfl)
theorem dX6_add_91 : decode cX6_add 91 = .ok (.iconst 0, 1) := dk_3 (dk_at dksX6_add_4 0 rfl rfl)
theorem dX6_add_92 : decode cX6_add 92 = .ok (.goto 5, 3) := dk_167 0 5 (dk_at dksX6_add_4 1 rfl rfl)
theorem dX6_add_95 : decode cX6_add 95 = .ok (.bipush 16, 2) := dk_16 16 (dk_at dksX6_add_4 4 rfl rfl)
theorem dX6_add_97 : decode cX6_add 97 = .ok (.istore_n 3, 1) := dk_62 (dk_at dksX6_add_4 6 rfl rfl)
theorem dX6_add_98 : decode cX6_add 98 = .ok (.aload_n 0, 1) := dk_42 (dk_at dksX6_add_4 7 rfl rfl)
theorem dX6_add_99 : decode cX6_add 99 = .ok (.getfield 35, 3) := dk_180 0 35 (dk_at dksX6_add_4 8 rfl rfl)
theorem dX6_add_102 : decode cX6_add 102 = .ok (.iload_n 2, 1) := dk_28 (dk_at dksX6_add_4 11 rfl rfl)
theorem dX6_add_103 : decode cX6_add 103 = .ok (.iload_n 3, 1) := dk_29 (dk_at dksX6_add_4 12 rfl rfl)
theorem dX6_add_104 : decode cX6_add 104 = .ok (.ifCond .ne 7, 3) := dk_154 0 7 (dk_at dksX6_add_4 13 rfl rfl)
theorem dX6_add_107 : decode cX6_add 107 = .ok (.iconst 0, 1) := dk_3 (dk_at dksX6_add_4 16 rfl rfl)
theorem dX6_add_108 : decode cX6_add 108 = .ok (.goto 6, 3) := dk_167 0 6 (dk_at dksX6_add_4 17 rfl rfl)
theorem dX6_add_111 : decode cX6_add 111 = .ok (.iconst 1, 1) := dk_4 (dk_at dksX6_add_4 20 rfl rfl)
theorem dX6_add_112 : decode cX6_add 112 = .ok (.iload_n 3, 1) := dk_29 (dk_at dksX6_add_4 21 rfl rfl)
theorem dX6_add_113 : decode cX6_add 113 = .ok (.ishl, 1) := dk_120 (dk_at dksX6_add_4 22 rfl rfl)
theorem dX6_add_114 : decode cX6_add 114 = .ok (.iastore, 1) := dk_79 (dk_at dksX6_add_4 23 rfl rfl)
theorem dX6_add_115 : decode cX6_add 115 = .ok (.iload_n 2, 1) := dk_28 (dk_at dksX6_add_5 0 rfl rfl)
theorem dX6_add_116 : decode cX6_add 116 = .ok (.ireturn, 1) := dk_172 (dk_at dksX6_add_5 1 rfl rfl)
abbrev cX6_push : ByteArray := prog_18_method_15_code
def yX6_push : MethodName := ⟨RX6, "push", "(I)I"⟩
def dkwX6_push_0 : List UInt8 := [42, 180, 0, 13, 42, 180, 0, 177, 27, 79, 42, 89, 180, 0, 177, 4, 96, 181, 0, 177, 2, 172]
abbrev dktX6_push_0 : List UInt8 := dkwX6_push_0 ++ []
theorem dksX6_push_0 : cX6_push.data.toList.drop 0 = dktX6_push_0 := by decide +kernel
theorem dX6_push_0 : decode cX6_push 0 = .ok (.aload_n 0, 1) := dk_42 (dk_at dksX6_push_0 0 rfl rfl)
theorem dX6_push_1 : decode cX6_push 1 = .ok (.getfield 13, 3) := dk_180 0 13 (dk_at dksX6_push_0 1 rfl rfl)
theorem dX6_push_4 : decode cX6_push 4 = .ok (.aload_n 0, 1) := dk_42 (dk_at dksX6_push_0 4 rfl rfl)
theorem dX6_push_5 : decode cX6_push 5 = .ok (.getfield 177, 3) := dk_180 0 177 (dk_at dksX6_push_0 5 rfl rfl)
theorem dX6_push_8 : decode cX6_push 8 = .ok (.iload_n 1, 1) := dk_27 (dk_at dksX6_push_0 8 rfl rfl)
theorem dX6_push_9 : decode cX6_push 9 = .ok (.iastore, 1) := dk_79 (dk_at dksX6_push_0 9 rfl rfl)
theorem dX6_push_10 : decode cX6_push 10 = .ok (.aload_n 0, 1) := dk_42 (dk_at dksX6_push_0 10 rfl rfl)
theorem dX6_push_11 : decode cX6_push 11 = .ok (.dup, 1) := dk_89 (dk_at dksX6_push_0 11 rfl rfl)
theorem dX6_push_12 : decode cX6_push 12 = .ok (.getfield 177, 3) := dk_180 0 177 (dk_at dksX6_push_0 12 rfl rfl)
theorem dX6_push_15 : decode cX6_push 15 = .ok (.iconst 1, 1) := dk_4 (dk_at dksX6_push_0 15 rfl rfl)
theorem dX6_push_16 : decode cX6_push 16 = .ok (.iadd, 1) := dk_96 (dk_at dksX6_push_0 16 rfl rfl)
theorem dX6_push_17 : decode cX6_push 17 = .ok (.putfield 177, 3) := dk_181 0 177 (dk_at dksX6_push_0 17 rfl rfl)
theorem dX6_push_20 : decode cX6_push 20 = .ok (.iconst (-1), 1) := dk_2 (dk_at dksX6_push_0 20 rfl rfl)
theorem dX6_push_21 : decode cX6_push 21 = .ok (.ireturn, 1) := dk_172 (dk_at dksX6_push_0 21 rfl rfl)
abbrev cX6_named : ByteArray := prog_18_method_18_code
def yX6_named : MethodName := ⟨RX6, "named", "(I)I"⟩
def dkwX6_named_2 : List UInt8 := [182, 0, 156, 172, 42, 89, 180, 0, 146, 4, 96, 181, 0, 146, 42, 180, 0, 17, 27, 46, 172]
abbrev dktX6_named_2 : List UInt8 := dkwX6_named_2 ++ []
def dkwX6_named_1 : List UInt8 := [180, 0, 38, 42, 180, 0, 17, 27, 46, 46, 96, 16, 6, 161, 0, 13, 42, 8, 42, 180, 0, 146]
abbrev dktX6_named_1 : List UInt8 := dkwX6_named_1 ++ dktX6_named_2
def dkwX6_named_0 : List UInt8 := [42, 180, 0, 17, 27, 46, 156, 0, 13, 42, 6, 42, 180, 0, 146, 182, 0, 156, 172, 42, 180, 0, 177, 42]
abbrev dktX6_named_0 : List UInt8 := dkwX6_named_0 ++ dktX6_named_1
theorem dksX6_named_0 : cX6_named.data.toList.drop 0 = dktX6_named_0 := by decide +kernel
theorem dksX6_named_1 : cX6_named.data.toList.drop 24 = dktX6_named_1 := dk_seg dksX6_named_0 24 rfl rfl
theorem dksX6_named_2 : cX6_named.data.toList.drop 46 = dktX6_named_2 := dk_seg dksX6_named_1 22 rfl rfl
theorem dX6_named_0 : decode cX6_named 0 = .ok (.aload_n 0, 1) := dk_42 (dk_at dksX6_named_0 0 rfl rfl)
theorem dX6_named_1 : decode cX6_named 1 = .ok (.getfield 17, 3) := dk_180 0 17 (dk_at dksX6_named_0 1 rfl rfl)
theorem dX6_named_4 : decode cX6_named 4 = .ok (.iload_n 1, 1) := dk_27 (dk_at dksX6_named_0 4 rfl rfl)
theorem dX6_named_5 : decode cX6_named 5 = .ok (.iaload, 1) := dk_46 (dk_at dksX6_named_0 5 rfl rfl)
theorem dX6_named_6 : decode cX6_named 6 = .ok (.ifCond .ge 13, 3) := dk_156 0 13 (dk_at dksX6_named_0 6 rfl rfl)
theorem dX6_named_9 : decode cX6_named 9 = .ok (.aload_n 0, 1) := dk_42 (dk_at dksX6_named_0 9 rfl rfl)
theorem dX6_named_10 : decode cX6_named 10 = .ok (.iconst 3, 1) := dk_6 (dk_at dksX6_named_0 10 rfl rfl)
theorem dX6_named_11 : decode cX6_named 11 = .ok (.aload_n 0, 1) := dk_42 (dk_at dksX6_named_0 11 rfl rfl)
theorem dX6_named_12 : decode cX6_named 12 = .ok (.getfield 146, 3) := dk_180 0 146 (dk_at dksX6_named_0 12 rfl rfl)
theorem dX6_named_15 : decode cX6_named 15 = .ok (.invokevirtual 156, 3) := dk_182 0 156 (dk_at dksX6_named_0 15 rfl rfl)
theorem dX6_named_18 : decode cX6_named 18 = .ok (.ireturn, 1) := dk_172 (dk_at dksX6_named_0 18 rfl rfl)
theorem dX6_named_19 : decode cX6_named 19 = .ok (.aload_n 0, 1) := dk_42 (dk_at dksX6_named_0 19 rfl rfl)
theorem dX6_named_20 : decode cX6_named 20 = .ok (.getfield 177, 3) := dk_180 0 177 (dk_at dksX6_named_0 20 rfl rfl)
theorem dX6_named_23 : decode cX6_named 23 = .ok (.aload_n 0, 1) := dk_42 (dk_at dksX6_named_0 23 rfl rfl)
theorem dX6_named_24 : decode cX6_named 24 = .ok (.getfield 38, 3) := dk_180 0 38 (dk_at dksX6_named_1 0 rfl rfl)
theorem dX6_named_27 : decode cX6_named 27 = .ok (.aload_n 0, 1) := dk_42 (dk_at dksX6_named_1 3 rfl rfl)
theorem dX6_named_28 : decode cX6_named 28 = .ok (.getfield 17, 3) := dk_180 0 17 (dk_at dksX6_named_1 4 rfl rfl)
theorem dX6_named_31 : decode cX6_named 31 = .ok (.iload_n 1, 1) := dk_27 (dk_at dksX6_named_1 7 rfl rfl)
theorem dX6_named_32 : decode cX6_named 32 = .ok (.iaload, 1) := dk_46 (dk_at dksX6_named_1 8 rfl rfl)
theorem dX6_named_33 : decode cX6_named 33 = .ok (.iaload, 1) := dk_46 (dk_at dksX6_named_1 9 rfl rfl)
theorem dX6_named_34 : decode cX6_named 34 = .ok (.iadd, 1) := dk_96 (dk_at dksX6_named_1 10 rfl rfl)
theorem dX6_named_35 : decode cX6_named 35 = .ok (.bipush 6, 2) := dk_16 6 (dk_at dksX6_named_1 11 rfl rfl)
theorem dX6_named_37 : decode cX6_named 37 = .ok (.if_icmp .lt 13, 3) := dk_161 0 13 (dk_at dksX6_named_1 13 rfl rfl)
theorem dX6_named_40 : decode cX6_named 40 = .ok (.aload_n 0, 1) := dk_42 (dk_at dksX6_named_1 16 rfl rfl)
theorem dX6_named_41 : decode cX6_named 41 = .ok (.iconst 5, 1) := dk_8 (dk_at dksX6_named_1 17 rfl rfl)
theorem dX6_named_42 : decode cX6_named 42 = .ok (.aload_n 0, 1) := dk_42 (dk_at dksX6_named_1 18 rfl rfl)
theorem dX6_named_43 : decode cX6_named 43 = .ok (.getfield 146, 3) := dk_180 0 146 (dk_at dksX6_named_1 19 rfl rfl)
theorem dX6_named_46 : decode cX6_named 46 = .ok (.invokevirtual 156, 3) := dk_182 0 156 (dk_at dksX6_named_2 0 rfl rfl)
theorem dX6_named_49 : decode cX6_named 49 = .ok (.ireturn, 1) := dk_172 (dk_at dksX6_named_2 3 rfl rfl)
theorem dX6_named_50 : decode cX6_named 50 = .ok (.aload_n 0, 1) := dk_42 (dk_at dksX6_named_2 4 rfl rfl)
theorem dX6_named_51 : decode cX6_named 51 = .ok (.dup, 1) := dk_89 (dk_at dksX6_named_2 5 rfl rfl)
theorem dX6_named_52 : decode cX6_named 52 = .ok (.getfield 146, 3) := dk_180 0 146 (dk_at dksX6_named_2 6 rfl rfl)
theorem dX6_named_55 : decode cX6_named 55 = .ok (.iconst 1, 1) := dk_4 (dk_at dksX6_named_2 9 rfl rfl)
theorem dX6_named_56 : decode cX6_named 56 = .ok (.iadd, 1) := dk_96 (dk_at dksX6_named_2 10 rfl rfl)
theorem dX6_named_57 : decode cX6_named 57 = .ok (.putfield 146, 3) := dk_181 0 146 (dk_at dksX6_named_2 11 rfl rfl)
theorem dX6_named_60 : decode cX6_named 60 = .ok (.aload_n 0, 1) := dk_42 (dk_at dksX6_named_2 14 rfl rfl)
theorem dX6_named_61 : decode cX6_named 61 = .ok (.getfield 17, 3) := dk_180 0 17 (dk_at dksX6_named_2 15 rfl rfl)
theorem dX6_named_64 : decode cX6_named 64 = .ok (.iload_n 1, 1) := dk_27 (dk_at dksX6_named_2 18 rfl rfl)
theorem dX6_named_65 : decode cX6_named 65 = .ok (.iaload, 1) := dk_46 (dk_at dksX6_named_2 19 rfl rfl)
theorem dX6_named_66 : decode cX6_named 66 = .ok (.ireturn, 1) := dk_172 (dk_at dksX6_named_2 20 rfl rfl)
abbrev cX6_ranged : ByteArray := prog_18_method_20_code
def yX6_ranged : MethodName := ⟨RX6, "ranged", "(IZ)V"⟩
def dkwX6_ranged_7 : List UInt8 := [182, 0, 170, 87, 177]
abbrev dktX6_ranged_7 : List UInt8 := dkwX6_ranged_7 ++ []
def dkwX6_ranged_6 : List UInt8 := [163, 0, 7, 29, 154, 0, 16, 42, 7, 42, 180, 0, 146, 182, 0, 156, 87, 167, 0, 10, 42, 16, 41]
abbrev dktX6_ranged_6 : List UInt8 := dkwX6_ranged_6 ++ dktX6_ranged_7
def dkwX6_ranged_5 : List UInt8 := [62, 42, 182, 0, 152, 16, 41, 160, 0, 35, 42, 180, 0, 23, 27, 46, 42, 180, 0, 26, 27, 46]
abbrev dktX6_ranged_5 : List UInt8 := dkwX6_ranged_5 ++ dktX6_ranged_6
def dkwX6_ranged_4 : List UInt8 := [180, 0, 23, 27, 46, 155, 0, 18, 42, 180, 0, 26, 27, 46, 16, 20, 163, 0, 7, 4, 167, 0, 4, 3]
abbrev dktX6_ranged_4 : List UInt8 := dkwX6_ranged_4 ++ dktX6_ranged_5
def dkwX6_ranged_3 : List UInt8 := [27, 46, 42, 180, 0, 23, 27, 46, 100, 18, 210, 162, 0, 7, 4, 167, 0, 32, 3, 167, 0, 28, 42]
abbrev dktX6_ranged_3 : List UInt8 := dkwX6_ranged_3 ++ dktX6_ranged_4
def dkwX6_ranged_2 : List UInt8 := [180, 0, 26, 27, 42, 180, 0, 203, 79, 42, 180, 0, 41, 27, 4, 84, 28, 153, 0, 29, 42, 180, 0, 26]
abbrev dktX6_ranged_2 : List UInt8 := dkwX6_ranged_2 ++ dktX6_ranged_3
def dkwX6_ranged_1 : List UInt8 := [180, 0, 203, 79, 42, 16, 44, 182, 0, 170, 153, 0, 10, 42, 182, 0, 206, 154, 0, 4, 177, 42]
abbrev dktX6_ranged_1 : List UInt8 := dkwX6_ranged_1 ++ dktX6_ranged_2
def dkwX6_ranged_0 : List UInt8 := [42, 89, 180, 0, 146, 4, 96, 181, 0, 146, 42, 182, 0, 206, 154, 0, 4, 177, 42, 180, 0, 23, 27, 42]
abbrev dktX6_ranged_0 : List UInt8 := dkwX6_ranged_0 ++ dktX6_ranged_1
theorem dksX6_ranged_0 : cX6_ranged.data.toList.drop 0 = dktX6_ranged_0 := by decide +kernel
theorem dksX6_ranged_1 : cX6_ranged.data.toList.drop 24 = dktX6_ranged_1 := dk_seg dksX6_ranged_0 24 rfl rfl
theorem dksX6_ranged_2 : cX6_ranged.data.toList.drop 46 = dktX6_ranged_2 := dk_seg dksX6_ranged_1 22 rfl rfl
theorem dksX6_ranged_3 : cX6_ranged.data.toList.drop 70 = dktX6_ranged_3 := dk_seg dksX6_ranged_2 24 rfl rfl
theorem dksX6_ranged_4 : cX6_ranged.data.toList.drop 93 = dktX6_ranged_4 := dk_seg dksX6_ranged_3 23 rfl rfl
theorem dksX6_ranged_5 : cX6_ranged.data.toList.drop 117 = dktX6_ranged_5 := dk_seg dksX6_ranged_4 24 rfl rfl
theorem dksX6_ranged_6 : cX6_ranged.data.toList.drop 139 = dktX6_ranged_6 := dk_seg dksX6_ranged_5 22 rfl rfl
theorem dksX6_ranged_7 : cX6_ranged.data.toList.drop 162 = dktX6_ranged_7 := dk_seg dksX6_ranged_6 23 rfl rfl
theorem dX6_ranged_0 : decode cX6_ranged 0 = .ok (.aload_n 0, 1) := dk_42 (dk_at dksX6_ranged_0 0 rfl rfl)
theorem dX6_ranged_1 : decode cX6_ranged 1 = .ok (.dup, 1) := dk_89 (dk_at dksX6_ranged_0 1 rfl rfl)
theorem dX6_ranged_2 : decode cX6_ranged 2 = .ok (.getfield 146, 3) := dk_180 0 146 (dk_at dksX6_ranged_0 2 rfl rfl)
theorem dX6_ranged_5 : decode cX6_ranged 5 = .ok (.iconst 1, 1) := dk_4 (dk_at dksX6_ranged_0 5 rfl rfl)
theorem dX6_ranged_6 : decode cX6_ranged 6 = .ok (.iadd, 1) := dk_96 (dk_at dksX6_ranged_0 6 rfl rfl)
theorem dX6_ranged_7 : decode cX6_ranged 7 = .ok (.putfield 146, 3) := dk_181 0 146 (dk_at dksX6_ranged_0 7 rfl rfl)
theorem dX6_ranged_10 : decode cX6_ranged 10 = .ok (.aload_n 0, 1) := dk_42 (dk_at dksX6_ranged_0 10 rfl rfl)
theorem dX6_ranged_11 : decode cX6_ranged 11 = .ok (.invokevirtual 206, 3) := dk_182 0 206 (dk_at dksX6_ranged_0 11 rfl rfl)
theorem dX6_ranged_14 : decode cX6_ranged 14 = .ok (.ifCond .ne 4, 3) := dk_154 0 4 (dk_at dksX6_ranged_0 14 rfl rfl)
theorem dX6_ranged_17 : decode cX6_ranged 17 = .ok (.return_, 1) := dk_177 (dk_at dksX6_ranged_0 17 rfl rfl)
theorem dX6_ranged_18 : decode cX6_ranged 18 = .ok (.aload_n 0, 1) := dk_42 (dk_at dksX6_ranged_0 18 rfl rfl)
theorem dX6_ranged_19 : decode cX6_ranged 19 = .ok (.getfield 23, 3) := dk_180 0 23 (dk_at dksX6_ranged_0 19 rfl rfl)
theorem dX6_ranged_22 : decode cX6_ranged 22 = .ok (.iload_n 1, 1) := dk_27 (dk_at dksX6_ranged_0 22 rfl rfl)
theorem dX6_ranged_23 : decode cX6_ranged 23 = .ok (.aload_n 0, 1) := dk_42 (dk_at dksX6_ranged_0 23 rfl rfl)
theorem dX6_ranged_24 : decode cX6_ranged 24 = .ok (.getfield 203, 3) := dk_180 0 203 (dk_at dksX6_ranged_1 0 rfl rfl)
theorem dX6_ranged_27 : decode cX6_ranged 27 = .ok (.iastore, 1) := dk_79 (dk_at dksX6_ranged_1 3 rfl rfl)
theorem dX6_ranged_28 : decode cX6_ranged 28 = .ok (.aload_n 0, 1) := dk_42 (dk_at dksX6_ranged_1 4 rfl rfl)
theorem dX6_ranged_29 : decode cX6_ranged 29 = .ok (.bipush 44, 2) := dk_16 44 (dk_at dksX6_ranged_1 5 rfl rfl)
theorem dX6_ranged_31 : decode cX6_ranged 31 = .ok (.invokevirtual 170, 3) := dk_182 0 170 (dk_at dksX6_ranged_1 7 rfl rfl)
theorem dX6_ranged_34 : decode cX6_ranged 34 = .ok (.ifCond .eq 10, 3) := dk_153 0 10 (dk_at dksX6_ranged_1 10 rfl rfl)
theorem dX6_ranged_37 : decode cX6_ranged 37 = .ok (.aload_n 0, 1) := dk_42 (dk_at dksX6_ranged_1 13 rfl rfl)
theorem dX6_ranged_38 : decode cX6_ranged 38 = .ok (.invokevirtual 206, 3) := dk_182 0 206 (dk_at dksX6_ranged_1 14 rfl rfl)
theorem dX6_ranged_41 : decode cX6_ranged 41 = .ok (.ifCond .ne 4, 3) := dk_154 0 4 (dk_at dksX6_ranged_1 17 rfl rfl)
theorem dX6_ranged_44 : decode cX6_ranged 44 = .ok (.return_, 1) := dk_177 (dk_at dksX6_ranged_1 20 rfl rfl)
theorem dX6_ranged_45 : decode cX6_ranged 45 = .ok (.aload_n 0, 1) := dk_42 (dk_at dksX6_ranged_1 21 rfl rfl)
theorem dX6_ranged_46 : decode cX6_ranged 46 = .ok (.getfield 26, 3) := dk_180 0 26 (dk_at dksX6_ranged_2 0 rfl rfl)
theorem dX6_ranged_49 : decode cX6_ranged 49 = .ok (.iload_n 1, 1) := dk_27 (dk_at dksX6_ranged_2 3 rfl rfl)
theorem dX6_ranged_50 : decode cX6_ranged 50 = .ok (.aload_n 0, 1) := dk_42 (dk_at dksX6_ranged_2 4 rfl rfl)
theorem dX6_ranged_51 : decode cX6_ranged 51 = .ok (.getfield 203, 3) := dk_180 0 203 (dk_at dksX6_ranged_2 5 rfl rfl)
theorem dX6_ranged_54 : decode cX6_ranged 54 = .ok (.iastore, 1) := dk_79 (dk_at dksX6_ranged_2 8 rfl rfl)
theorem dX6_ranged_55 : decode cX6_ranged 55 = .ok (.aload_n 0, 1) := dk_42 (dk_at dksX6_ranged_2 9 rfl rfl)
theorem dX6_ranged_56 : decode cX6_ranged 56 = .ok (.getfield 41, 3) := dk_180 0 41 (dk_at dksX6_ranged_2 10 rfl rfl)
theorem dX6_ranged_59 : decode cX6_ranged 59 = .ok (.iload_n 1, 1) := dk_27 (dk_at dksX6_ranged_2 13 rfl rfl)
theorem dX6_ranged_60 : decode cX6_ranged 60 = .ok (.iconst 1, 1) := dk_4 (dk_at dksX6_ranged_2 14 rfl rfl)
theorem dX6_ranged_61 : decode cX6_ranged 61 = .ok (.bastore, 1) := dk_84 (dk_at dksX6_ranged_2 15 rfl rfl)
theorem dX6_ranged_62 : decode cX6_ranged 62 = .ok (.iload_n 2, 1) := dk_28 (dk_at dksX6_ranged_2 16 rfl rfl)
theorem dX6_ranged_63 : decode cX6_ranged 63 = .ok (.ifCond .eq 29, 3) := dk_153 0 29 (dk_at dksX6_ranged_2 17 rfl rfl)
theorem dX6_ranged_66 : decode cX6_ranged 66 = .ok (.aload_n 0, 1) := dk_42 (dk_at dksX6_ranged_2 20 rfl rfl)
theorem dX6_ranged_67 : decode cX6_ranged 67 = .ok (.getfield 26, 3) := dk_180 0 26 (dk_at dksX6_ranged_2 21 rfl rfl)
theorem dX6_ranged_70 : decode cX6_ranged 70 = .ok (.iload_n 1, 1) := dk_27 (dk_at dksX6_ranged_3 0 rfl rfl)
theorem dX6_ranged_71 : decode cX6_ranged 71 = .ok (.iaload, 1) := dk_46 (dk_at dksX6_ranged_3 1 rfl rfl)
theorem dX6_ranged_72 : decode cX6_ranged 72 = .ok (.aload_n 0, 1) := dk_42 (dk_at dksX6_ranged_3 2 rfl rfl)
theorem dX6_ranged_73 : decode cX6_ranged 73 = .ok (.getfield 23, 3) := dk_180 0 23 (dk_at dksX6_ranged_3 3 rfl rfl)
theorem dX6_ranged_76 : decode cX6_ranged 76 = .ok (.iload_n 1, 1) := dk_27 (dk_at dksX6_ranged_3 6 rfl rfl)
theorem dX6_ranged_77 : decode cX6_ranged 77 = .ok (.iaload, 1) := dk_46 (dk_at dksX6_ranged_3 7 rfl rfl)
theorem dX6_ranged_78 : decode cX6_ranged 78 = .ok (.isub, 1) := dk_100 (dk_at dksX6_ranged_3 8 rfl rfl)
theorem dX6_ranged_79 : decode cX6_ranged 79 = .ok (.ldc 210, 2) := dk_18 210 (dk_at dksX6_ranged_3 9 rfl rfl)
theorem dX6_ranged_81 : decode cX6_ranged 81 = .ok (.if_icmp .ge 7, 3) := dk_162 0 7 (dk_at dksX6_ranged_3 11 rfl rfl)
theorem dX6_ranged_84 : decode cX6_ranged 84 = .ok (.iconst 1, 1) := dk_4 (dk_at dksX6_ranged_3 14 rfl rfl)
theorem dX6_ranged_85 : decode cX6_ranged 85 = .ok (.goto 32, 3) := dk_167 0 32 (dk_at dksX6_ranged_3 15 rfl rfl)
theorem dX6_ranged_88 : decode cX6_ranged 88 = .ok (.iconst 0, 1) := dk_3 (dk_at dksX6_ranged_3 18 rfl rfl)
theorem dX6_ranged_89 : decode cX6_ranged 89 = .ok (.goto 28, 3) := dk_167 0 28 (dk_at dksX6_ranged_3 19 rfl rfl)
theorem dX6_ranged_92 : decode cX6_ranged 92 = .ok (.aload_n 0, 1) := dk_42 (dk_at dksX6_ranged_3 22 rfl rfl)
theorem dX6_ranged_93 : decode cX6_ranged 93 = .ok (.getfield 23, 3) := dk_180 0 23 (dk_at dksX6_ranged_4 0 rfl rfl)
theorem dX6_ranged_96 : decode cX6_ranged 96 = .ok (.iload_n 1, 1) := dk_27 (dk_at dksX6_ranged_4 3 rfl rfl)
theorem dX6_ranged_97 : decode cX6_ranged 97 = .ok (.iaload, 1) := dk_46 (dk_at dksX6_ranged_4 4 rfl rfl)
theorem dX6_ranged_98 : decode cX6_ranged 98 = .ok (.ifCond .lt 18, 3) := dk_155 0 18 (dk_at dksX6_ranged_4 5 rfl rfl)
theorem dX6_ranged_101 : decode cX6_ranged 101 = .ok (.aload_n 0, 1) := dk_42 (dk_at dksX6_ranged_4 8 rfl rfl)
theorem dX6_ranged_102 : decode cX6_ranged 102 = .ok (.getfield 26, 3) := dk_180 0 26 (dk_at dksX6_ranged_4 9 rfl rfl)
theorem dX6_ranged_105 : decode cX6_ranged 105 = .ok (.iload_n 1, 1) := dk_27 (dk_at dksX6_ranged_4 12 rfl rfl)
theorem dX6_ranged_106 : decode cX6_ranged 106 = .ok (.iaload, 1) := dk_46 (dk_at dksX6_ranged_4 13 rfl rfl)
theorem dX6_ranged_107 : decode cX6_ranged 107 = .ok (.bipush 20, 2) := dk_16 20 (dk_at dksX6_ranged_4 14 rfl rfl)
theorem dX6_ranged_109 : decode cX6_ranged 109 = .ok (.if_icmp .gt 7, 3) := dk_163 0 7 (dk_at dksX6_ranged_4 16 rfl rfl)
theorem dX6_ranged_112 : decode cX6_ranged 112 = .ok (.iconst 1, 1) := dk_4 (dk_at dksX6_ranged_4 19 rfl rfl)
theorem dX6_ranged_113 : decode cX6_ranged 113 = .ok (.goto 4, 3) := dk_167 0 4 (dk_at dksX6_ranged_4 20 rfl rfl)
theorem dX6_ranged_116 : decode cX6_ranged 116 = .ok (.iconst 0, 1) := dk_3 (dk_at dksX6_ranged_4 23 rfl rfl)
theorem dX6_ranged_117 : decode cX6_ranged 117 = .ok (.istore_n 3, 1) := dk_62 (dk_at dksX6_ranged_5 0 rfl rfl)
theorem dX6_ranged_118 : decode cX6_ranged 118 = .ok (.aload_n 0, 1) := dk_42 (dk_at dksX6_ranged_5 1 rfl rfl)
theorem dX6_ranged_119 : decode cX6_ranged 119 = .ok (.invokevirtual 152, 3) := dk_182 0 152 (dk_at dksX6_ranged_5 2 rfl rfl)
theorem dX6_ranged_122 : decode cX6_ranged 122 = .ok (.bipush 41, 2) := dk_16 41 (dk_at dksX6_ranged_5 5 rfl rfl)
theorem dX6_ranged_124 : decode cX6_ranged 124 = .ok (.if_icmp .ne 35, 3) := dk_160 0 35 (dk_at dksX6_ranged_5 7 rfl rfl)
theorem dX6_ranged_127 : decode cX6_ranged 127 = .ok (.aload_n 0, 1) := dk_42 (dk_at dksX6_ranged_5 10 rfl rfl)
theorem dX6_ranged_128 : decode cX6_ranged 128 = .ok (.getfield 23, 3) := dk_180 0 23 (dk_at dksX6_ranged_5 11 rfl rfl)
theorem dX6_ranged_131 : decode cX6_ranged 131 = .ok (.iload_n 1, 1) := dk_27 (dk_at dksX6_ranged_5 14 rfl rfl)
theorem dX6_ranged_132 : decode cX6_ranged 132 = .ok (.iaload, 1) := dk_46 (dk_at dksX6_ranged_5 15 rfl rfl)
theorem dX6_ranged_133 : decode cX6_ranged 133 = .ok (.aload_n 0, 1) := dk_42 (dk_at dksX6_ranged_5 16 rfl rfl)
theorem dX6_ranged_134 : decode cX6_ranged 134 = .ok (.getfield 26, 3) := dk_180 0 26 (dk_at dksX6_ranged_5 17 rfl rfl)
theorem dX6_ranged_137 : decode cX6_ranged 137 = .ok (.iload_n 1, 1) := dk_27 (dk_at dksX6_ranged_5 20 rfl rfl)
theorem dX6_ranged_138 : decode cX6_ranged 138 = .ok (.iaload, 1) := dk_46 (dk_at dksX6_ranged_5 21 rfl rfl)
theorem dX6_ranged_139 : decode cX6_ranged 139 = .ok (.if_icmp .gt 7, 3) := dk_163 0 7 (dk_at dksX6_ranged_6 0 rfl rfl)
theorem dX6_ranged_142 : decode cX6_ranged 142 = .ok (.iload_n 3, 1) := dk_29 (dk_at dksX6_ranged_6 3 rfl rfl)
theorem dX6_ranged_143 : decode cX6_ranged 143 = .ok (.ifCond .ne 16, 3) := dk_154 0 16 (dk_at dksX6_ranged_6 4 rfl rfl)
theorem dX6_ranged_146 : decode cX6_ranged 146 = .ok (.aload_n 0, 1) := dk_42 (dk_at dksX6_ranged_6 7 rfl rfl)
theorem dX6_ranged_147 : decode cX6_ranged 147 = .ok (.iconst 4, 1) := dk_7 (dk_at dksX6_ranged_6 8 rfl rfl)
theorem dX6_ranged_148 : decode cX6_ranged 148 = .ok (.aload_n 0, 1) := dk_42 (dk_at dksX6_ranged_6 9 rfl rfl)
theorem dX6_ranged_149 : decode cX6_ranged 149 = .ok (.getfield 146, 3) := dk_180 0 146 (dk_at dksX6_ranged_6 10 rfl rfl)
theorem dX6_ranged_152 : decode cX6_ranged 152 = .ok (.invokevirtual 156, 3) := dk_182 0 156 (dk_at dksX6_ranged_6 13 rfl rfl)
theorem dX6_ranged_155 : decode cX6_ranged 155 = .ok (.pop, 1) := dk_87 (dk_at dksX6_ranged_6 16 rfl rfl)
theorem dX6_ranged_156 : decode cX6_ranged 156 = .ok (.goto 10, 3) := dk_167 0 10 (dk_at dksX6_ranged_6 17 rfl rfl)
theorem dX6_ranged_159 : decode cX6_ranged 159 = .ok (.aload_n 0, 1) := dk_42 (dk_at dksX6_ranged_6 20 rfl rfl)
theorem dX6_ranged_160 : decode cX6_ranged 160 = .ok (.bipush 41, 2) := dk_16 41 (dk_at dksX6_ranged_6 21 rfl rfl)
theorem dX6_ranged_162 : decode cX6_ranged 162 = .ok (.invokevirtual 170, 3) := dk_182 0 170 (dk_at dksX6_ranged_7 0 rfl rfl)
theorem dX6_ranged_165 : decode cX6_ranged 165 = .ok (.pop, 1) := dk_87 (dk_at dksX6_ranged_7 3 rfl rfl)
theorem dX6_ranged_166 : decode cX6_ranged 166 = .ok (.return_, 1) := dk_177 (dk_at dksX6_ranged_7 4 rfl rfl)
abbrev cX6_numeral : ByteArray := prog_18_method_19_code
def yX6_numeral : MethodName := ⟨RX6, "numeral", "()Z"⟩
def dkwX6_numeral_6 : List UInt8 := [116, 167, 0, 4, 28, 181, 0, 203, 42, 180, 0, 149, 154, 0, 7, 4, 167, 0, 4, 3, 172]
abbrev dktX6_numeral_6 : List UInt8 := dkwX6_numeral_6 ++ []
def dkwX6_numeral_5 : List UInt8 := [16, 57, 184, 0, 166, 153, 0, 13, 42, 4, 42, 180, 0, 146, 182, 0, 156, 87, 42, 27, 153, 0, 8, 28]
abbrev dktX6_numeral_5 : List UInt8 := dkwX6_numeral_5 ++ dktX6_numeral_6
def dkwX6_numeral_4 : List UInt8 := [96, 16, 48, 100, 61, 42, 89, 180, 0, 146, 4, 96, 181, 0, 146, 167, 255, 211, 42, 182, 0, 152, 16, 48]
abbrev dktX6_numeral_4 : List UInt8 := dkwX6_numeral_4 ++ dktX6_numeral_5
def dkwX6_numeral_3 : List UInt8 := [16, 57, 184, 0, 166, 153, 0, 37, 42, 180, 0, 146, 29, 162, 0, 29, 16, 10, 28, 104, 42, 182, 0, 152]
abbrev dktX6_numeral_3 : List UInt8 := dkwX6_numeral_3 ++ dktX6_numeral_4
def dkwX6_numeral_2 : List UInt8 := [4, 42, 180, 0, 146, 182, 0, 156, 87, 3, 61, 42, 180, 0, 146, 8, 96, 62, 42, 182, 0, 152, 16, 48]
abbrev dktX6_numeral_2 : List UInt8 := dkwX6_numeral_2 ++ dktX6_numeral_3
def dkwX6_numeral_1 : List UInt8 := [4, 167, 0, 4, 3, 96, 181, 0, 146, 42, 182, 0, 152, 16, 48, 16, 57, 184, 0, 166, 154, 0, 13, 42]
abbrev dktX6_numeral_1 : List UInt8 := dkwX6_numeral_1 ++ dktX6_numeral_2
def dkwX6_numeral_0 : List UInt8 := [42, 182, 0, 152, 16, 45, 160, 0, 7, 4, 167, 0, 4, 3, 60, 42, 89, 180, 0, 146, 27, 153, 0, 7]
abbrev dktX6_numeral_0 : List UInt8 := dkwX6_numeral_0 ++ dktX6_numeral_1
theorem dksX6_numeral_0 : cX6_numeral.data.toList.drop 0 = dktX6_numeral_0 := by decide +kernel
theorem dksX6_numeral_1 : cX6_numeral.data.toList.drop 24 = dktX6_numeral_1 := dk_seg dksX6_numeral_0 24 rfl rfl
theorem dksX6_numeral_2 : cX6_numeral.data.toList.drop 48 = dktX6_numeral_2 := dk_seg dksX6_numeral_1 24 rfl rfl
theorem dksX6_numeral_3 : cX6_numeral.data.toList.drop 72 = dktX6_numeral_3 := dk_seg dksX6_numeral_2 24 rfl rfl
theorem dksX6_numeral_4 : cX6_numeral.data.toList.drop 96 = dktX6_numeral_4 := dk_seg dksX6_numeral_3 24 rfl rfl
theorem dksX6_numeral_5 : cX6_numeral.data.toList.drop 120 = dktX6_numeral_5 := dk_seg dksX6_numeral_4 24 rfl rfl
theorem dksX6_numeral_6 : cX6_numeral.data.toList.drop 144 = dktX6_numeral_6 := dk_seg dksX6_numeral_5 24 rfl rfl
theorem dX6_numeral_0 : decode cX6_numeral 0 = .ok (.aload_n 0, 1) := dk_42 (dk_at dksX6_numeral_0 0 rfl rfl)
theorem dX6_numeral_1 : decode cX6_numeral 1 = .ok (.invokevirtual 152, 3) := dk_182 0 152 (dk_at dksX6_numeral_0 1 rfl rfl)
theorem dX6_numeral_4 : decode cX6_numeral 4 = .ok (.bipush 45, 2) := dk_16 45 (dk_at dksX6_numeral_0 4 rfl rfl)
theorem dX6_numeral_6 : decode cX6_numeral 6 = .ok (.if_icmp .ne 7, 3) := dk_160 0 7 (dk_at dksX6_numeral_0 6 rfl rfl)
theorem dX6_numeral_9 : decode cX6_numeral 9 = .ok (.iconst 1, 1) := dk_4 (dk_at dksX6_numeral_0 9 rfl rfl)
theorem dX6_numeral_10 : decode cX6_numeral 10 = .ok (.goto 4, 3) := dk_167 0 4 (dk_at dksX6_numeral_0 10 rfl rfl)
theorem dX6_numeral_13 : decode cX6_numeral 13 = .ok (.iconst 0, 1) := dk_3 (dk_at dksX6_numeral_0 13 rfl rfl)
theorem dX6_numeral_14 : decode cX6_numeral 14 = .ok (.istore_n 1, 1) := dk_60 (dk_at dksX6_numeral_0 14 rfl rfl)
theorem dX6_numeral_15 : decode cX6_numeral 15 = .ok (.aload_n 0, 1) := dk_42 (dk_at dksX6_numeral_0 15 rfl rfl)
theorem dX6_numeral_16 : decode cX6_numeral 16 = .ok (.dup, 1) := dk_89 (dk_at dksX6_numeral_0 16 rfl rfl)
theorem dX6_numeral_17 : decode cX6_numeral 17 = .ok (.getfield 146, 3) := dk_180 0 146 (dk_at dksX6_numeral_0 17 rfl rfl)
theorem dX6_numeral_20 : decode cX6_numeral 20 = .ok (.iload_n 1, 1) := dk_27 (dk_at dksX6_numeral_0 20 rfl rfl)
theorem dX6_numeral_21 : decode cX6_numeral 21 = .ok (.ifCond .eq 7, 3) := dk_153 0 7 (dk_at dksX6_numeral_0 21 rfl rfl)
theorem dX6_numeral_24 : decode cX6_numeral 24 = .ok (.iconst 1, 1) := dk_4 (dk_at dksX6_numeral_1 0 rfl rfl)
theorem dX6_numeral_25 : decode cX6_numeral 25 = .ok (.goto 4, 3) := dk_167 0 4 (dk_at dksX6_numeral_1 1 rfl rfl)
theorem dX6_numeral_28 : decode cX6_numeral 28 = .ok (.iconst 0, 1) := dk_3 (dk_at dksX6_numeral_1 4 rfl rfl)
theorem dX6_numeral_29 : decode cX6_numeral 29 = .ok (.iadd, 1) := dk_96 (dk_at dksX6_numeral_1 5 rfl rfl)
theorem dX6_numeral_30 : decode cX6_numeral 30 = .ok (.putfield 146, 3) := dk_181 0 146 (dk_at dksX6_numeral_1 6 rfl rfl)
theorem dX6_numeral_33 : decode cX6_numeral 33 = .ok (.aload_n 0, 1) := dk_42 (dk_at dksX6_numeral_1 9 rfl rfl)
theorem dX6_numeral_34 : decode cX6_numeral 34 = .ok (.invokevirtual 152, 3) := dk_182 0 152 (dk_at dksX6_numeral_1 10 rfl rfl)
theorem dX6_numeral_37 : decode cX6_numeral 37 = .ok (.bipush 48, 2) := dk_16 48 (dk_at dksX6_numeral_1 13 rfl rfl)
theorem dX6_numeral_39 : decode cX6_numeral 39 = .ok (.bipush 57, 2) := dk_16 57 (dk_at dksX6_numeral_1 15 rfl rfl)
theorem dX6_numeral_41 : decode cX6_numeral 41 = .ok (.invokestatic 166, 3) := dk_184 0 166 (dk_at dksX6_numeral_1 17 rfl rfl)
theorem dX6_numeral_44 : decode cX6_numeral 44 = .ok (.ifCond .ne 13, 3) := dk_154 0 13 (dk_at dksX6_numeral_1 20 rfl rfl)
theorem dX6_numeral_47 : decode cX6_numeral 47 = .ok (.aload_n 0, 1) := dk_42 (dk_at dksX6_numeral_1 23 rfl rfl)
theorem dX6_numeral_48 : decode cX6_numeral 48 = .ok (.iconst 1, 1) := dk_4 (dk_at dksX6_numeral_2 0 rfl rfl)
theorem dX6_numeral_49 : decode cX6_numeral 49 = .ok (.aload_n 0, 1) := dk_42 (dk_at dksX6_numeral_2 1 rfl rfl)
theorem dX6_numeral_50 : decode cX6_numeral 50 = .ok (.getfield 146, 3) := dk_180 0 146 (dk_at dksX6_numeral_2 2 rfl rfl)
theorem dX6_numeral_53 : decode cX6_numeral 53 = .ok (.invokevirtual 156, 3) := dk_182 0 156 (dk_at dksX6_numeral_2 5 rfl rfl)
theorem dX6_numeral_56 : decode cX6_numeral 56 = .ok (.pop, 1) := dk_87 (dk_at dksX6_numeral_2 8 rfl rfl)
theorem dX6_numeral_57 : decode cX6_numeral 57 = .ok (.iconst 0, 1) := dk_3 (dk_at dksX6_numeral_2 9 rfl rfl)
theorem dX6_numeral_58 : decode cX6_numeral 58 = .ok (.istore_n 2, 1) := dk_61 (dk_at dksX6_numeral_2 10 rfl rfl)
theorem dX6_numeral_59 : decode cX6_numeral 59 = .ok (.aload_n 0, 1) := dk_42 (dk_at dksX6_numeral_2 11 rfl rfl)
theorem dX6_numeral_60 : decode cX6_numeral 60 = .ok (.getfield 146, 3) := dk_180 0 146 (dk_at dksX6_numeral_2 12 rfl rfl)
theorem dX6_numeral_63 : decode cX6_numeral 63 = .ok (.iconst 5, 1) := dk_8 (dk_at dksX6_numeral_2 15 rfl rfl)
theorem dX6_numeral_64 : decode cX6_numeral 64 = .ok (.iadd, 1) := dk_96 (dk_at dksX6_numeral_2 16 rfl rfl)
theorem dX6_numeral_65 : decode cX6_numeral 65 = .ok (.istore_n 3, 1) := dk_62 (dk_at dksX6_numeral_2 17 rfl rfl)
theorem dX6_numeral_66 : decode cX6_numeral 66 = .ok (.aload_n 0, 1) := dk_42 (dk_at dksX6_numeral_2 18 rfl rfl)
theorem dX6_numeral_67 : decode cX6_numeral 67 = .ok (.invokevirtual 152, 3) := dk_182 0 152 (dk_at dksX6_numeral_2 19 rfl rfl)
theorem dX6_numeral_70 : decode cX6_numeral 70 = .ok (.bipush 48, 2) := dk_16 48 (dk_at dksX6_numeral_2 22 rfl rfl)
theorem dX6_numeral_72 : decode cX6_numeral 72 = .ok (.bipush 57, 2) := dk_16 57 (dk_at dksX6_numeral_3 0 rfl rfl)
theorem dX6_numeral_74 : decode cX6_numeral 74 = .ok (.invokestatic 166, 3) := dk_184 0 166 (dk_at dksX6_numeral_3 2 rfl rfl)
theorem dX6_numeral_77 : decode cX6_numeral 77 = .ok (.ifCond .eq 37, 3) := dk_153 0 37 (dk_at dksX6_numeral_3 5 rfl rfl)
theorem dX6_numeral_80 : decode cX6_numeral 80 = .ok (.aload_n 0, 1) := dk_42 (dk_at dksX6_numeral_3 8 rfl rfl)
theorem dX6_numeral_81 : decode cX6_numeral 81 = .ok (.getfield 146, 3) := dk_180 0 146 (dk_at dksX6_numeral_3 9 rfl rfl)
theorem dX6_numeral_84 : decode cX6_numeral 84 = .ok (.iload_n 3, 1) := dk_29 (dk_at dksX6_numeral_3 12 rfl rfl)
theorem dX6_numeral_85 : decode cX6_numeral 85 = .ok (.if_icmp .ge 29, 3) := dk_162 0 29 (dk_at dksX6_numeral_3 13 rfl rfl)
theorem dX6_numeral_88 : decode cX6_numeral 88 = .ok (.bipush 10, 2) := dk_16 10 (dk_at dksX6_numeral_3 16 rfl rfl)
theorem dX6_numeral_90 : decode cX6_numeral 90 = .ok (.iload_n 2, 1) := dk_28 (dk_at dksX6_numeral_3 18 rfl rfl)
theorem dX6_numeral_91 : decode cX6_numeral 91 = .ok (.imul, 1) := dk_104 (dk_at dksX6_numeral_3 19 rfl rfl)
theorem dX6_numeral_92 : decode cX6_numeral 92 = .ok (.aload_n 0, 1) := dk_42 (dk_at dksX6_numeral_3 20 rfl rfl)
theorem dX6_numeral_93 : decode cX6_numeral 93 = .ok (.invokevirtual 152, 3) := dk_182 0 152 (dk_at dksX6_numeral_3 21 rfl rfl)
theorem dX6_numeral_96 : decode cX6_numeral 96 = .ok (.iadd, 1) := dk_96 (dk_at dksX6_numeral_4 0 rfl rfl)
theorem dX6_numeral_97 : decode cX6_numeral 97 = .ok (.bipush 48, 2) := dk_16 48 (dk_at dksX6_numeral_4 1 rfl rfl)
theorem dX6_numeral_99 : decode cX6_numeral 99 = .ok (.isub, 1) := dk_100 (dk_at dksX6_numeral_4 3 rfl rfl)
theorem dX6_numeral_100 : decode cX6_numeral 100 = .ok (.istore_n 2, 1) := dk_61 (dk_at dksX6_numeral_4 4 rfl rfl)
theorem dX6_numeral_101 : decode cX6_numeral 101 = .ok (.aload_n 0, 1) := dk_42 (dk_at dksX6_numeral_4 5 rfl rfl)
theorem dX6_numeral_102 : decode cX6_numeral 102 = .ok (.dup, 1) := dk_89 (dk_at dksX6_numeral_4 6 rfl rfl)
theorem dX6_numeral_103 : decode cX6_numeral 103 = .ok (.getfield 146, 3) := dk_180 0 146 (dk_at dksX6_numeral_4 7 rfl rfl)
theorem dX6_numeral_106 : decode cX6_numeral 106 = .ok (.iconst 1, 1) := dk_4 (dk_at dksX6_numeral_4 10 rfl rfl)
theorem dX6_numeral_107 : decode cX6_numeral 107 = .ok (.iadd, 1) := dk_96 (dk_at dksX6_numeral_4 11 rfl rfl)
theorem dX6_numeral_108 : decode cX6_numeral 108 = .ok (.putfield 146, 3) := dk_181 0 146 (dk_at dksX6_numeral_4 12 rfl rfl)
theorem dX6_numeral_111 : decode cX6_numeral 111 = .ok (.goto (-45), 3) := dk_167 255 211 (dk_at dksX6_numeral_4 15 rfl rfl)
theorem dX6_numeral_114 : decode cX6_numeral 114 = .ok (.aload_n 0, 1) := dk_42 (dk_at dksX6_numeral_4 18 rfl rfl)
theorem dX6_numeral_115 : decode cX6_numeral 115 = .ok (.invokevirtual 152, 3) := dk_182 0 152 (dk_at dksX6_numeral_4 19 rfl rfl)
theorem dX6_numeral_118 : decode cX6_numeral 118 = .ok (.bipush 48, 2) := dk_16 48 (dk_at dksX6_numeral_4 22 rfl rfl)
theorem dX6_numeral_120 : decode cX6_numeral 120 = .ok (.bipush 57, 2) := dk_16 57 (dk_at dksX6_numeral_5 0 rfl rfl)
theorem dX6_numeral_122 : decode cX6_numeral 122 = .ok (.invokestatic 166, 3) := dk_184 0 166 (dk_at dksX6_numeral_5 2 rfl rfl)
theorem dX6_numeral_125 : decode cX6_numeral 125 = .ok (.ifCond .eq 13, 3) := dk_153 0 13 (dk_at dksX6_numeral_5 5 rfl rfl)
theorem dX6_numeral_128 : decode cX6_numeral 128 = .ok (.aload_n 0, 1) := dk_42 (dk_at dksX6_numeral_5 8 rfl rfl)
theorem dX6_numeral_129 : decode cX6_numeral 129 = .ok (.iconst 1, 1) := dk_4 (dk_at dksX6_numeral_5 9 rfl rfl)
theorem dX6_numeral_130 : decode cX6_numeral 130 = .ok (.aload_n 0, 1) := dk_42 (dk_at dksX6_numeral_5 10 rfl rfl)
theorem dX6_numeral_131 : decode cX6_numeral 131 = .ok (.getfield 146, 3) := dk_180 0 146 (dk_at dksX6_numeral_5 11 rfl rfl)
theorem dX6_numeral_134 : decode cX6_numeral 134 = .ok (.invokevirtual 156, 3) := dk_182 0 156 (dk_at dksX6_numeral_5 14 rfl rfl)
theorem dX6_numeral_137 : decode cX6_numeral 137 = .ok (.pop, 1) := dk_87 (dk_at dksX6_numeral_5 17 rfl rfl)
theorem dX6_numeral_138 : decode cX6_numeral 138 = .ok (.aload_n 0, 1) := dk_42 (dk_at dksX6_numeral_5 18 rfl rfl)
theorem dX6_numeral_139 : decode cX6_numeral 139 = .ok (.iload_n 1, 1) := dk_27 (dk_at dksX6_numeral_5 19 rfl rfl)
theorem dX6_numeral_140 : decode cX6_numeral 140 = .ok (.ifCond .eq 8, 3) := dk_153 0 8 (dk_at dksX6_numeral_5 20 rfl rfl)
theorem dX6_numeral_143 : decode cX6_numeral 143 = .ok (.iload_n 2, 1) := dk_28 (dk_at dksX6_numeral_5 23 rfl rfl)
theorem dX6_numeral_144 : decode cX6_numeral 144 = .ok (.ineg, 1) := dk_116 (dk_at dksX6_numeral_6 0 rfl rfl)
theorem dX6_numeral_145 : decode cX6_numeral 145 = .ok (.goto 4, 3) := dk_167 0 4 (dk_at dksX6_numeral_6 1 rfl rfl)
theorem dX6_numeral_148 : decode cX6_numeral 148 = .ok (.iload_n 2, 1) := dk_28 (dk_at dksX6_numeral_6 4 rfl rfl)
theorem dX6_numeral_149 : decode cX6_numeral 149 = .ok (.putfield 203, 3) := dk_181 0 203 (dk_at dksX6_numeral_6 5 rfl rfl)
theorem dX6_numeral_152 : decode cX6_numeral 152 = .ok (.aload_n 0, 1) := dk_42 (dk_at dksX6_numeral_6 8 rfl rfl)
theorem dX6_numeral_153 : decode cX6_numeral 153 = .ok (.getfield 149, 3) := dk_180 0 149 (dk_at dksX6_numeral_6 9 rfl rfl)
theorem dX6_numeral_156 : decode cX6_numeral 156 = .ok (.ifCond .ne 7, 3) := dk_154 0 7 (dk_at dksX6_numeral_6 12 rfl rfl)
theorem dX6_numeral_159 : decode cX6_numeral 159 = .ok (.iconst 1, 1) := dk_4 (dk_at dksX6_numeral_6 15 rfl rfl)
theorem dX6_numeral_160 : decode cX6_numeral 160 = .ok (.goto 4, 3) := dk_167 0 4 (dk_at dksX6_numeral_6 16 rfl rfl)
theorem dX6_numeral_163 : decode cX6_numeral 163 = .ok (.iconst 0, 1) := dk_3 (dk_at dksX6_numeral_6 19 rfl rfl)
theorem dX6_numeral_164 : decode cX6_numeral 164 = .ok (.ireturn, 1) := dk_172 (dk_at dksX6_numeral_6 20 rfl rfl)
abbrev cX6_end : ByteArray := prog_18_method_21_code
def yX6_end : MethodName := ⟨RX6, "end", "(I)I"⟩
def dkwX6_end_10 : List UInt8 := [42, 180, 0, 146, 4, 100, 182, 0, 156, 172, 42, 89, 180, 0, 177, 4, 100, 181, 0, 177, 28, 172]
abbrev dktX6_end_10 : List UInt8 := dkwX6_end_10 ++ []
def dkwX6_end_9 : List UInt8 := [180, 0, 146, 4, 100, 52, 16, 44, 160, 0, 5, 2, 172, 42, 28, 182, 0, 215, 153, 0, 16, 42, 16, 6]
abbrev dktX6_end_9 : List UInt8 := dkwX6_end_9 ++ dktX6_end_10
def dkwX6_end_8 : List UInt8 := [180, 0, 146, 182, 0, 156, 172, 42, 89, 180, 0, 146, 4, 96, 181, 0, 146, 42, 180, 0, 7, 42]
abbrev dktX6_end_8 : List UInt8 := dkwX6_end_8 ++ dktX6_end_9
def dkwX6_end_7 : List UInt8 := [172, 42, 182, 0, 152, 16, 44, 159, 0, 22, 42, 182, 0, 152, 16, 125, 159, 0, 13, 42, 4, 42]
abbrev dktX6_end_7 : List UInt8 := dkwX6_end_7 ++ dktX6_end_8
def dkwX6_end_6 : List UInt8 := [160, 0, 25, 42, 180, 0, 32, 28, 46, 16, 6, 160, 0, 14, 42, 16, 7, 42, 180, 0, 146, 182, 0, 156]
abbrev dktX6_end_6 : List UInt8 := dkwX6_end_6 ++ dktX6_end_7
def dkwX6_end_5 : List UInt8 := [16, 6, 159, 0, 14, 42, 180, 0, 20, 28, 46, 16, 9, 160, 0, 111, 42, 182, 0, 152, 16, 44]
abbrev dktX6_end_5 : List UInt8 := dkwX6_end_5 ++ dktX6_end_6
def dkwX6_end_4 : List UInt8 := [160, 0, 9, 42, 29, 27, 182, 0, 211, 42, 180, 0, 149, 158, 0, 5, 2, 172, 42, 180, 0, 20, 28, 46]
abbrev dktX6_end_4 : List UInt8 := dkwX6_end_4 ++ dktX6_end_5
def dkwX6_end_3 : List UInt8 := [27, 46, 4, 96, 167, 0, 9, 42, 180, 0, 38, 28, 46, 79, 42, 180, 0, 20, 28, 46, 16, 6]
abbrev dktX6_end_3 : List UInt8 := dkwX6_end_3 ++ dktX6_end_4
def dkwX6_end_2 : List UInt8 := [42, 180, 0, 38, 28, 42, 180, 0, 38, 27, 46, 42, 180, 0, 38, 28, 46, 161, 0, 14, 42, 180, 0, 38]
abbrev dktX6_end_2 : List UInt8 := dkwX6_end_2 ++ dktX6_end_3
def dkwX6_end_1 : List UInt8 := [42, 180, 0, 48, 29, 27, 79, 42, 180, 0, 51, 29, 3, 79, 42, 180, 0, 32, 28, 92, 46, 4, 96, 79]
abbrev dktX6_end_1 : List UInt8 := dkwX6_end_1 ++ dktX6_end_2
def dkwX6_end_0 : List UInt8 := [42, 180, 0, 13, 42, 180, 0, 177, 4, 100, 46, 61, 16, 6, 28, 104, 42, 180, 0, 32, 28, 46, 96, 62]
abbrev dktX6_end_0 : List UInt8 := dkwX6_end_0 ++ dktX6_end_1
theorem dksX6_end_0 : cX6_end.data.toList.drop 0 = dktX6_end_0 := by decide +kernel
theorem dksX6_end_1 : cX6_end.data.toList.drop 24 = dktX6_end_1 := dk_seg dksX6_end_0 24 rfl rfl
theorem dksX6_end_2 : cX6_end.data.toList.drop 48 = dktX6_end_2 := dk_seg dksX6_end_1 24 rfl rfl
theorem dksX6_end_3 : cX6_end.data.toList.drop 72 = dktX6_end_3 := dk_seg dksX6_end_2 24 rfl rfl
theorem dksX6_end_4 : cX6_end.data.toList.drop 94 = dktX6_end_4 := dk_seg dksX6_end_3 22 rfl rfl
theorem dksX6_end_5 : cX6_end.data.toList.drop 118 = dktX6_end_5 := dk_seg dksX6_end_4 24 rfl rfl
theorem dksX6_end_6 : cX6_end.data.toList.drop 140 = dktX6_end_6 := dk_seg dksX6_end_5 22 rfl rfl
theorem dksX6_end_7 : cX6_end.data.toList.drop 164 = dktX6_end_7 := dk_seg dksX6_end_6 24 rfl rfl
theorem dksX6_end_8 : cX6_end.data.toList.drop 186 = dktX6_end_8 := dk_seg dksX6_end_7 22 rfl rfl
theorem dksX6_end_9 : cX6_end.data.toList.drop 208 = dktX6_end_9 := dk_seg dksX6_end_8 22 rfl rfl
theorem dksX6_end_10 : cX6_end.data.toList.drop 232 = dktX6_end_10 := dk_seg dksX6_end_9 24 rfl rfl
theorem dX6_end_0 : decode cX6_end 0 = .ok (.aload_n 0, 1) := dk_42 (dk_at dksX6_end_0 0 rfl rfl)
theorem dX6_end_1 : decode cX6_end 1 = .ok (.getfield 13, 3) := dk_180 0 13 (dk_at dksX6_end_0 1 rfl rfl)
theorem dX6_end_4 : decode cX6_end 4 = .ok (.aload_n 0, 1) := dk_42 (dk_at dksX6_end_0 4 rfl rfl)
theorem dX6_end_5 : decode cX6_end 5 = .ok (.getfield 177, 3) := dk_180 0 177 (dk_at dksX6_end_0 5 rfl rfl)
theorem dX6_end_8 : decode cX6_end 8 = .ok (.iconst 1, 1) := dk_4 (dk_at dksX6_end_0 8 rfl rfl)
theorem dX6_end_9 : decode cX6_end 9 = .ok (.isub, 1) := dk_100 (dk_at dksX6_end_0 9 rfl rfl)
theorem dX6_end_10 : decode cX6_end 10 = .ok (.iaload, 1) := dk_46 (dk_at dksX6_end_0 10 rfl rfl)
theorem dX6_end_11 : decode cX6_end 11 = .ok (.istore_n 2, 1) := dk_61 (dk_at dksX6_end_0 11 rfl rfl)
theorem dX6_end_12 : decode cX6_end 12 = .ok (.bipush 6, 2) := dk_16 6 (dk_at dksX6_end_0 12 rfl rfl)
theorem dX6_end_14 : decode cX6_end 14 = .ok (.iload_n 2, 1) := dk_28 (dk_at dksX6_end_0 14 rfl rfl)
theorem dX6_end_15 : decode cX6_end 15 = .ok (.imul, 1) := dk_104 (dk_at dksX6_end_0 15 rfl rfl)
theorem dX6_end_16 : decode cX6_end 16 = .ok (.aload_n 0, 1) := dk_42 (dk_at dksX6_end_0 16 rfl rfl)
theorem dX6_end_17 : decode cX6_end 17 = .ok (.getfield 32, 3) := dk_180 0 32 (dk_at dksX6_end_0 17 rfl rfl)
theorem dX6_end_20 : decode cX6_end 20 = .ok (.iload_n 2, 1) := dk_28 (dk_at dksX6_end_0 20 rfl rfl)
theorem dX6_end_21 : decode cX6_end 21 = .ok (.iaload, 1) := dk_46 (dk_at dksX6_end_0 21 rfl rfl)
theorem dX6_end_22 : decode cX6_end 22 = .ok (.iadd, 1) := dk_96 (dk_at dksX6_end_0 22 rfl rfl)
theorem dX6_end_23 : decode cX6_end 23 = .ok (.istore_n 3, 1) := dk_62 (dk_at dksX6_end_0 23 rfl rfl)
theorem dX6_end_24 : decode cX6_end 24 = .ok (.aload_n 0, 1) := dk_42 (dk_at dksX6_end_1 0 rfl rfl)
theorem dX6_end_25 : decode cX6_end 25 = .ok (.getfield 48, 3) := dk_180 0 48 (dk_at dksX6_end_1 1 rfl rfl)
theorem dX6_end_28 : decode cX6_end 28 = .ok (.iload_n 3, 1) := dk_29 (dk_at dksX6_end_1 4 rfl rfl)
theorem dX6_end_29 : decode cX6_end 29 = .ok (.iload_n 1, 1) := dk_27 (dk_at dksX6_end_1 5 rfl rfl)
theorem dX6_end_30 : decode cX6_end 30 = .ok (.iastore, 1) := dk_79 (dk_at dksX6_end_1 6 rfl rfl)
theorem dX6_end_31 : decode cX6_end 31 = .ok (.aload_n 0, 1) := dk_42 (dk_at dksX6_end_1 7 rfl rfl)
theorem dX6_end_32 : decode cX6_end 32 = .ok (.getfield 51, 3) := dk_180 0 51 (dk_at dksX6_end_1 8 rfl rfl)
theorem dX6_end_35 : decode cX6_end 35 = .ok (.iload_n 3, 1) := dk_29 (dk_at dksX6_end_1 11 rfl rfl)
theorem dX6_end_36 : decode cX6_end 36 = .ok (.iconst 0, 1) := dk_3 (dk_at dksX6_end_1 12 rfl rfl)
theorem dX6_end_37 : decode cX6_end 37 = .ok (.iastore, 1) := dk_79 (dk_at dksX6_end_1 13 rfl rfl)
theorem dX6_end_38 : decode cX6_end 38 = .ok (.aload_n 0, 1) := dk_42 (dk_at dksX6_end_1 14 rfl rfl)
theorem dX6_end_39 : decode cX6_end 39 = .ok (.getfield 32, 3) := dk_180 0 32 (dk_at dksX6_end_1 15 rfl rfl)
theorem dX6_end_42 : decode cX6_end 42 = .ok (.iload_n 2, 1) := dk_28 (dk_at dksX6_end_1 18 rfl rfl)
theorem dX6_end_43 : decode cX6_end 43 = .ok (.dup2, 1) := dk_92 (dk_at dksX6_end_1 19 rfl rfl)
theorem dX6_end_44 : decode cX6_end 44 = .ok (.iaload, 1) := dk_46 (dk_at dksX6_end_1 20 rfl rfl)
theorem dX6_end_45 : decode cX6_end 45 = .ok (.iconst 1, 1) := dk_4 (dk_at dksX6_end_1 21 rfl rfl)
theorem dX6_end_46 : decode cX6_end 46 = .ok (.iadd, 1) := dk_96 (dk_at dksX6_end_1 22 rfl rfl)
theorem dX6_end_47 : decode cX6_end 47 = .ok (.iastore, 1) := dk_79 (dk_at dksX6_end_1 23 rfl rfl)
theorem dX6_end_48 : decode cX6_end 48 = .ok (.aload_n 0, 1) := dk_42 (dk_at dksX6_end_2 0 rfl rfl)
theorem dX6_end_49 : decode cX6_end 49 = .ok (.getfield 38, 3) := dk_180 0 38 (dk_at dksX6_end_2 1 rfl rfl)
theorem dX6_end_52 : decode cX6_end 52 = .ok (.iload_n 2, 1) := dk_28 (dk_at dksX6_end_2 4 rfl rfl)
theorem dX6_end_53 : decode cX6_end 53 = .ok (.aload_n 0, 1) := dk_42 (dk_at dksX6_end_2 5 rfl rfl)
theorem dX6_end_54 : decode cX6_end 54 = .ok (.getfield 38, 3) := dk_180 0 38 (dk_at dksX6_end_2 6 rfl rfl)
theorem dX6_end_57 : decode cX6_end 57 = .ok (.iload_n 1, 1) := dk_27 (dk_at dksX6_end_2 9 rfl rfl)
theorem dX6_end_58 : decode cX6_end 58 = .ok (.iaload, 1) := dk_46 (dk_at dksX6_end_2 10 rfl rfl)
theorem dX6_end_59 : decode cX6_end 59 = .ok (.aload_n 0, 1) := dk_42 (dk_at dksX6_end_2 11 rfl rfl)
theorem dX6_end_60 : decode cX6_end 60 = .ok (.getfield 38, 3) := dk_180 0 38 (dk_at dksX6_end_2 12 rfl rfl)
theorem dX6_end_63 : decode cX6_end 63 = .ok (.iload_n 2, 1) := dk_28 (dk_at dksX6_end_2 15 rfl rfl)
theorem dX6_end_64 : decode cX6_end 64 = .ok (.iaload, 1) := dk_46 (dk_at dksX6_end_2 16 rfl rfl)
theorem dX6_end_65 : decode cX6_end 65 = .ok (.if_icmp .lt 14, 3) := dk_161 0 14 (dk_at dksX6_end_2 17 rfl rfl)
theorem dX6_end_68 : decode cX6_end 68 = .ok (.aload_n 0, 1) := dk_42 (dk_at dksX6_end_2 20 rfl rfl)
theorem dX6_end_69 : decode cX6_end 69 = .ok (.getfield 38, 3) := dk_180 0 38 (dk_at dksX6_end_2 21 rfl rfl)
theorem dX6_end_72 : decode cX6_end 72 = .ok (.iload_n 1, 1) := dk_27 (dk_at dksX6_end_3 0 rfl rfl)
theorem dX6_end_73 : decode cX6_end 73 = .ok (.iaload, 1) := dk_46 (dk_at dksX6_end_3 1 rfl rfl)
theorem dX6_end_74 : decode cX6_end 74 = .ok (.iconst 1, 1) := dk_4 (dk_at dksX6_end_3 2 rfl rfl)
theorem dX6_end_75 : decode cX6_end 75 = .ok (.iadd, 1) := dk_96 (dk_at dksX6_end_3 3 rfl rfl)
theorem dX6_end_76 : decode cX6_end 76 = .ok (.goto 9, 3) := dk_167 0 9 (dk_at dksX6_end_3 4 rfl rfl)
theorem dX6_end_79 : decode cX6_end 79 = .ok (.aload_n 0, 1) := dk_42 (dk_at dksX6_end_3 7 rfl rfl)
theorem dX6_end_80 : decode cX6_end 80 = .ok (.getfield 38, 3) := dk_180 0 38 (dk_at dksX6_end_3 8 rfl rfl)
theorem dX6_end_83 : decode cX6_end 83 = .ok (.iload_n 2, 1) := dk_28 (dk_at dksX6_end_3 11 rfl rfl)
theorem dX6_end_84 : decode cX6_end 84 = .ok (.iaload, 1) := dk_46 (dk_at dksX6_end_3 12 rfl rfl)
theorem dX6_end_85 : decode cX6_end 85 = .ok (.iastore, 1) := dk_79 (dk_at dksX6_end_3 13 rfl rfl)
theorem dX6_end_86 : decode cX6_end 86 = .ok (.aload_n 0, 1) := dk_42 (dk_at dksX6_end_3 14 rfl rfl)
theorem dX6_end_87 : decode cX6_end 87 = .ok (.getfield 20, 3) := dk_180 0 20 (dk_at dksX6_end_3 15 rfl rfl)
theorem dX6_end_90 : decode cX6_end 90 = .ok (.iload_n 2, 1) := dk_28 (dk_at dksX6_end_3 18 rfl rfl)
theorem dX6_end_91 : decode cX6_end 91 = .ok (.iaload, 1) := dk_46 (dk_at dksX6_end_3 19 rfl rfl)
theorem dX6_end_92 : decode cX6_end 92 = .ok (.bipush 6, 2) := dk_16 6 (dk_at dksX6_end_3 20 rfl rfl)
theorem dX6_end_94 : decode cX6_end 94 = .ok (.if_icmp .ne 9, 3) := dk_160 0 9 (dk_at dksX6_end_4 0 rfl rfl)
theorem dX6_end_97 : decode cX6_end 97 = .ok (.aload_n 0, 1) := dk_42 (dk_at dksX6_end_4 3 rfl rfl)
theorem dX6_end_98 : decode cX6_end 98 = .ok (.iload_n 3, 1) := dk_29 (dk_at dksX6_end_4 4 rfl rfl)
theorem dX6_end_99 : decode cX6_end 99 = .ok (.iload_n 1, 1) := dk_27 (dk_at dksX6_end_4 5 rfl rfl)
theorem dX6_end_100 : decode cX6_end 100 = .ok (.invokevirtual 211, 3) := dk_182 0 211 (dk_at dksX6_end_4 6 rfl rfl)
theorem dX6_end_103 : decode cX6_end 103 = .ok (.aload_n 0, 1) := dk_42 (dk_at dksX6_end_4 9 rfl rfl)
theorem dX6_end_104 : decode cX6_end 104 = .ok (.getfield 149, 3) := dk_180 0 149 (dk_at dksX6_end_4 10 rfl rfl)
theorem dX6_end_107 : decode cX6_end 107 = .ok (.ifCond .le 5, 3) := dk_158 0 5 (dk_at dksX6_end_4 13 rfl rfl)
theorem dX6_end_110 : decode cX6_end 110 = .ok (.iconst (-1), 1) := dk_2 (dk_at dksX6_end_4 16 rfl rfl)
theorem dX6_end_111 : decode cX6_end 111 = .ok (.ireturn, 1) := dk_172 (dk_at dksX6_end_4 17 rfl rfl)
theorem dX6_end_112 : decode cX6_end 112 = .ok (.aload_n 0, 1) := dk_42 (dk_at dksX6_end_4 18 rfl rfl)
theorem dX6_end_113 : decode cX6_end 113 = .ok (.getfield 20, 3) := dk_180 0 20 (dk_at dksX6_end_4 19 rfl rfl)
theorem dX6_end_116 : decode cX6_end 116 = .ok (.iload_n 2, 1) := dk_28 (dk_at dksX6_end_4 22 rfl rfl)
theorem dX6_end_117 : decode cX6_end 117 = .ok (.iaload, 1) := dk_46 (dk_at dksX6_end_4 23 rfl rfl)
theorem dX6_end_118 : decode cX6_end 118 = .ok (.bipush 6, 2) := dk_16 6 (dk_at dksX6_end_5 0 rfl rfl)
theorem dX6_end_120 : decode cX6_end 120 = .ok (.if_icmp .eq 14, 3) := dk_159 0 14 (dk_at dksX6_end_5 2 rfl rfl)
theorem dX6_end_123 : decode cX6_end 123 = .ok (.aload_n 0, 1) := dk_42 (dk_at dksX6_end_5 5 rfl rfl)
theorem dX6_end_124 : decode cX6_end 124 = .ok (.getfield 20, 3) := dk_180 0 20 (dk_at dksX6_end_5 6 rfl rfl)
theorem dX6_end_127 : decode cX6_end 127 = .ok (.iload_n 2, 1) := dk_28 (dk_at dksX6_end_5 9 rfl rfl)
theorem dX6_end_128 : decode cX6_end 128 = .ok (.iaload, 1) := dk_46 (dk_at dksX6_end_5 10 rfl rfl)
theorem dX6_end_129 : decode cX6_end 129 = .ok (.bipush 9, 2) := dk_16 9 (dk_at dksX6_end_5 11 rfl rfl)
theorem dX6_end_131 : decode cX6_end 131 = .ok (.if_icmp .ne 111, 3) := dk_160 0 111 (dk_at dksX6_end_5 13 rfl rfl)
theorem dX6_end_134 : decode cX6_end 134 = .ok (.aload_n 0, 1) := dk_42 (dk_at dksX6_end_5 16 rfl rfl)
theorem dX6_end_135 : decode cX6_end 135 = .ok (.invokevirtual 152, 3) := dk_182 0 152 (dk_at dksX6_end_5 17 rfl rfl)
theorem dX6_end_138 : decode cX6_end 138 = .ok (.bipush 44, 2) := dk_16 44 (dk_at dksX6_end_5 20 rfl rfl)
theorem dX6_end_140 : decode cX6_end 140 = .ok (.if_icmp .ne 25, 3) := dk_160 0 25 (dk_at dksX6_end_6 0 rfl rfl)
theorem dX6_end_143 : decode cX6_end 143 = .ok (.aload_n 0, 1) := dk_42 (dk_at dksX6_end_6 3 rfl rfl)
theorem dX6_end_144 : decode cX6_end 144 = .ok (.getfield 32, 3) := dk_180 0 32 (dk_at dksX6_end_6 4 rfl rfl)
theorem dX6_end_147 : decode cX6_end 147 = .ok (.iload_n 2, 1) := dk_28 (dk_at dksX6_end_6 7 rfl rfl)
theorem dX6_end_148 : decode cX6_end 148 = .ok (.iaload, 1) := dk_46 (dk_at dksX6_end_6 8 rfl rfl)
theorem dX6_end_149 : decode cX6_end 149 = .ok (.bipush 6, 2) := dk_16 6 (dk_at dksX6_end_6 9 rfl rfl)
theorem dX6_end_151 : decode cX6_end 151 = .ok (.if_icmp .ne 14, 3) := dk_160 0 14 (dk_at dksX6_end_6 11 rfl rfl)
theorem dX6_end_154 : decode cX6_end 154 = .ok (.aload_n 0, 1) := dk_42 (dk_at dksX6_end_6 14 rfl rfl)
theorem dX6_end_155 : decode cX6_end 155 = .ok (.bipush 7, 2) := dk_16 7 (dk_at dksX6_end_6 15 rfl rfl)
theorem dX6_end_157 : decode cX6_end 157 = .ok (.aload_n 0, 1) := dk_42 (dk_at dksX6_end_6 17 rfl rfl)
theorem dX6_end_158 : decode cX6_end 158 = .ok (.getfield 146, 3) := dk_180 0 146 (dk_at dksX6_end_6 18 rfl rfl)
theorem dX6_end_161 : decode cX6_end 161 = .ok (.invokevirtual 156, 3) := dk_182 0 156 (dk_at dksX6_end_6 21 rfl rfl)
theorem dX6_end_164 : decode cX6_end 164 = .ok (.ireturn, 1) := dk_172 (dk_at dksX6_end_7 0 rfl rfl)
theorem dX6_end_165 : decode cX6_end 165 = .ok (.aload_n 0, 1) := dk_42 (dk_at dksX6_end_7 1 rfl rfl)
theorem dX6_end_166 : decode cX6_end 166 = .ok (.invokevirtual 152, 3) := dk_182 0 152 (dk_at dksX6_end_7 2 rfl rfl)
theorem dX6_end_169 : decode cX6_end 169 = .ok (.bipush 44, 2) := dk_16 44 (dk_at dksX6_end_7 5 rfl rfl)
theorem dX6_end_171 : decode cX6_end 171 = .ok (.if_icmp .eq 22, 3) := dk_159 0 22 (dk_at dksX6_end_7 7 rfl rfl)
theorem dX6_end_174 : decode cX6_end 174 = .ok (.aload_n 0, 1) := dk_42 (dk_at dksX6_end_7 10 rfl rfl)
theorem dX6_end_175 : decode cX6_end 175 = .ok (.invokevirtual 152, 3) := dk_182 0 152 (dk_at dksX6_end_7 11 rfl rfl)
theorem dX6_end_178 : decode cX6_end 178 = .ok (.bipush 125, 2) := dk_16 125 (dk_at dksX6_end_7 14 rfl rfl)
theorem dX6_end_180 : decode cX6_end 180 = .ok (.if_icmp .eq 13, 3) := dk_159 0 13 (dk_at dksX6_end_7 16 rfl rfl)
theorem dX6_end_183 : decode cX6_end 183 = .ok (.aload_n 0, 1) := dk_42 (dk_at dksX6_end_7 19 rfl rfl)
theorem dX6_end_184 : decode cX6_end 184 = .ok (.iconst 1, 1) := dk_4 (dk_at dksX6_end_7 20 rfl rfl)
theorem dX6_end_185 : decode cX6_end 185 = .ok (.aload_n 0, 1) := dk_42 (dk_at dksX6_end_7 21 rfl rfl)
theorem dX6_end_186 : decode cX6_end 186 = .ok (.getfield 146, 3) := dk_180 0 146 (dk_at dksX6_end_8 0 rfl rfl)
theorem dX6_end_189 : decode cX6_end 189 = .ok (.invokevirtual 156, 3) := dk_182 0 156 (dk_at dksX6_end_8 3 rfl rfl)
theorem dX6_end_192 : decode cX6_end 192 = .ok (.ireturn, 1) := dk_172 (dk_at dksX6_end_8 6 rfl rfl)
theorem dX6_end_193 : decode cX6_end 193 = .ok (.aload_n 0, 1) := dk_42 (dk_at dksX6_end_8 7 rfl rfl)
theorem dX6_end_194 : decode cX6_end 194 = .ok (.dup, 1) := dk_89 (dk_at dksX6_end_8 8 rfl rfl)
theorem dX6_end_195 : decode cX6_end 195 = .ok (.getfield 146, 3) := dk_180 0 146 (dk_at dksX6_end_8 9 rfl rfl)
theorem dX6_end_198 : decode cX6_end 198 = .ok (.iconst 1, 1) := dk_4 (dk_at dksX6_end_8 12 rfl rfl)
theorem dX6_end_199 : decode cX6_end 199 = .ok (.iadd, 1) := dk_96 (dk_at dksX6_end_8 13 rfl rfl)
theorem dX6_end_200 : decode cX6_end 200 = .ok (.putfield 146, 3) := dk_181 0 146 (dk_at dksX6_end_8 14 rfl rfl)
theorem dX6_end_203 : decode cX6_end 203 = .ok (.aload_n 0, 1) := dk_42 (dk_at dksX6_end_8 17 rfl rfl)
theorem dX6_end_204 : decode cX6_end 204 = .ok (.getfield 7, 3) := dk_180 0 7 (dk_at dksX6_end_8 18 rfl rfl)
theorem dX6_end_207 : decode cX6_end 207 = .ok (.aload_n 0, 1) := dk_42 (dk_at dksX6_end_8 21 rfl rfl)
theorem dX6_end_208 : decode cX6_end 208 = .ok (.getfield 146, 3) := dk_180 0 146 (dk_at dksX6_end_9 0 rfl rfl)
theorem dX6_end_211 : decode cX6_end 211 = .ok (.iconst 1, 1) := dk_4 (dk_at dksX6_end_9 3 rfl rfl)
theorem dX6_end_212 : decode cX6_end 212 = .ok (.isub, 1) := dk_100 (dk_at dksX6_end_9 4 rfl rfl)
theorem dX6_end_213 : decode cX6_end 213 = .ok (.caload, 1) := dk_52 (dk_at dksX6_end_9 5 rfl rfl)
theorem dX6_end_214 : decode cX6_end 214 = .ok (.bipush 44, 2) := dk_16 44 (dk_at dksX6_end_9 6 rfl rfl)
theorem dX6_end_216 : decode cX6_end 216 = .ok (.if_icmp .ne 5, 3) := dk_160 0 5 (dk_at dksX6_end_9 8 rfl rfl)
theorem dX6_end_219 : decode cX6_end 219 = .ok (.iconst (-1), 1) := dk_2 (dk_at dksX6_end_9 11 rfl rfl)
theorem dX6_end_220 : decode cX6_end 220 = .ok (.ireturn, 1) := dk_172 (dk_at dksX6_end_9 12 rfl rfl)
theorem dX6_end_221 : decode cX6_end 221 = .ok (.aload_n 0, 1) := dk_42 (dk_at dksX6_end_9 13 rfl rfl)
theorem dX6_end_222 : decode cX6_end 222 = .ok (.iload_n 2, 1) := dk_28 (dk_at dksX6_end_9 14 rfl rfl)
theorem dX6_end_223 : decode cX6_end 223 = .ok (.invokevirtual 215, 3) := dk_182 0 215 (dk_at dksX6_end_9 15 rfl rfl)
theorem dX6_end_226 : decode cX6_end 226 = .ok (.ifCond .eq 16, 3) := dk_153 0 16 (dk_at dksX6_end_9 18 rfl rfl)
theorem dX6_end_229 : decode cX6_end 229 = .ok (.aload_n 0, 1) := dk_42 (dk_at dksX6_end_9 21 rfl rfl)
theorem dX6_end_230 : decode cX6_end 230 = .ok (.bipush 6, 2) := dk_16 6 (dk_at dksX6_end_9 22 rfl rfl)
theorem dX6_end_232 : decode cX6_end 232 = .ok (.aload_n 0, 1) := dk_42 (dk_at dksX6_end_10 0 rfl rfl)
theorem dX6_end_233 : decode cX6_end 233 = .ok (.getfield 146, 3) := dk_180 0 146 (dk_at dksX6_end_10 1 rfl rfl)
theorem dX6_end_236 : decode cX6_end 236 = .ok (.iconst 1, 1) := dk_4 (dk_at dksX6_end_10 4 rfl rfl)
theorem dX6_end_237 : decode cX6_end 237 = .ok (.isub, 1) := dk_100 (dk_at dksX6_end_10 5 rfl rfl)
theorem dX6_end_238 : decode cX6_end 238 = .ok (.invokevirtual 156, 3) := dk_182 0 156 (dk_at dksX6_end_10 6 rfl rfl)
theorem dX6_end_241 : decode cX6_end 241 = .ok (.ireturn, 1) := dk_172 (dk_at dksX6_end_10 9 rfl rfl)
theorem dX6_end_242 : decode cX6_end 242 = .ok (.aload_n 0, 1) := dk_42 (dk_at dksX6_end_10 10 rfl rfl)
theorem dX6_end_243 : decode cX6_end 243 = .ok (.dup, 1) := dk_89 (dk_at dksX6_end_10 11 rfl rfl)
theorem dX6_end_244 : decode cX6_end 244 = .ok (.getfield 177, 3) := dk_180 0 177 (dk_at dksX6_end_10 12 rfl rfl)
theorem dX6_end_247 : decode cX6_end 247 = .ok (.iconst 1, 1) := dk_4 (dk_at dksX6_end_10 15 rfl rfl)
theorem dX6_end_248 : decode cX6_end 248 = .ok (.isub, 1) := dk_100 (dk_at dksX6_end_10 16 rfl rfl)
theorem dX6_end_249 : decode cX6_end 249 = .ok (.putfield 177, 3) := dk_181 0 177 (dk_at dksX6_end_10 17 rfl rfl)
theorem dX6_end_252 : decode cX6_end 252 = .ok (.iload_n 2, 1) := dk_28 (dk_at dksX6_end_10 20 rfl rfl)
theorem dX6_end_253 : decode cX6_end 253 = .ok (.ireturn, 1) := dk_172 (dk_at dksX6_end_10 21 rfl rfl)
abbrev cX6_component : ByteArray := prog_18_method_22_code
def yX6_component : MethodName := ⟨RX6, "component", "(II)V"⟩
def dkwX6_component_7 : List UInt8 := [154, 0, 15, 42, 7, 42, 180, 0, 146, 4, 100, 182, 0, 156, 87, 177]
abbrev dktX6_component_7 : List UInt8 := dkwX6_component_7 ++ []
def dkwX6_component_6 : List UInt8 := [46, 42, 180, 0, 26, 42, 180, 0, 222, 46, 184, 0, 166, 153, 0, 7, 4, 167, 0, 4, 3, 62, 29]
abbrev dktX6_component_6 : List UInt8 := dkwX6_component_6 ++ dktX6_component_7
def dkwX6_component_5 : List UInt8 := [42, 180, 0, 41, 42, 180, 0, 222, 51, 153, 0, 31, 42, 180, 0, 203, 42, 180, 0, 23, 42, 180, 0, 222]
abbrev dktX6_component_5 : List UInt8 := dkwX6_component_5 ++ dktX6_component_6
def dkwX6_component_4 : List UInt8 := [180, 0, 203, 3, 4, 184, 0, 166, 167, 0, 61, 42, 180, 0, 20, 42, 180, 0, 222, 46, 5, 160, 0, 47]
abbrev dktX6_component_4 : List UInt8 := dkwX6_component_4 ++ dktX6_component_5
def dkwX6_component_3 : List UInt8 := [180, 0, 203, 79, 42, 28, 182, 0, 218, 42, 180, 0, 20, 42, 180, 0, 222, 46, 4, 160, 0, 15, 42]
abbrev dktX6_component_3 : List UInt8 := dkwX6_component_3 ++ dktX6_component_4
def dkwX6_component_2 : List UInt8 := [180, 0, 146, 4, 96, 181, 0, 146, 42, 182, 0, 206, 154, 0, 4, 177, 42, 180, 0, 54, 27, 42]
abbrev dktX6_component_2 : List UInt8 := dkwX6_component_2 ++ dktX6_component_3
def dkwX6_component_1 : List UInt8 := [181, 0, 146, 167, 0, 152, 42, 182, 0, 152, 16, 61, 160, 0, 143, 42, 180, 0, 51, 27, 5, 79, 42, 89]
abbrev dktX6_component_1 : List UInt8 := dkwX6_component_1 ++ dktX6_component_2
def dkwX6_component_0 : List UInt8 := [42, 182, 0, 152, 16, 63, 160, 0, 23, 42, 180, 0, 51, 27, 4, 79, 42, 89, 180, 0, 146, 4, 96]
abbrev dktX6_component_0 : List UInt8 := dkwX6_component_0 ++ dktX6_component_1
theorem dksX6_component_0 : cX6_component.data.toList.drop 0 = dktX6_component_0 := by decide +kernel
theorem dksX6_component_1 : cX6_component.data.toList.drop 23 = dktX6_component_1 := dk_seg dksX6_component_0 23 rfl rfl
theorem dksX6_component_2 : cX6_component.data.toList.drop 47 = dktX6_component_2 := dk_seg dksX6_component_1 24 rfl rfl
theorem dksX6_component_3 : cX6_component.data.toList.drop 69 = dktX6_component_3 := dk_seg dksX6_component_2 22 rfl rfl
theorem dksX6_component_4 : cX6_component.data.toList.drop 92 = dktX6_component_4 := dk_seg dksX6_component_3 23 rfl rfl
theorem dksX6_component_5 : cX6_component.data.toList.drop 116 = dktX6_component_5 := dk_seg dksX6_component_4 24 rfl rfl
theorem dksX6_component_6 : cX6_component.data.toList.drop 140 = dktX6_component_6 := dk_seg dksX6_component_5 24 rfl rfl
theorem dksX6_component_7 : cX6_component.data.toList.drop 163 = dktX6_component_7 := dk_seg dksX6_component_6 23 rfl rfl
theorem dX6_component_0 : decode cX6_component 0 = .ok (.aload_n 0, 1) := dk_42 (dk_at dksX6_component_0 0 rfl rfl)
theorem dX6_component_1 : decode cX6_component 1 = .ok (.invokevirtual 152, 3) := dk_182 0 152 (dk_at dksX6_component_0 1 rfl rfl)
theorem dX6_component_4 : decode cX6_component 4 = .ok (.bipush 63, 2) := dk_16 63 (dk_at dksX6_component_0 4 rfl rfl)
theorem dX6_component_6 : decode cX6_component 6 = .ok (.if_icmp .ne 23, 3) := dk_160 0 23 (dk_at dksX6_component_0 6 rfl rfl)
theorem dX6_component_9 : decode cX6_component 9 = .ok (.aload_n 0, 1) := dk_42 (dk_at dksX6_component_0 9 rfl rfl)
theorem dX6_component_10 : decode cX6_component 10 = .ok (.getfield 51, 3) := dk_180 0 51 (dk_at dksX6_component_0 10 rfl rfl)
theorem dX6_component_13 : decode cX6_component 13 = .ok (.iload_n 1, 1) := dk_27 (dk_at dksX6_component_0 13 rfl rfl)
theorem dX6_component_14 : decode cX6_component 14 = .ok (.iconst 1, 1) := dk_4 (dk_at dksX6_component_0 14 rfl rfl)
theorem dX6_component_15 : decode cX6_component 15 = .ok (.iastore, 1) := dk_79 (dk_at dksX6_component_0 15 rfl rfl)
theorem dX6_component_16 : decode cX6_component 16 = .ok (.aload_n 0, 1) := dk_42 (dk_at dksX6_component_0 16 rfl rfl)
theorem dX6_component_17 : decode cX6_component 17 = .ok (.dup, 1) := dk_89 (dk_at dksX6_component_0 17 rfl rfl)
theorem dX6_component_18 : decode cX6_component 18 = .ok (.getfield 146, 3) := dk_180 0 146 (dk_at dksX6_component_0 18 rfl rfl)
theorem dX6_component_21 : decode cX6_component 21 = .ok (.iconst 1, 1) := dk_4 (dk_at dksX6_component_0 21 rfl rfl)
theorem dX6_component_22 : decode cX6_component 22 = .ok (.iadd, 1) := dk_96 (dk_at dksX6_component_0 22 rfl rfl)
theorem dX6_component_23 : decode cX6_component 23 = .ok (.putfield 146, 3) := dk_181 0 146 (dk_at dksX6_component_1 0 rfl rfl)
theorem dX6_component_26 : decode cX6_component 26 = .ok (.goto 152, 3) := dk_167 0 152 (dk_at dksX6_component_1 3 rfl rfl)
theorem dX6_component_29 : decode cX6_component 29 = .ok (.aload_n 0, 1) := dk_42 (dk_at dksX6_component_1 6 rfl rfl)
theorem dX6_component_30 : decode cX6_component 30 = .ok (.invokevirtual 152, 3) := dk_182 0 152 (dk_at dksX6_component_1 7 rfl rfl)
theorem dX6_component_33 : decode cX6_component 33 = .ok (.bipush 61, 2) := dk_16 61 (dk_at dksX6_component_1 10 rfl rfl)
theorem dX6_component_35 : decode cX6_component 35 = .ok (.if_icmp .ne 143, 3) := dk_160 0 143 (dk_at dksX6_component_1 12 rfl rfl)
theorem dX6_component_38 : decode cX6_component 38 = .ok (.aload_n 0, 1) := dk_42 (dk_at dksX6_component_1 15 rfl rfl)
theorem dX6_component_39 : decode cX6_component 39 = .ok (.getfield 51, 3) := dk_180 0 51 (dk_at dksX6_component_1 16 rfl rfl)
theorem dX6_component_42 : decode cX6_component 42 = .ok (.iload_n 1, 1) := dk_27 (dk_at dksX6_component_1 19 rfl rfl)
theorem dX6_component_43 : decode cX6_component 43 = .ok (.iconst 2, 1) := dk_5 (dk_at dksX6_component_1 20 rfl rfl)
theorem dX6_component_44 : decode cX6_component 44 = .ok (.iastore, 1) := dk_79 (dk_at dksX6_component_1 21 rfl rfl)
theorem dX6_component_45 : decode cX6_component 45 = .ok (.aload_n 0, 1) := dk_42 (dk_at dksX6_component_1 22 rfl rfl)
theorem dX6_component_46 : decode cX6_component 46 = .ok (.dup, 1) := dk_89 (dk_at dksX6_component_1 23 rfl rfl)
theorem dX6_component_47 : decode cX6_component 47 = .ok (.getfield 146, 3) := dk_180 0 146 (dk_at dksX6_component_2 0 rfl rfl)
theorem dX6_component_50 : decode cX6_component 50 = .ok (.iconst 1, 1) := dk_4 (dk_at dksX6_component_2 3 rfl rfl)
theorem dX6_component_51 : decode cX6_component 51 = .ok (.iadd, 1) := dk_96 (dk_at dksX6_component_2 4 rfl rfl)
theorem dX6_component_52 : decode cX6_component 52 = .ok (.putfield 146, 3) := dk_181 0 146 (dk_at dksX6_component_2 5 rfl rfl)
theorem dX6_component_55 : decode cX6_component 55 = .ok (.aload_n 0, 1) := dk_42 (dk_at dksX6_component_2 8 rfl rfl)
theorem dX6_component_56 : decode cX6_component 56 = .ok (.invokevirtual 206, 3) := dk_182 0 206 (dk_at dksX6_component_2 9 rfl rfl)
theorem dX6_component_59 : decode cX6_component 59 = .ok (.ifCond .ne 4, 3) := dk_154 0 4 (dk_at dksX6_component_2 12 rfl rfl)
theorem dX6_component_62 : decode cX6_component 62 = .ok (.return_, 1) := dk_177 (dk_at dksX6_component_2 15 rfl rfl)
theorem dX6_component_63 : decode cX6_component 63 = .ok (.aload_n 0, 1) := dk_42 (dk_at dksX6_component_2 16 rfl rfl)
theorem dX6_component_64 : decode cX6_component 64 = .ok (.getfield 54, 3) := dk_180 0 54 (dk_at dksX6_component_2 17 rfl rfl)
theorem dX6_component_67 : decode cX6_component 67 = .ok (.iload_n 1, 1) := dk_27 (dk_at dksX6_component_2 20 rfl rfl)
theorem dX6_component_68 : decode cX6_component 68 = .ok (.aload_n 0, 1) := dk_42 (dk_at dksX6_component_2 21 rfl rfl)
theorem dX6_component_69 : decode cX6_component 69 = .ok (.getfield 203, 3) := dk_180 0 203 (dk_at dksX6_component_3 0 rfl rfl)
theorem dX6_component_72 : decode cX6_component 72 = .ok (.iastore, 1) := dk_79 (dk_at dksX6_component_3 3 rfl rfl)
theorem dX6_component_73 : decode cX6_component 73 = .ok (.aload_n 0, 1) := dk_42 (dk_at dksX6_component_3 4 rfl rfl)
theorem dX6_component_74 : decode cX6_component 74 = .ok (.iload_n 2, 1) := dk_28 (dk_at dksX6_component_3 5 rfl rfl)
theorem dX6_component_75 : decode cX6_component 75 = .ok (.invokevirtual 218, 3) := dk_182 0 218 (dk_at dksX6_component_3 6 rfl rfl)
theorem dX6_component_78 : decode cX6_component 78 = .ok (.aload_n 0, 1) := dk_42 (dk_at dksX6_component_3 9 rfl rfl)
theorem dX6_component_79 : decode cX6_component 79 = .ok (.getfield 20, 3) := dk_180 0 20 (dk_at dksX6_component_3 10 rfl rfl)
theorem dX6_component_82 : decode cX6_component 82 = .ok (.aload_n 0, 1) := dk_42 (dk_at dksX6_component_3 13 rfl rfl)
theorem dX6_component_83 : decode cX6_component 83 = .ok (.getfield 222, 3) := dk_180 0 222 (dk_at dksX6_component_3 14 rfl rfl)
theorem dX6_component_86 : decode cX6_component 86 = .ok (.iaload, 1) := dk_46 (dk_at dksX6_component_3 17 rfl rfl)
theorem dX6_component_87 : decode cX6_component 87 = .ok (.iconst 1, 1) := dk_4 (dk_at dksX6_component_3 18 rfl rfl)
theorem dX6_component_88 : decode cX6_component 88 = .ok (.if_icmp .ne 15, 3) := dk_160 0 15 (dk_at dksX6_component_3 19 rfl rfl)
theorem dX6_component_91 : decode cX6_component 91 = .ok (.aload_n 0, 1) := dk_42 (dk_at dksX6_component_3 22 rfl rfl)
theorem dX6_component_92 : decode cX6_component 92 = .ok (.getfield 203, 3) := dk_180 0 203 (dk_at dksX6_component_4 0 rfl rfl)
theorem dX6_component_95 : decode cX6_component 95 = .ok (.iconst 0, 1) := dk_3 (dk_at dksX6_component_4 3 rfl rfl)
theorem dX6_component_96 : decode cX6_component 96 = .ok (.iconst 1, 1) := dk_4 (dk_at dksX6_component_4 4 rfl rfl)
theorem dX6_component_97 : decode cX6_component 97 = .ok (.invokestatic 166, 3) := dk_184 0 166 (dk_at dksX6_component_4 5 rfl rfl)
theorem dX6_component_100 : decode cX6_component 100 = .ok (.goto 61, 3) := dk_167 0 61 (dk_at dksX6_component_4 8 rfl rfl)
theorem dX6_component_103 : decode cX6_component 103 = .ok (.aload_n 0, 1) := dk_42 (dk_at dksX6_component_4 11 rfl rfl)
theorem dX6_component_104 : decode cX6_component 104 = .ok (.getfield 20, 3) := dk_180 0 20 (dk_at dksX6_component_4 12 rfl rfl)
theorem dX6_component_107 : decode cX6_component 107 = .ok (.aload_n 0, 1) := dk_42 (dk_at dksX6_component_4 15 rfl rfl)
theorem dX6_component_108 : decode cX6_component 108 = .ok (.getfield 222, 3) := dk_180 0 222 (dk_at dksX6_component_4 16 rfl rfl)
theorem dX6_component_111 : decode cX6_component 111 = .ok (.iaload, 1) := dk_46 (dk_at dksX6_component_4 19 rfl rfl)
theorem dX6_component_112 : decode cX6_component 112 = .ok (.iconst 2, 1) := dk_5 (dk_at dksX6_component_4 20 rfl rfl)
theorem dX6_component_113 : decode cX6_component 113 = .ok (.if_icmp .ne 47, 3) := dk_160 0 47 (dk_at dksX6_component_4 21 rfl rfl)
theorem dX6_component_116 : decode cX6_component 116 = .ok (.aload_n 0, 1) := dk_42 (dk_at dksX6_component_5 0 rfl rfl)
theorem dX6_component_117 : decode cX6_component 117 = .ok (.getfield 41, 3) := dk_180 0 41 (dk_at dksX6_component_5 1 rfl rfl)
theorem dX6_component_120 : decode cX6_component 120 = .ok (.aload_n 0, 1) := dk_42 (dk_at dksX6_component_5 4 rfl rfl)
theorem dX6_component_121 : decode cX6_component 121 = .ok (.getfield 222, 3) := dk_180 0 222 (dk_at dksX6_component_5 5 rfl rfl)
theorem dX6_component_124 : decode cX6_component 124 = .ok (.baload, 1) := dk_51 (dk_at dksX6_component_5 8 rfl rfl)
theorem dX6_component_125 : decode cX6_component 125 = .ok (.ifCond .eq 31, 3) := dk_153 0 31 (dk_at dksX6_component_5 9 rfl rfl)
theorem dX6_component_128 : decode cX6_component 128 = .ok (.aload_n 0, 1) := dk_42 (dk_at dksX6_component_5 12 rfl rfl)
theorem dX6_component_129 : decode cX6_component 129 = .ok (.getfield 203, 3) := dk_180 0 203 (dk_at dksX6_component_5 13 rfl rfl)
theorem dX6_component_132 : decode cX6_component 132 = .ok (.aload_n 0, 1) := dk_42 (dk_at dksX6_component_5 16 rfl rfl)
theorem dX6_component_133 : decode cX6_component 133 = .ok (.getfield 23, 3) := dk_180 0 23 (dk_at dksX6_component_5 17 rfl rfl)
theorem dX6_component_136 : decode cX6_component 136 = .ok (.aload_n 0, 1) := dk_42 (dk_at dksX6_component_5 20 rfl rfl)
theorem dX6_component_137 : decode cX6_component 137 = .ok (.getfield 222, 3) := dk_180 0 222 (dk_at dksX6_component_5 21 rfl rfl)
theorem dX6_component_140 : decode cX6_component 140 = .ok (.iaload, 1) := dk_46 (dk_at dksX6_component_6 0 rfl rfl)
theorem dX6_component_141 : decode cX6_component 141 = .ok (.aload_n 0, 1) := dk_42 (dk_at dksX6_component_6 1 rfl rfl)
theorem dX6_component_142 : decode cX6_component 142 = .ok (.getfield 26, 3) := dk_180 0 26 (dk_at dksX6_component_6 2 rfl rfl)
theorem dX6_component_145 : decode cX6_component 145 = .ok (.aload_n 0, 1) := dk_42 (dk_at dksX6_component_6 5 rfl rfl)
theorem dX6_component_146 : decode cX6_component 146 = .ok (.getfield 222, 3) := dk_180 0 222 (dk_at dksX6_component_6 6 rfl rfl)
theorem dX6_component_149 : decode cX6_component 149 = .ok (.iaload, 1) := dk_46 (dk_at dksX6_component_6 9 rfl rfl)
theorem dX6_component_150 : decode cX6_component 150 = .ok (.invokestatic 166, 3) := dk_184 0 166 (dk_at dksX6_component_6 10 rfl rfl)
theorem dX6_component_153 : decode cX6_component 153 = .ok (.ifCond .eq 7, 3) := dk_153 0 7 (dk_at dksX6_component_6 13 rfl rfl)
theorem dX6_component_156 : decode cX6_component 156 = .ok (.iconst 1, 1) := dk_4 (dk_at dksX6_component_6 16 rfl rfl)
theorem dX6_component_157 : decode cX6_component 157 = .ok (.goto 4, 3) := dk_167 0 4 (dk_at dksX6_component_6 17 rfl rfl)
theorem dX6_component_160 : decode cX6_component 160 = .ok (.iconst 0, 1) := dk_3 (dk_at dksX6_component_6 20 rfl rfl)
theorem dX6_component_161 : decode cX6_component 161 = .ok (.istore_n 3, 1) := dk_62 (dk_at dksX6_component_6 21 rfl rfl)
theorem dX6_component_162 : decode cX6_component 162 = .ok (.iload_n 3, 1) := dk_29 (dk_at dksX6_component_6 22 rfl rfl)
theorem dX6_component_163 : decode cX6_component 163 = .ok (.ifCond .ne 15, 3) := dk_154 0 15 (dk_at dksX6_component_7 0 rfl rfl)
theorem dX6_component_166 : decode cX6_component 166 = .ok (.aload_n 0, 1) := dk_42 (dk_at dksX6_component_7 3 rfl rfl)
theorem dX6_component_167 : decode cX6_component 167 = .ok (.iconst 4, 1) := dk_7 (dk_at dksX6_component_7 4 rfl rfl)
theorem dX6_component_168 : decode cX6_component 168 = .ok (.aload_n 0, 1) := dk_42 (dk_at dksX6_component_7 5 rfl rfl)
theorem dX6_component_169 : decode cX6_component 169 = .ok (.getfield 146, 3) := dk_180 0 146 (dk_at dksX6_component_7 6 rfl rfl)
theorem dX6_component_172 : decode cX6_component 172 = .ok (.iconst 1, 1) := dk_4 (dk_at dksX6_component_7 9 rfl rfl)
theorem dX6_component_173 : decode cX6_component 173 = .ok (.isub, 1) := dk_100 (dk_at dksX6_component_7 10 rfl rfl)
theorem dX6_component_174 : decode cX6_component 174 = .ok (.invokevirtual 156, 3) := dk_182 0 156 (dk_at dksX6_component_7 11 rfl rfl)
theorem dX6_component_177 : decode cX6_component 177 = .ok (.pop, 1) := dk_87 (dk_at dksX6_component_7 14 rfl rfl)
theorem dX6_component_178 : decode cX6_component 178 = .ok (.return_, 1) := dk_177 (dk_at dksX6_component_7 15 rfl rfl)
abbrev cX6_unwrap : ByteArray := prog_18_method_24_code
def yX6_unwrap : MethodName := ⟨RX6, "unwrap", "(I)V"⟩
def dkwX6_unwrap_9 : List UInt8 := [17, 0, 160, 21, 4, 96, 79, 42, 89, 180, 0, 225, 4, 96, 181, 0, 225, 167, 255, 133, 177]
abbrev dktX6_unwrap_9 : List UInt8 := dkwX6_unwrap_9 ++ []
def dkwX6_unwrap_8 : List UInt8 := [17, 0, 160, 167, 0, 6, 17, 0, 128, 21, 4, 96, 79, 167, 0, 28, 42, 180, 0, 57, 42, 180, 0, 225]
abbrev dktX6_unwrap_8 : List UInt8 := dkwX6_unwrap_8 ++ dktX6_unwrap_9
def dkwX6_unwrap_7 : List UInt8 := [42, 180, 0, 225, 158, 0, 34, 42, 180, 0, 57, 42, 180, 0, 225, 4, 100, 21, 5, 153, 0, 9]
abbrev dktX6_unwrap_7 : List UInt8 := dkwX6_unwrap_7 ++ dktX6_unwrap_8
def dkwX6_unwrap_6 : List UInt8 := [153, 0, 7, 4, 167, 0, 4, 3, 54, 5, 42, 180, 0, 45, 42, 180, 0, 60, 28, 46, 51, 153, 0, 41]
abbrev dktX6_unwrap_6 : List UInt8 := dkwX6_unwrap_6 ++ dktX6_unwrap_7
def dkwX6_unwrap_5 : List UInt8 := [180, 0, 60, 28, 46, 46, 54, 4, 42, 180, 0, 225, 4, 163, 0, 14, 29, 16, 6, 16, 9, 184, 0, 166]
abbrev dktX6_unwrap_5 : List UInt8 := dkwX6_unwrap_5 ++ dktX6_unwrap_6
def dkwX6_unwrap_4 : List UInt8 := [160, 0, 8, 16, 48, 167, 0, 4, 29, 79, 28, 158, 0, 125, 132, 2, 255, 42, 180, 0, 29, 42]
abbrev dktX6_unwrap_4 : List UInt8 := dkwX6_unwrap_4 ++ dktX6_unwrap_5
def dkwX6_unwrap_3 : List UInt8 := [3, 167, 0, 4, 4, 181, 0, 225, 42, 180, 0, 57, 3, 29, 16, 6, 159, 0, 9, 29, 16, 7]
abbrev dktX6_unwrap_3 : List UInt8 := dkwX6_unwrap_3 ++ dktX6_unwrap_4
def dkwX6_unwrap_2 : List UInt8 := [46, 181, 0, 222, 167, 255, 213, 42, 180, 0, 20, 42, 180, 0, 222, 46, 62, 42, 29, 16, 9, 160, 0, 7]
abbrev dktX6_unwrap_2 : List UInt8 := dkwX6_unwrap_2 ++ dktX6_unwrap_3
def dkwX6_unwrap_1 : List UInt8 := [180, 0, 60, 28, 42, 180, 0, 222, 79, 132, 2, 1, 42, 42, 180, 0, 48, 16, 6, 42, 180, 0, 222, 104]
abbrev dktX6_unwrap_1 : List UInt8 := dkwX6_unwrap_1 ++ dktX6_unwrap_2
def dkwX6_unwrap_0 : List UInt8 := [3, 61, 42, 27, 181, 0, 222, 42, 180, 0, 20, 42, 180, 0, 222, 46, 16, 10, 160, 0, 35, 42]
abbrev dktX6_unwrap_0 : List UInt8 := dkwX6_unwrap_0 ++ dktX6_unwrap_1
theorem dksX6_unwrap_0 : cX6_unwrap.data.toList.drop 0 = dktX6_unwrap_0 := by decide +kernel
theorem dksX6_unwrap_1 : cX6_unwrap.data.toList.drop 22 = dktX6_unwrap_1 := dk_seg dksX6_unwrap_0 22 rfl rfl
theorem dksX6_unwrap_2 : cX6_unwrap.data.toList.drop 46 = dktX6_unwrap_2 := dk_seg dksX6_unwrap_1 24 rfl rfl
theorem dksX6_unwrap_3 : cX6_unwrap.data.toList.drop 70 = dktX6_unwrap_3 := dk_seg dksX6_unwrap_2 24 rfl rfl
theorem dksX6_unwrap_4 : cX6_unwrap.data.toList.drop 92 = dktX6_unwrap_4 := dk_seg dksX6_unwrap_3 22 rfl rfl
theorem dksX6_unwrap_5 : cX6_unwrap.data.toList.drop 114 = dktX6_unwrap_5 := dk_seg dksX6_unwrap_4 22 rfl rfl
theorem dksX6_unwrap_6 : cX6_unwrap.data.toList.drop 138 = dktX6_unwrap_6 := dk_seg dksX6_unwrap_5 24 rfl rfl
theorem dksX6_unwrap_7 : cX6_unwrap.data.toList.drop 162 = dktX6_unwrap_7 := dk_seg dksX6_unwrap_6 24 rfl rfl
theorem dksX6_unwrap_8 : cX6_unwrap.data.toList.drop 184 = dktX6_unwrap_8 := dk_seg dksX6_unwrap_7 22 rfl rfl
theorem dksX6_unwrap_9 : cX6_unwrap.data.toList.drop 208 = dktX6_unwrap_9 := dk_seg dksX6_unwrap_8 24 rfl rfl
theorem dX6_unwrap_0 : decode cX6_unwrap 0 = .ok (.iconst 0, 1) := dk_3 (dk_at dksX6_unwrap_0 0 rfl rfl)
theorem dX6_unwrap_1 : decode cX6_unwrap 1 = .ok (.istore_n 2, 1) := dk_61 (dk_at dksX6_unwrap_0 1 rfl rfl)
theorem dX6_unwrap_2 : decode cX6_unwrap 2 = .ok (.aload_n 0, 1) := dk_42 (dk_at dksX6_unwrap_0 2 rfl rfl)
theorem dX6_unwrap_3 : decode cX6_unwrap 3 = .ok (.iload_n 1, 1) := dk_27 (dk_at dksX6_unwrap_0 3 rfl rfl)
theorem dX6_unwrap_4 : decode cX6_unwrap 4 = .ok (.putfield 222, 3) := dk_181 0 222 (dk_at dksX6_unwrap_0 4 rfl rfl)
theorem dX6_unwrap_7 : decode cX6_unwrap 7 = .ok (.aload_n 0, 1) := dk_42 (dk_at dksX6_unwrap_0 7 rfl rfl)
theorem dX6_unwrap_8 : decode cX6_unwrap 8 = .ok (.getfield 20, 3) := dk_180 0 20 (dk_at dksX6_unwrap_0 8 rfl rfl)
theorem dX6_unwrap_11 : decode cX6_unwrap 11 = .ok (.aload_n 0, 1) := dk_42 (dk_at dksX6_unwrap_0 11 rfl rfl)
theorem dX6_unwrap_12 : decode cX6_unwrap 12 = .ok (.getfield 222, 3) := dk_180 0 222 (dk_at dksX6_unwrap_0 12 rfl rfl)
theorem dX6_unwrap_15 : decode cX6_unwrap 15 = .ok (.iaload, 1) := dk_46 (dk_at dksX6_unwrap_0 15 rfl rfl)
theorem dX6_unwrap_16 : decode cX6_unwrap 16 = .ok (.bipush 10, 2) := dk_16 10 (dk_at dksX6_unwrap_0 16 rfl rfl)
theorem dX6_unwrap_18 : decode cX6_unwrap 18 = .ok (.if_icmp .ne 35, 3) := dk_160 0 35 (dk_at dksX6_unwrap_0 18 rfl rfl)
theorem dX6_unwrap_21 : decode cX6_unwrap 21 = .ok (.aload_n 0, 1) := dk_42 (dk_at dksX6_unwrap_0 21 rfl rfl)
theorem dX6_unwrap_22 : decode cX6_unwrap 22 = .ok (.getfield 60, 3) := dk_180 0 60 (dk_at dksX6_unwrap_1 0 rfl rfl)
theorem dX6_unwrap_25 : decode cX6_unwrap 25 = .ok (.iload_n 2, 1) := dk_28 (dk_at dksX6_unwrap_1 3 rfl rfl)
theorem dX6_unwrap_26 : decode cX6_unwrap 26 = .ok (.aload_n 0, 1) := dk_42 (dk_at dksX6_unwrap_1 4 rfl rfl)
theorem dX6_unwrap_27 : decode cX6_unwrap 27 = .ok (.getfield 222, 3) := dk_180 0 222 (dk_at dksX6_unwrap_1 5 rfl rfl)
theorem dX6_unwrap_30 : decode cX6_unwrap 30 = .ok (.iastore, 1) := dk_79 (dk_at dksX6_unwrap_1 8 rfl rfl)
theorem dX6_unwrap_31 : decode cX6_unwrap 31 = .ok (.iinc 2 1, 3) := dk_132 2 1 (dk_at dksX6_unwrap_1 9 rfl rfl)
theorem dX6_unwrap_34 : decode cX6_unwrap 34 = .ok (.aload_n 0, 1) := dk_42 (dk_at dksX6_unwrap_1 12 rfl rfl)
theorem dX6_unwrap_35 : decode cX6_unwrap 35 = .ok (.aload_n 0, 1) := dk_42 (dk_at dksX6_unwrap_1 13 rfl rfl)
theorem dX6_unwrap_36 : decode cX6_unwrap 36 = .ok (.getfield 48, 3) := dk_180 0 48 (dk_at dksX6_unwrap_1 14 rfl rfl)
theorem dX6_unwrap_39 : decode cX6_unwrap 39 = .ok (.bipush 6, 2) := dk_16 6 (dk_at dksX6_unwrap_1 17 rfl rfl)
theorem dX6_unwrap_41 : decode cX6_unwrap 41 = .ok (.aload_n 0, 1) := dk_42 (dk_at dksX6_unwrap_1 19 rfl rfl)
theorem dX6_unwrap_42 : decode cX6_unwrap 42 = .ok (.getfield 222, 3) := dk_180 0 222 (dk_at dksX6_unwrap_1 20 rfl rfl)
theorem dX6_unwrap_45 : decode cX6_unwrap 45 = .ok (.imul, 1) := dk_104 (dk_at dksX6_unwrap_1 23 rfl rfl)
theorem dX6_unwrap_46 : decode cX6_unwrap 46 = .ok (.iaload, 1) := dk_46 (dk_at dksX6_unwrap_2 0 rfl rfl)
theorem dX6_unwrap_47 : decode cX6_unwrap 47 = .ok (.putfield 222, 3) := dk_181 0 222 (dk_at dksX6_unwrap_2 1 rfl rfl)
theorem dX6_unwrap_50 : decode cX6_unwrap 50 = .ok (.goto (-43), 3) := dk_167 255 213 (dk_at dksX6_unwrap_2 4 rfl rfl)
theorem dX6_unwrap_53 : decode cX6_unwrap 53 = .ok (.aload_n 0, 1) := dk_42 (dk_at dksX6_unwrap_2 7 rfl rfl)
theorem dX6_unwrap_54 : decode cX6_unwrap 54 = .ok (.getfield 20, 3) := dk_180 0 20 (dk_at dksX6_unwrap_2 8 rfl rfl)
theorem dX6_unwrap_57 : decode cX6_unwrap 57 = .ok (.aload_n 0, 1) := dk_42 (dk_at dksX6_unwrap_2 11 rfl rfl)
theorem dX6_unwrap_58 : decode cX6_unwrap 58 = .ok (.getfield 222, 3) := dk_180 0 222 (dk_at dksX6_unwrap_2 12 rfl rfl)
theorem dX6_unwrap_61 : decode cX6_unwrap 61 = .ok (.iaload, 1) := dk_46 (dk_at dksX6_unwrap_2 15 rfl rfl)
theorem dX6_unwrap_62 : decode cX6_unwrap 62 = .ok (.istore_n 3, 1) := dk_62 (dk_at dksX6_unwrap_2 16 rfl rfl)
theorem dX6_unwrap_63 : decode cX6_unwrap 63 = .ok (.aload_n 0, 1) := dk_42 (dk_at dksX6_unwrap_2 17 rfl rfl)
theorem dX6_unwrap_64 : decode cX6_unwrap 64 = .ok (.iload_n 3, 1) := dk_29 (dk_at dksX6_unwrap_2 18 rfl rfl)
theorem dX6_unwrap_65 : decode cX6_unwrap 65 = .ok (.bipush 9, 2) := dk_16 9 (dk_at dksX6_unwrap_2 19 rfl rfl)
theorem dX6_unwrap_67 : decode cX6_unwrap 67 = .ok (.if_icmp .ne 7, 3) := dk_160 0 7 (dk_at dksX6_unwrap_2 21 rfl rfl)
theorem dX6_unwrap_70 : decode cX6_unwrap 70 = .ok (.iconst 0, 1) := dk_3 (dk_at dksX6_unwrap_3 0 rfl rfl)
theorem dX6_unwrap_71 : decode cX6_unwrap 71 = .ok (.goto 4, 3) := dk_167 0 4 (dk_at dksX6_unwrap_3 1 rfl rfl)
theorem dX6_unwrap_74 : decode cX6_unwrap 74 = .ok (.iconst 1, 1) := dk_4 (dk_at dksX6_unwrap_3 4 rfl rfl)
theorem dX6_unwrap_75 : decode cX6_unwrap 75 = .ok (.putfield 225, 3) := dk_181 0 225 (dk_at dksX6_unwrap_3 5 rfl rfl)
theorem dX6_unwrap_78 : decode cX6_unwrap 78 = .ok (.aload_n 0, 1) := dk_42 (dk_at dksX6_unwrap_3 8 rfl rfl)
theorem dX6_unwrap_79 : decode cX6_unwrap 79 = .ok (.getfield 57, 3) := dk_180 0 57 (dk_at dksX6_unwrap_3 9 rfl rfl)
theorem dX6_unwrap_82 : decode cX6_unwrap 82 = .ok (.iconst 0, 1) := dk_3 (dk_at dksX6_unwrap_3 12 rfl rfl)
theorem dX6_unwrap_83 : decode cX6_unwrap 83 = .ok (.iload_n 3, 1) := dk_29 (dk_at dksX6_unwrap_3 13 rfl rfl)
theorem dX6_unwrap_84 : decode cX6_unwrap 84 = .ok (.bipush 6, 2) := dk_16 6 (dk_at dksX6_unwrap_3 14 rfl rfl)
theorem dX6_unwrap_86 : decode cX6_unwrap 86 = .ok (.if_icmp .eq 9, 3) := dk_159 0 9 (dk_at dksX6_unwrap_3 16 rfl rfl)
theorem dX6_unwrap_89 : decode cX6_unwrap 89 = .ok (.iload_n 3, 1) := dk_29 (dk_at dksX6_unwrap_3 19 rfl rfl)
theorem dX6_unwrap_90 : decode cX6_unwrap 90 = .ok (.bipush 7, 2) := dk_16 7 (dk_at dksX6_unwrap_3 20 rfl rfl)
theorem dX6_unwrap_92 : decode cX6_unwrap 92 = .ok (.if_icmp .ne 8, 3) := dk_160 0 8 (dk_at dksX6_unwrap_4 0 rfl rfl)
theorem dX6_unwrap_95 : decode cX6_unwrap 95 = .ok (.bipush 48, 2) := dk_16 48 (dk_at dksX6_unwrap_4 3 rfl rfl)
theorem dX6_unwrap_97 : decode cX6_unwrap 97 = .ok (.goto 4, 3) := dk_167 0 4 (dk_at dksX6_unwrap_4 5 rfl rfl)
theorem dX6_unwrap_100 : decode cX6_unwrap 100 = .ok (.iload_n 3, 1) := dk_29 (dk_at dksX6_unwrap_4 8 rfl rfl)
theorem dX6_unwrap_101 : decode cX6_unwrap 101 = .ok (.iastore, 1) := dk_79 (dk_at dksX6_unwrap_4 9 rfl rfl)
theorem dX6_unwrap_102 : decode cX6_unwrap 102 = .ok (.iload_n 2, 1) := dk_28 (dk_at dksX6_unwrap_4 10 rfl rfl)
theorem dX6_unwrap_103 : decode cX6_unwrap 103 = .ok (.ifCond .le 125, 3) := dk_158 0 125 (dk_at dksX6_unwrap_4 11 rfl rfl)
theorem dX6_unwrap_106 : decode cX6_unwrap 106 = .ok (.iinc 2 (-1), 3) := dk_132 2 255 (dk_at dksX6_unwrap_4 14 rfl rfl)
theorem dX6_unwrap_109 : decode cX6_unwrap 109 = .ok (.aload_n 0, 1) := dk_42 (dk_at dksX6_unwrap_4 17 rfl rfl)
theorem dX6_unwrap_110 : decode cX6_unwrap 110 = .ok (.getfield 29, 3) := dk_180 0 29 (dk_at dksX6_unwrap_4 18 rfl rfl)
theorem dX6_unwrap_113 : decode cX6_unwrap 113 = .ok (.aload_n 0, 1) := dk_42 (dk_at dksX6_unwrap_4 21 rfl rfl)
theorem dX6_unwrap_114 : decode cX6_unwrap 114 = .ok (.getfield 60, 3) := dk_180 0 60 (dk_at dksX6_unwrap_5 0 rfl rfl)
theorem dX6_unwrap_117 : decode cX6_unwrap 117 = .ok (.iload_n 2, 1) := dk_28 (dk_at dksX6_unwrap_5 3 rfl rfl)
theorem dX6_unwrap_118 : decode cX6_unwrap 118 = .ok (.iaload, 1) := dk_46 (dk_at dksX6_unwrap_5 4 rfl rfl)
theorem dX6_unwrap_119 : decode cX6_unwrap 119 = .ok (.iaload, 1) := dk_46 (dk_at dksX6_unwrap_5 5 rfl rfl)
theorem dX6_unwrap_120 : decode cX6_unwrap 120 = .ok (.istore 4, 2) := dk_54 4 (dk_at dksX6_unwrap_5 6 rfl rfl)
theorem dX6_unwrap_122 : decode cX6_unwrap 122 = .ok (.aload_n 0, 1) := dk_42 (dk_at dksX6_unwrap_5 8 rfl rfl)
theorem dX6_unwrap_123 : decode cX6_unwrap 123 = .ok (.getfield 225, 3) := dk_180 0 225 (dk_at dksX6_unwrap_5 9 rfl rfl)
theorem dX6_unwrap_126 : decode cX6_unwrap 126 = .ok (.iconst 1, 1) := dk_4 (dk_at dksX6_unwrap_5 12 rfl rfl)
theorem dX6_unwrap_127 : decode cX6_unwrap 127 = .ok (.if_icmp .gt 14, 3) := dk_163 0 14 (dk_at dksX6_unwrap_5 13 rfl rfl)
theorem dX6_unwrap_130 : decode cX6_unwrap 130 = .ok (.iload_n 3, 1) := dk_29 (dk_at dksX6_unwrap_5 16 rfl rfl)
theorem dX6_unwrap_131 : decode cX6_unwrap 131 = .ok (.bipush 6, 2) := dk_16 6 (dk_at dksX6_unwrap_5 17 rfl rfl)
theorem dX6_unwrap_133 : decode cX6_unwrap 133 = .ok (.bipush 9, 2) := dk_16 9 (dk_at dksX6_unwrap_5 19 rfl rfl)
theorem dX6_unwrap_135 : decode cX6_unwrap 135 = .ok (.invokestatic 166, 3) := dk_184 0 166 (dk_at dksX6_unwrap_5 21 rfl rfl)
theorem dX6_unwrap_138 : decode cX6_unwrap 138 = .ok (.ifCond .eq 7, 3) := dk_153 0 7 (dk_at dksX6_unwrap_6 0 rfl rfl)
theorem dX6_unwrap_141 : decode cX6_unwrap 141 = .ok (.iconst 1, 1) := dk_4 (dk_at dksX6_unwrap_6 3 rfl rfl)
theorem dX6_unwrap_142 : decode cX6_unwrap 142 = .ok (.goto 4, 3) := dk_167 0 4 (dk_at dksX6_unwrap_6 4 rfl rfl)
theorem dX6_unwrap_145 : decode cX6_unwrap 145 = .ok (.iconst 0, 1) := dk_3 (dk_at dksX6_unwrap_6 7 rfl rfl)
theorem dX6_unwrap_146 : decode cX6_unwrap 146 = .ok (.istore 5, 2) := dk_54 5 (dk_at dksX6_unwrap_6 8 rfl rfl)
theorem dX6_unwrap_148 : decode cX6_unwrap 148 = .ok (.aload_n 0, 1) := dk_42 (dk_at dksX6_unwrap_6 10 rfl rfl)
theorem dX6_unwrap_149 : decode cX6_unwrap 149 = .ok (.getfield 45, 3) := dk_180 0 45 (dk_at dksX6_unwrap_6 11 rfl rfl)
theorem dX6_unwrap_152 : decode cX6_unwrap 152 = .ok (.aload_n 0, 1) := dk_42 (dk_at dksX6_unwrap_6 14 rfl rfl)
theorem dX6_unwrap_153 : decode cX6_unwrap 153 = .ok (.getfield 60, 3) := dk_180 0 60 (dk_at dksX6_unwrap_6 15 rfl rfl)
theorem dX6_unwrap_156 : decode cX6_unwrap 156 = .ok (.iload_n 2, 1) := dk_28 (dk_at dksX6_unwrap_6 18 rfl rfl)
theorem dX6_unwrap_157 : decode cX6_unwrap 157 = .ok (.iaload, 1) := dk_46 (dk_at dksX6_unwrap_6 19 rfl rfl)
theorem dX6_unwrap_158 : decode cX6_unwrap 158 = .ok (.baload, 1) := dk_51 (dk_at dksX6_unwrap_6 20 rfl rfl)
theorem dX6_unwrap_159 : decode cX6_unwrap 159 = .ok (.ifCond .eq 41, 3) := dk_153 0 41 (dk_at dksX6_unwrap_6 21 rfl rfl)
theorem dX6_unwrap_162 : decode cX6_unwrap 162 = .ok (.aload_n 0, 1) := dk_42 (dk_at dksX6_unwrap_7 0 rfl rfl)
theorem dX6_unwrap_163 : decode cX6_unwrap 163 = .ok (.getfield 225, 3) := dk_180 0 225 (dk_at dksX6_unwrap_7 1 rfl rfl)
theorem dX6_unwrap_166 : decode cX6_unwrap 166 = .ok (.ifCond .le 34, 3) := dk_158 0 34 (dk_at dksX6_unwrap_7 4 rfl rfl)
theorem dX6_unwrap_169 : decode cX6_unwrap 169 = .ok (.aload_n 0, 1) := dk_42 (dk_at dksX6_unwrap_7 7 rfl rfl)
theorem dX6_unwrap_170 : decode cX6_unwrap 170 = .ok (.getfield 57, 3) := dk_180 0 57 (dk_at dksX6_unwrap_7 8 rfl rfl)
theorem dX6_unwrap_173 : decode cX6_unwrap 173 = .ok (.aload_n 0, 1) := dk_42 (dk_at dksX6_unwrap_7 11 rfl rfl)
theorem dX6_unwrap_174 : decode cX6_unwrap 174 = .ok (.getfield 225, 3) := dk_180 0 225 (dk_at dksX6_unwrap_7 12 rfl rfl)
theorem dX6_unwrap_177 : decode cX6_unwrap 177 = .ok (.iconst 1, 1) := dk_4 (dk_at dksX6_unwrap_7 15 rfl rfl)
theorem dX6_unwrap_178 : decode cX6_unwrap 178 = .ok (.isub, 1) := dk_100 (dk_at dksX6_unwrap_7 16 rfl rfl)
theorem dX6_unwrap_179 : decode cX6_unwrap 179 = .ok (.iload 5, 2) := dk_21 5 (dk_at dksX6_unwrap_7 17 rfl rfl)
theorem dX6_unwrap_181 : decode cX6_unwrap 181 = .ok (.ifCond .eq 9, 3) := dk_153 0 9 (dk_at dksX6_unwrap_7 19 rfl rfl)
theorem dX6_unwrap_184 : decode cX6_unwrap 184 = .ok (.sipush 160, 3) := dk_17 0 160 (dk_at dksX6_unwrap_8 0 rfl rfl)
theorem dX6_unwrap_187 : decode cX6_unwrap 187 = .ok (.goto 6, 3) := dk_167 0 6 (dk_at dksX6_unwrap_8 3 rfl rfl)
theorem dX6_unwrap_190 : decode cX6_unwrap 190 = .ok (.sipush 128, 3) := dk_17 0 128 (dk_at dksX6_unwrap_8 6 rfl rfl)
theorem dX6_unwrap_193 : decode cX6_unwrap 193 = .ok (.iload 4, 2) := dk_21 4 (dk_at dksX6_unwrap_8 9 rfl rfl)
theorem dX6_unwrap_195 : decode cX6_unwrap 195 = .ok (.iadd, 1) := dk_96 (dk_at dksX6_unwrap_8 11 rfl rfl)
theorem dX6_unwrap_196 : decode cX6_unwrap 196 = .ok (.iastore, 1) := dk_79 (dk_at dksX6_unwrap_8 12 rfl rfl)
theorem dX6_unwrap_197 : decode cX6_unwrap 197 = .ok (.goto 28, 3) := dk_167 0 28 (dk_at dksX6_unwrap_8 13 rfl rfl)
theorem dX6_unwrap_200 : decode cX6_unwrap 200 = .ok (.aload_n 0, 1) := dk_42 (dk_at dksX6_unwrap_8 16 rfl rfl)
theorem dX6_unwrap_201 : decode cX6_unwrap 201 = .ok (.getfield 57, 3) := dk_180 0 57 (dk_at dksX6_unwrap_8 17 rfl rfl)
theorem dX6_unwrap_204 : decode cX6_unwrap 204 = .ok (.aload_n 0, 1) := dk_42 (dk_at dksX6_unwrap_8 20 rfl rfl)
theorem dX6_unwrap_205 : decode cX6_unwrap 205 = .ok (.getfield 225, 3) := dk_180 0 225 (dk_at dksX6_unwrap_8 21 rfl rfl)
theorem dX6_unwrap_208 : decode cX6_unwrap 208 = .ok (.sipush 160, 3) := dk_17 0 160 (dk_at dksX6_unwrap_9 0 rfl rfl)
theorem dX6_unwrap_211 : decode cX6_unwrap 211 = .ok (.iload 4, 2) := dk_21 4 (dk_at dksX6_unwrap_9 3 rfl rfl)
theorem dX6_unwrap_213 : decode cX6_unwrap 213 = .ok (.iadd, 1) := dk_96 (dk_at dksX6_unwrap_9 5 rfl rfl)
theorem dX6_unwrap_214 : decode cX6_unwrap 214 = .ok (.iastore, 1) := dk_79 (dk_at dksX6_unwrap_9 6 rfl rfl)
theorem dX6_unwrap_215 : decode cX6_unwrap 215 = .ok (.aload_n 0, 1) := dk_42 (dk_at dksX6_unwrap_9 7 rfl rfl)
theorem dX6_unwrap_216 : decode cX6_unwrap 216 = .ok (.dup, 1) := dk_89 (dk_at dksX6_unwrap_9 8 rfl rfl)
theorem dX6_unwrap_217 : decode cX6_unwrap 217 = .ok (.getfield 225, 3) := dk_180 0 225 (dk_at dksX6_unwrap_9 9 rfl rfl)
theorem dX6_unwrap_220 : decode cX6_unwrap 220 = .ok (.iconst 1, 1) := dk_4 (dk_at dksX6_unwrap_9 12 rfl rfl)
theorem dX6_unwrap_221 : decode cX6_unwrap 221 = .ok (.iadd, 1) := dk_96 (dk_at dksX6_unwrap_9 13 rfl rfl)
theorem dX6_unwrap_222 : decode cX6_unwrap 222 = .ok (.putfield 225, 3) := dk_181 0 225 (dk_at dksX6_unwrap_9 14 rfl rfl)
theorem dX6_unwrap_225 : decode cX6_unwrap 225 = .ok (.goto (-123), 3) := dk_167 255 133 (dk_at dksX6_unwrap_9 17 rfl rfl)
theorem dX6_unwrap_228 : decode cX6_unwrap 228 = .ok (.return_, 1) := dk_177 (dk_at dksX6_unwrap_9 20 rfl rfl)
abbrev cX6_clashes : ByteArray := prog_18_method_23_code
def yX6_clashes : MethodName := ⟨RX6, "clashes", "(I)Z"⟩
def dkwX6_clashes_5 : List UInt8 := [28, 172]
abbrev dktX6_clashes_5 : List UInt8 := dkwX6_clashes_5 ++ []
def dkwX6_clashes_4 : List UInt8 := [132, 4, 1, 167, 255, 170, 42, 180, 0, 20, 27, 46, 16, 9, 160, 0, 10, 42, 180, 0, 35, 27, 29, 79]
abbrev dktX6_clashes_4 : List UInt8 := dkwX6_clashes_4 ++ dktX6_clashes_5
def dkwX6_clashes_3 : List UInt8 := [154, 0, 7, 3, 167, 0, 17, 29, 42, 180, 0, 35, 42, 180, 0, 48, 21, 4, 46, 46, 128, 62]
abbrev dktX6_clashes_3 : List UInt8 := dkwX6_clashes_3 ++ dktX6_clashes_4
def dkwX6_clashes_2 : List UInt8 := [4, 167, 0, 4, 3, 61, 42, 180, 0, 20, 27, 46, 16, 6, 160, 0, 17, 42, 180, 0, 51, 21, 4, 46]
abbrev dktX6_clashes_2 : List UInt8 := dkwX6_clashes_2 ++ dktX6_clashes_3
def dkwX6_clashes_1 : List UInt8 := [162, 0, 76, 28, 154, 0, 20, 29, 42, 180, 0, 35, 42, 180, 0, 48, 21, 4, 46, 46, 126, 153, 0, 7]
abbrev dktX6_clashes_1 : List UInt8 := dkwX6_clashes_1 ++ dktX6_clashes_2
def dkwX6_clashes_0 : List UInt8 := [3, 61, 3, 62, 16, 6, 27, 104, 54, 4, 21, 4, 16, 6, 27, 104, 42, 180, 0, 32, 27, 46, 96]
abbrev dktX6_clashes_0 : List UInt8 := dkwX6_clashes_0 ++ dktX6_clashes_1
theorem dksX6_clashes_0 : cX6_clashes.data.toList.drop 0 = dktX6_clashes_0 := by decide +kernel
theorem dksX6_clashes_1 : cX6_clashes.data.toList.drop 23 = dktX6_clashes_1 := dk_seg dksX6_clashes_0 23 rfl rfl
theorem dksX6_clashes_2 : cX6_clashes.data.toList.drop 47 = dktX6_clashes_2 := dk_seg dksX6_clashes_1 24 rfl rfl
theorem dksX6_clashes_3 : cX6_clashes.data.toList.drop 71 = dktX6_clashes_3 := dk_seg dksX6_clashes_2 24 rfl rfl
theorem dksX6_clashes_4 : cX6_clashes.data.toList.drop 93 = dktX6_clashes_4 := dk_seg dksX6_clashes_3 22 rfl rfl
theorem dksX6_clashes_5 : cX6_clashes.data.toList.drop 117 = dktX6_clashes_5 := dk_seg dksX6_clashes_4 24 rfl rfl
theorem dX6_clashes_0 : decode cX6_clashes 0 = .ok (.iconst 0, 1) := dk_3 (dk_at dksX6_clashes_0 0 rfl rfl)
theorem dX6_clashes_1 : decode cX6_clashes 1 = .ok (.istore_n 2, 1) := dk_61 (dk_at dksX6_clashes_0 1 rfl rfl)
theorem dX6_clashes_2 : decode cX6_clashes 2 = .ok (.iconst 0, 1) := dk_3 (dk_at dksX6_clashes_0 2 rfl rfl)
theorem dX6_clashes_3 : decode cX6_clashes 3 = .ok (.istore_n 3, 1) := dk_62 (dk_at dksX6_clashes_0 3 rfl rfl)
theorem dX6_clashes_4 : decode cX6_clashes 4 = .ok (.bipush 6, 2) := dk_16 6 (dk_at dksX6_clashes_0 4 rfl rfl)
theorem dX6_clashes_6 : decode cX6_clashes 6 = .ok (.iload_n 1, 1) := dk_27 (dk_at dksX6_clashes_0 6 rfl rfl)
theorem dX6_clashes_7 : decode cX6_clashes 7 = .ok (.imul, 1) := dk_104 (dk_at dksX6_clashes_0 7 rfl rfl)
theorem dX6_clashes_8 : decode cX6_clashes 8 = .ok (.istore 4, 2) := dk_54 4 (dk_at dksX6_clashes_0 8 rfl rfl)
theorem dX6_clashes_10 : decode cX6_clashes 10 = .ok (.iload 4, 2) := dk_21 4 (dk_at dksX6_clashes_0 10 rfl rfl)
theorem dX6_clashes_12 : decode cX6_clashes 12 = .ok (.bipush 6, 2) := dk_16 6 (dk_at dksX6_clashes_0 12 rfl rfl)
theorem dX6_clashes_14 : decode cX6_clashes 14 = .ok (.iload_n 1, 1) := dk_27 (dk_at dksX6_clashes_0 14 rfl rfl)
theorem dX6_clashes_15 : decode cX6_clashes 15 = .ok (.imul, 1) := dk_104 (dk_at dksX6_clashes_0 15 rfl rfl)
theorem dX6_clashes_16 : decode cX6_clashes 16 = .ok (.aload_n 0, 1) := dk_42 (dk_at dksX6_clashes_0 16 rfl rfl)
theorem dX6_clashes_17 : decode cX6_clashes 17 = .ok (.getfield 32, 3) := dk_180 0 32 (dk_at dksX6_clashes_0 17 rfl rfl)
theorem dX6_clashes_20 : decode cX6_clashes 20 = .ok (.iload_n 1, 1) := dk_27 (dk_at dksX6_clashes_0 20 rfl rfl)
theorem dX6_clashes_21 : decode cX6_clashes 21 = .ok (.iaload, 1) := dk_46 (dk_at dksX6_clashes_0 21 rfl rfl)
theorem dX6_clashes_22 : decode cX6_clashes 22 = .ok (.iadd, 1) := dk_96 (dk_at dksX6_clashes_0 22 rfl rfl)
theorem dX6_clashes_23 : decode cX6_clashes 23 = .ok (.if_icmp .ge 76, 3) := dk_162 0 76 (dk_at dksX6_clashes_1 0 rfl rfl)
theorem dX6_clashes_26 : decode cX6_clashes 26 = .ok (.iload_n 2, 1) := dk_28 (dk_at dksX6_clashes_1 3 rfl rfl)
theorem dX6_clashes_27 : decode cX6_clashes 27 = .ok (.ifCond .ne 20, 3) := dk_154 0 20 (dk_at dksX6_clashes_1 4 rfl rfl)
theorem dX6_clashes_30 : decode cX6_clashes 30 = .ok (.iload_n 3, 1) := dk_29 (dk_at dksX6_clashes_1 7 rfl rfl)
theorem dX6_clashes_31 : decode cX6_clashes 31 = .ok (.aload_n 0, 1) := dk_42 (dk_at dksX6_clashes_1 8 rfl rfl)
theorem dX6_clashes_32 : decode cX6_clashes 32 = .ok (.getfield 35, 3) := dk_180 0 35 (dk_at dksX6_clashes_1 9 rfl rfl)
theorem dX6_clashes_35 : decode cX6_clashes 35 = .ok (.aload_n 0, 1) := dk_42 (dk_at dksX6_clashes_1 12 rfl rfl)
theorem dX6_clashes_36 : decode cX6_clashes 36 = .ok (.getfield 48, 3) := dk_180 0 48 (dk_at dksX6_clashes_1 13 rfl rfl)
theorem dX6_clashes_39 : decode cX6_clashes 39 = .ok (.iload 4, 2) := dk_21 4 (dk_at dksX6_clashes_1 16 rfl rfl)
theorem dX6_clashes_41 : decode cX6_clashes 41 = .ok (.iaload, 1) := dk_46 (dk_at dksX6_clashes_1 18 rfl rfl)
theorem dX6_clashes_42 : decode cX6_clashes 42 = .ok (.iaload, 1) := dk_46 (dk_at dksX6_clashes_1 19 rfl rfl)
theorem dX6_clashes_43 : decode cX6_clashes 43 = .ok (.iand, 1) := dk_126 (dk_at dksX6_clashes_1 20 rfl rfl)
theorem dX6_clashes_44 : decode cX6_clashes 44 = .ok (.ifCond .eq 7, 3) := dk_153 0 7 (dk_at dksX6_clashes_1 21 rfl rfl)
theorem dX6_clashes_47 : decode cX6_clashes 47 = .ok (.iconst 1, 1) := dk_4 (dk_at dksX6_clashes_2 0 rfl rfl)
theorem dX6_clashes_48 : decode cX6_clashes 48 = .ok (.goto 4, 3) := dk_167 0 4 (dk_at dksX6_clashes_2 1 rfl rfl)
theorem dX6_clashes_51 : decode cX6_clashes 51 = .ok (.iconst 0, 1) := dk_3 (dk_at dksX6_clashes_2 4 rfl rfl)
theorem dX6_clashes_52 : decode cX6_clashes 52 = .ok (.istore_n 2, 1) := dk_61 (dk_at dksX6_clashes_2 5 rfl rfl)
theorem dX6_clashes_53 : decode cX6_clashes 53 = .ok (.aload_n 0, 1) := dk_42 (dk_at dksX6_clashes_2 6 rfl rfl)
theorem dX6_clashes_54 : decode cX6_clashes 54 = .ok (.getfield 20, 3) := dk_180 0 20 (dk_at dksX6_clashes_2 7 rfl rfl)
theorem dX6_clashes_57 : decode cX6_clashes 57 = .ok (.iload_n 1, 1) := dk_27 (dk_at dksX6_clashes_2 10 rfl rfl)
theorem dX6_clashes_58 : decode cX6_clashes 58 = .ok (.iaload, 1) := dk_46 (dk_at dksX6_clashes_2 11 rfl rfl)
theorem dX6_clashes_59 : decode cX6_clashes 59 = .ok (.bipush 6, 2) := dk_16 6 (dk_at dksX6_clashes_2 12 rfl rfl)
theorem dX6_clashes_61 : decode cX6_clashes 61 = .ok (.if_icmp .ne 17, 3) := dk_160 0 17 (dk_at dksX6_clashes_2 14 rfl rfl)
theorem dX6_clashes_64 : decode cX6_clashes 64 = .ok (.aload_n 0, 1) := dk_42 (dk_at dksX6_clashes_2 17 rfl rfl)
theorem dX6_clashes_65 : decode cX6_clashes 65 = .ok (.getfield 51, 3) := dk_180 0 51 (dk_at dksX6_clashes_2 18 rfl rfl)
theorem dX6_clashes_68 : decode cX6_clashes 68 = .ok (.iload 4, 2) := dk_21 4 (dk_at dksX6_clashes_2 21 rfl rfl)
theorem dX6_clashes_70 : decode cX6_clashes 70 = .ok (.iaload, 1) := dk_46 (dk_at dksX6_clashes_2 23 rfl rfl)
theorem dX6_clashes_71 : decode cX6_clashes 71 = .ok (.ifCond .ne 7, 3) := dk_154 0 7 (dk_at dksX6_clashes_3 0 rfl rfl)
theorem dX6_clashes_74 : decode cX6_clashes 74 = .ok (.iconst 0, 1) := dk_3 (dk_at dksX6_clashes_3 3 rfl rfl)
theorem dX6_clashes_75 : decode cX6_clashes 75 = .ok (.goto 17, 3) := dk_167 0 17 (dk_at dksX6_clashes_3 4 rfl rfl)
theorem dX6_clashes_78 : decode cX6_clashes 78 = .ok (.iload_n 3, 1) := dk_29 (dk_at dksX6_clashes_3 7 rfl rfl)
theorem dX6_clashes_79 : decode cX6_clashes 79 = .ok (.aload_n 0, 1) := dk_42 (dk_at dksX6_clashes_3 8 rfl rfl)
theorem dX6_clashes_80 : decode cX6_clashes 80 = .ok (.getfield 35, 3) := dk_180 0 35 (dk_at dksX6_clashes_3 9 rfl rfl)
theorem dX6_clashes_83 : decode cX6_clashes 83 = .ok (.aload_n 0, 1) := dk_42 (dk_at dksX6_clashes_3 12 rfl rfl)
theorem dX6_clashes_84 : decode cX6_clashes 84 = .ok (.getfield 48, 3) := dk_180 0 48 (dk_at dksX6_clashes_3 13 rfl rfl)
theorem dX6_clashes_87 : decode cX6_clashes 87 = .ok (.iload 4, 2) := dk_21 4 (dk_at dksX6_clashes_3 16 rfl rfl)
theorem dX6_clashes_89 : decode cX6_clashes 89 = .ok (.iaload, 1) := dk_46 (dk_at dksX6_clashes_3 18 rfl rfl)
theorem dX6_clashes_90 : decode cX6_clashes 90 = .ok (.iaload, 1) := dk_46 (dk_at dksX6_clashes_3 19 rfl rfl)
theorem dX6_clashes_91 : decode cX6_clashes 91 = .ok (.ior, 1) := dk_128 (dk_at dksX6_clashes_3 20 rfl rfl)
theorem dX6_clashes_92 : decode cX6_clashes 92 = .ok (.istore_n 3, 1) := dk_62 (dk_at dksX6_clashes_3 21 rfl rfl)
theorem dX6_clashes_93 : decode cX6_clashes 93 = .ok (.iinc 4 1, 3) := dk_132 4 1 (dk_at dksX6_clashes_4 0 rfl rfl)
theorem dX6_clashes_96 : decode cX6_clashes 96 = .ok (.goto (-86), 3) := dk_167 255 170 (dk_at dksX6_clashes_4 3 rfl rfl)
theorem dX6_clashes_99 : decode cX6_clashes 99 = .ok (.aload_n 0, 1) := dk_42 (dk_at dksX6_clashes_4 6 rfl rfl)
theorem dX6_clashes_100 : decode cX6_clashes 100 = .ok (.getfield 20, 3) := dk_180 0 20 (dk_at dksX6_clashes_4 7 rfl rfl)
theorem dX6_clashes_103 : decode cX6_clashes 103 = .ok (.iload_n 1, 1) := dk_27 (dk_at dksX6_clashes_4 10 rfl rfl)
theorem dX6_clashes_104 : decode cX6_clashes 104 = .ok (.iaload, 1) := dk_46 (dk_at dksX6_clashes_4 11 rfl rfl)
theorem dX6_clashes_105 : decode cX6_clashes 105 = .ok (.bipush 9, 2) := dk_16 9 (dk_at dksX6_clashes_4 12 rfl rfl)
theorem dX6_clashes_107 : decode cX6_clashes 107 = .ok (.if_icmp .ne 10, 3) := dk_160 0 10 (dk_at dksX6_clashes_4 14 rfl rfl)
theorem dX6_clashes_110 : decode cX6_clashes 110 = .ok (.aload_n 0, 1) := dk_42 (dk_at dksX6_clashes_4 17 rfl rfl)
theorem dX6_clashes_111 : decode cX6_clashes 111 = .ok (.getfield 35, 3) := dk_180 0 35 (dk_at dksX6_clashes_4 18 rfl rfl)
theorem dX6_clashes_114 : decode cX6_clashes 114 = .ok (.iload_n 1, 1) := dk_27 (dk_at dksX6_clashes_4 21 rfl rfl)
theorem dX6_clashes_115 : decode cX6_clashes 115 = .ok (.iload_n 3, 1) := dk_29 (dk_at dksX6_clashes_4 22 rfl rfl)
theorem dX6_clashes_116 : decode cX6_clashes 116 = .ok (.iastore, 1) := dk_79 (dk_at dksX6_clashes_4 23 rfl rfl)
theorem dX6_clashes_117 : decode cX6_clashes 117 = .ok (.iload_n 2, 1) := dk_28 (dk_at dksX6_clashes_5 0 rfl rfl)
theorem dX6_clashes_118 : decode cX6_clashes 118 = .ok (.ireturn, 1) := dk_172 (dk_at dksX6_clashes_5 1 rfl rfl)
abbrev cX6_put : ByteArray := prog_18_method_25_code
def yX6_put : MethodName := ⟨RX6, "put", "(JI)Z"⟩
def dkwX6_put_3 : List UInt8 := [132, 4, 255, 167, 255, 217, 4, 172]
abbrev dktX6_put_3 : List UInt8 := dkwX6_put_3 ++ []
def dkwX6_put_2 : List UInt8 := [16, 8, 21, 4, 104, 123, 20, 0, 231, 127, 136, 79, 42, 89, 180, 0, 228, 4, 96, 181, 0, 228]
abbrev dktX6_put_2 : List UInt8 := dkwX6_put_2 ++ dktX6_put_3
def dkwX6_put_1 : List UInt8 := [164, 0, 5, 3, 172, 29, 4, 100, 54, 4, 21, 4, 155, 0, 40, 42, 180, 0, 63, 42, 180, 0, 228, 31]
abbrev dktX6_put_1 : List UInt8 := dkwX6_put_1 ++ dktX6_put_2
def dkwX6_put_0 : List UInt8 := [42, 3, 181, 0, 132, 29, 4, 16, 8, 184, 0, 166, 153, 0, 14, 42, 180, 0, 228, 29, 96, 16, 120]
abbrev dktX6_put_0 : List UInt8 := dkwX6_put_0 ++ dktX6_put_1
theorem dksX6_put_0 : cX6_put.data.toList.drop 0 = dktX6_put_0 := by decide +kernel
theorem dksX6_put_1 : cX6_put.data.toList.drop 23 = dktX6_put_1 := dk_seg dksX6_put_0 23 rfl rfl
theorem dksX6_put_2 : cX6_put.data.toList.drop 47 = dktX6_put_2 := dk_seg dksX6_put_1 24 rfl rfl
theorem dksX6_put_3 : cX6_put.data.toList.drop 69 = dktX6_put_3 := dk_seg dksX6_put_2 22 rfl rfl
theorem dX6_put_0 : decode cX6_put 0 = .ok (.aload_n 0, 1) := dk_42 (dk_at dksX6_put_0 0 rfl rfl)
theorem dX6_put_1 : decode cX6_put 1 = .ok (.iconst 0, 1) := dk_3 (dk_at dksX6_put_0 1 rfl rfl)
theorem dX6_put_2 : decode cX6_put 2 = .ok (.putfield 132, 3) := dk_181 0 132 (dk_at dksX6_put_0 2 rfl rfl)
theorem dX6_put_5 : decode cX6_put 5 = .ok (.iload_n 3, 1) := dk_29 (dk_at dksX6_put_0 5 rfl rfl)
theorem dX6_put_6 : decode cX6_put 6 = .ok (.iconst 1, 1) := dk_4 (dk_at dksX6_put_0 6 rfl rfl)
theorem dX6_put_7 : decode cX6_put 7 = .ok (.bipush 8, 2) := dk_16 8 (dk_at dksX6_put_0 7 rfl rfl)
theorem dX6_put_9 : decode cX6_put 9 = .ok (.invokestatic 166, 3) := dk_184 0 166 (dk_at dksX6_put_0 9 rfl rfl)
theorem dX6_put_12 : decode cX6_put 12 = .ok (.ifCond .eq 14, 3) := dk_153 0 14 (dk_at dksX6_put_0 12 rfl rfl)
theorem dX6_put_15 : decode cX6_put 15 = .ok (.aload_n 0, 1) := dk_42 (dk_at dksX6_put_0 15 rfl rfl)
theorem dX6_put_16 : decode cX6_put 16 = .ok (.getfield 228, 3) := dk_180 0 228 (dk_at dksX6_put_0 16 rfl rfl)
theorem dX6_put_19 : decode cX6_put 19 = .ok (.iload_n 3, 1) := dk_29 (dk_at dksX6_put_0 19 rfl rfl)
theorem dX6_put_20 : decode cX6_put 20 = .ok (.iadd, 1) := dk_96 (dk_at dksX6_put_0 20 rfl rfl)
theorem dX6_put_21 : decode cX6_put 21 = .ok (.bipush 120, 2) := dk_16 120 (dk_at dksX6_put_0 21 rfl rfl)
theorem dX6_put_23 : decode cX6_put 23 = .ok (.if_icmp .le 5, 3) := dk_164 0 5 (dk_at dksX6_put_1 0 rfl rfl)
theorem dX6_put_26 : decode cX6_put 26 = .ok (.iconst 0, 1) := dk_3 (dk_at dksX6_put_1 3 rfl rfl)
theorem dX6_put_27 : decode cX6_put 27 = .ok (.ireturn, 1) := dk_172 (dk_at dksX6_put_1 4 rfl rfl)
theorem dX6_put_28 : decode cX6_put 28 = .ok (.iload_n 3, 1) := dk_29 (dk_at dksX6_put_1 5 rfl rfl)
theorem dX6_put_29 : decode cX6_put 29 = .ok (.iconst 1, 1) := dk_4 (dk_at dksX6_put_1 6 rfl rfl)
theorem dX6_put_30 : decode cX6_put 30 = .ok (.isub, 1) := dk_100 (dk_at dksX6_put_1 7 rfl rfl)
theorem dX6_put_31 : decode cX6_put 31 = .ok (.istore 4, 2) := dk_54 4 (dk_at dksX6_put_1 8 rfl rfl)
theorem dX6_put_33 : decode cX6_put 33 = .ok (.iload 4, 2) := dk_21 4 (dk_at dksX6_put_1 10 rfl rfl)
theorem dX6_put_35 : decode cX6_put 35 = .ok (.ifCond .lt 40, 3) := dk_155 0 40 (dk_at dksX6_put_1 12 rfl rfl)
theorem dX6_put_38 : decode cX6_put 38 = .ok (.aload_n 0, 1) := dk_42 (dk_at dksX6_put_1 15 rfl rfl)
theorem dX6_put_39 : decode cX6_put 39 = .ok (.getfield 63, 3) := dk_180 0 63 (dk_at dksX6_put_1 16 rfl rfl)
theorem dX6_put_42 : decode cX6_put 42 = .ok (.aload_n 0, 1) := dk_42 (dk_at dksX6_put_1 19 rfl rfl)
theorem dX6_put_43 : decode cX6_put 43 = .ok (.getfield 228, 3) := dk_180 0 228 (dk_at dksX6_put_1 20 rfl rfl)
theorem dX6_put_46 : decode cX6_put 46 = .ok (.lload_n 1, 1) := dk_31 (dk_at dksX6_put_1 23 rfl rfl)
theorem dX6_put_47 : decode cX6_put 47 = .ok (.bipush 8, 2) := dk_16 8 (dk_at dksX6_put_2 0 rfl rfl)
theorem dX6_put_49 : decode cX6_put 49 = .ok (.iload 4, 2) := dk_21 4 (dk_at dksX6_put_2 2 rfl rfl)
theorem dX6_put_51 : decode cX6_put 51 = .ok (.imul, 1) := dk_104 (dk_at dksX6_put_2 4 rfl rfl)
theorem dX6_put_52 : decode cX6_put 52 = .ok (.lshr, 1) := dk_123 (dk_at dksX6_put_2 5 rfl rfl)
theorem dX6_put_53 : decode cX6_put 53 = .ok (.ldc2_w 231, 3) := dk_20 0 231 (dk_at dksX6_put_2 6 rfl rfl)
theorem dX6_put_56 : decode cX6_put 56 = .ok (.land, 1) := dk_127 (dk_at dksX6_put_2 9 rfl rfl)
theorem dX6_put_57 : decode cX6_put 57 = .ok (.l2i, 1) := dk_136 (dk_at dksX6_put_2 10 rfl rfl)
theorem dX6_put_58 : decode cX6_put 58 = .ok (.iastore, 1) := dk_79 (dk_at dksX6_put_2 11 rfl rfl)
theorem dX6_put_59 : decode cX6_put 59 = .ok (.aload_n 0, 1) := dk_42 (dk_at dksX6_put_2 12 rfl rfl)
theorem dX6_put_60 : decode cX6_put 60 = .ok (.dup, 1) := dk_89 (dk_at dksX6_put_2 13 rfl rfl)
theorem dX6_put_61 : decode cX6_put 61 = .ok (.getfield 228, 3) := dk_180 0 228 (dk_at dksX6_put_2 14 rfl rfl)
theorem dX6_put_64 : decode cX6_put 64 = .ok (.iconst 1, 1) := dk_4 (dk_at dksX6_put_2 17 rfl rfl)
theorem dX6_put_65 : decode cX6_put 65 = .ok (.iadd, 1) := dk_96 (dk_at dksX6_put_2 18 rfl rfl)
theorem dX6_put_66 : decode cX6_put 66 = .ok (.putfield 228, 3) := dk_181 0 228 (dk_at dksX6_put_2 19 rfl rfl)
theorem dX6_put_69 : decode cX6_put 69 = .ok (.iinc 4 (-1), 3) := dk_132 4 255 (dk_at dksX6_put_3 0 rfl rfl)
theorem dX6_put_72 : decode cX6_put 72 = .ok (.goto (-39), 3) := dk_167 255 217 (dk_at dksX6_put_3 3 rfl rfl)
theorem dX6_put_75 : decode cX6_put 75 = .ok (.iconst 1, 1) := dk_4 (dk_at dksX6_put_3 6 rfl rfl)
theorem dX6_put_76 : decode cX6_put 76 = .ok (.ireturn, 1) := dk_172 (dk_at dksX6_put_3 7 rfl rfl)
abbrev cX6_wipe : ByteArray := prog_18_method_26_code
def yX6_wipe : MethodName := ⟨RX6, "wipe", "()I"⟩
def dkwX6_wipe_0 : List UInt8 := [42, 3, 181, 0, 132, 42, 180, 0, 228, 60, 42, 3, 181, 0, 228, 27, 172]
abbrev dktX6_wipe_0 : List UInt8 := dkwX6_wipe_0 ++ []
theorem dksX6_wipe_0 : cX6_wipe.data.toList.drop 0 = dktX6_wipe_0 := by decide +kernel
theorem dX6_wipe_0 : decode cX6_wipe 0 = .ok (.aload_n 0, 1) := dk_42 (dk_at dksX6_wipe_0 0 rfl rfl)
theorem dX6_wipe_1 : decode cX6_wipe 1 = .ok (.iconst 0, 1) := dk_3 (dk_at dksX6_wipe_0 1 rfl rfl)
theorem dX6_wipe_2 : decode cX6_wipe 2 = .ok (.putfield 132, 3) := dk_181 0 132 (dk_at dksX6_wipe_0 2 rfl rfl)
theorem dX6_wipe_5 : decode cX6_wipe 5 = .ok (.aload_n 0, 1) := dk_42 (dk_at dksX6_wipe_0 5 rfl rfl)
theorem dX6_wipe_6 : decode cX6_wipe 6 = .ok (.getfield 228, 3) := dk_180 0 228 (dk_at dksX6_wipe_0 6 rfl rfl)
theorem dX6_wipe_9 : decode cX6_wipe 9 = .ok (.istore_n 1, 1) := dk_60 (dk_at dksX6_wipe_0 9 rfl rfl)
theorem dX6_wipe_10 : decode cX6_wipe 10 = .ok (.aload_n 0, 1) := dk_42 (dk_at dksX6_wipe_0 10 rfl rfl)
theorem dX6_wipe_11 : decode cX6_wipe 11 = .ok (.iconst 0, 1) := dk_3 (dk_at dksX6_wipe_0 11 rfl rfl)
theorem dX6_wipe_12 : decode cX6_wipe 12 = .ok (.putfield 228, 3) := dk_181 0 228 (dk_at dksX6_wipe_0 12 rfl rfl)
theorem dX6_wipe_15 : decode cX6_wipe 15 = .ok (.iload_n 1, 1) := dk_27 (dk_at dksX6_wipe_0 15 rfl rfl)
theorem dX6_wipe_16 : decode cX6_wipe 16 = .ok (.ireturn, 1) := dk_172 (dk_at dksX6_wipe_0 16 rfl rfl)
abbrev cX6_at : ByteArray := prog_18_method_27_code
def yX6_at : MethodName := ⟨RX6, "at", "(I)I"⟩
def dkwX6_at_2 : List UInt8 := [180, 0, 63, 27, 46, 172]
abbrev dktX6_at_2 : List UInt8 := dkwX6_at_2 ++ []
def dkwX6_at_1 : List UInt8 := [180, 0, 132, 158, 0, 7, 3, 167, 0, 20, 27, 156, 0, 10, 42, 180, 0, 228, 167, 0, 9, 42]
abbrev dktX6_at_1 : List UInt8 := dkwX6_at_1 ++ dktX6_at_2
def dkwX6_at_0 : List UInt8 := [42, 27, 2, 42, 180, 0, 228, 4, 100, 184, 0, 166, 153, 0, 7, 3, 167, 0, 4, 4, 181, 0, 132, 42]
abbrev dktX6_at_0 : List UInt8 := dkwX6_at_0 ++ dktX6_at_1
theorem dksX6_at_0 : cX6_at.data.toList.drop 0 = dktX6_at_0 := by decide +kernel
theorem dksX6_at_1 : cX6_at.data.toList.drop 24 = dktX6_at_1 := dk_seg dksX6_at_0 24 rfl rfl
theorem dksX6_at_2 : cX6_at.data.toList.drop 46 = dktX6_at_2 := dk_seg dksX6_at_1 22 rfl rfl
theorem dX6_at_0 : decode cX6_at 0 = .ok (.aload_n 0, 1) := dk_42 (dk_at dksX6_at_0 0 rfl rfl)
theorem dX6_at_1 : decode cX6_at 1 = .ok (.iload_n 1, 1) := dk_27 (dk_at dksX6_at_0 1 rfl rfl)
theorem dX6_at_2 : decode cX6_at 2 = .ok (.iconst (-1), 1) := dk_2 (dk_at dksX6_at_0 2 rfl rfl)
theorem dX6_at_3 : decode cX6_at 3 = .ok (.aload_n 0, 1) := dk_42 (dk_at dksX6_at_0 3 rfl rfl)
theorem dX6_at_4 : decode cX6_at 4 = .ok (.getfield 228, 3) := dk_180 0 228 (dk_at dksX6_at_0 4 rfl rfl)
theorem dX6_at_7 : decode cX6_at 7 = .ok (.iconst 1, 1) := dk_4 (dk_at dksX6_at_0 7 rfl rfl)
theorem dX6_at_8 : decode cX6_at 8 = .ok (.isub, 1) := dk_100 (dk_at dksX6_at_0 8 rfl rfl)
theorem dX6_at_9 : decode cX6_at 9 = .ok (.invokestatic 166, 3) := dk_184 0 166 (dk_at dksX6_at_0 9 rfl rfl)
theorem dX6_at_12 : decode cX6_at 12 = .ok (.ifCond .eq 7, 3) := dk_153 0 7 (dk_at dksX6_at_0 12 rfl rfl)
theorem dX6_at_15 : decode cX6_at 15 = .ok (.iconst 0, 1) := dk_3 (dk_at dksX6_at_0 15 rfl rfl)
theorem dX6_at_16 : decode cX6_at 16 = .ok (.goto 4, 3) := dk_167 0 4 (dk_at dksX6_at_0 16 rfl rfl)
theorem dX6_at_19 : decode cX6_at 19 = .ok (.iconst 1, 1) := dk_4 (dk_at dksX6_at_0 19 rfl rfl)
theorem dX6_at_20 : decode cX6_at 20 = .ok (.putfield 132, 3) := dk_181 0 132 (dk_at dksX6_at_0 20 rfl rfl)
theorem dX6_at_23 : decode cX6_at 23 = .ok (.aload_n 0, 1) := dk_42 (dk_at dksX6_at_0 23 rfl rfl)
theorem dX6_at_24 : decode cX6_at 24 = .ok (.getfield 132, 3) := dk_180 0 132 (dk_at dksX6_at_1 0 rfl rfl)
theorem dX6_at_27 : decode cX6_at 27 = .ok (.ifCond .le 7, 3) := dk_158 0 7 (dk_at dksX6_at_1 3 rfl rfl)
theorem dX6_at_30 : decode cX6_at 30 = .ok (.iconst 0, 1) := dk_3 (dk_at dksX6_at_1 6 rfl rfl)
theorem dX6_at_31 : decode cX6_at 31 = .ok (.goto 20, 3) := dk_167 0 20 (dk_at dksX6_at_1 7 rfl rfl)
theorem dX6_at_34 : decode cX6_at 34 = .ok (.iload_n 1, 1) := dk_27 (dk_at dksX6_at_1 10 rfl rfl)
theorem dX6_at_35 : decode cX6_at 35 = .ok (.ifCond .ge 10, 3) := dk_156 0 10 (dk_at dksX6_at_1 11 rfl rfl)
theorem dX6_at_38 : decode cX6_at 38 = .ok (.aload_n 0, 1) := dk_42 (dk_at dksX6_at_1 14 rfl rfl)
theorem dX6_at_39 : decode cX6_at 39 = .ok (.getfield 228, 3) := dk_180 0 228 (dk_at dksX6_at_1 15 rfl rfl)
theorem dX6_at_42 : decode cX6_at 42 = .ok (.goto 9, 3) := dk_167 0 9 (dk_at dksX6_at_1 18 rfl rfl)
theorem dX6_at_45 : decode cX6_at 45 = .ok (.aload_n 0, 1) := dk_42 (dk_at dksX6_at_1 21 rfl rfl)
theorem dX6_at_46 : decode cX6_at 46 = .ok (.getfield 63, 3) := dk_180 0 63 (dk_at dksX6_at_2 0 rfl rfl)
theorem dX6_at_49 : decode cX6_at 49 = .ok (.iload_n 1, 1) := dk_27 (dk_at dksX6_at_2 3 rfl rfl)
theorem dX6_at_50 : decode cX6_at 50 = .ok (.iaload, 1) := dk_46 (dk_at dksX6_at_2 4 rfl rfl)
theorem dX6_at_51 : decode cX6_at 51 = .ok (.ireturn, 1) := dk_172 (dk_at dksX6_at_2 5 rfl rfl)
abbrev cX6_transcode : ByteArray := prog_18_method_68_code
def yX6_transcode : MethodName := ⟨RX6, "transcode", "(CII)I"⟩
def dkwX6_transcode_5 : List UInt8 := [42, 180, 1, 14, 181, 0, 228, 42, 180, 1, 14, 172]
abbrev dktX6_transcode_5 : List UInt8 := dkwX6_transcode_5 ++ []
def dkwX6_transcode_4 : List UInt8 := [162, 0, 23, 42, 180, 0, 63, 21, 4, 42, 180, 0, 69, 21, 4, 46, 79, 132, 4, 1, 167, 255, 230, 42]
abbrev dktX6_transcode_4 : List UInt8 := dkwX6_transcode_4 ++ dktX6_transcode_5
def dkwX6_transcode_3 : List UInt8 := [164, 0, 9, 42, 7, 182, 1, 127, 172, 42, 182, 1, 130, 3, 54, 4, 21, 4, 42, 180, 1, 14]
abbrev dktX6_transcode_3 : List UInt8 := dkwX6_transcode_3 ++ dktX6_transcode_4
def dkwX6_transcode_2 : List UInt8 := [27, 182, 1, 112, 28, 182, 1, 123, 154, 0, 5, 2, 172, 42, 29, 182, 1, 11, 42, 180, 1, 14, 16, 120]
abbrev dktX6_transcode_2 : List UInt8 := dkwX6_transcode_2 ++ dktX6_transcode_3
def dkwX6_transcode_1 : List UInt8 := [3, 27, 182, 1, 116, 181, 0, 132, 42, 180, 0, 132, 158, 0, 5, 3, 172, 42, 3, 182, 1, 120, 42, 42]
abbrev dktX6_transcode_1 : List UInt8 := dkwX6_transcode_1 ++ dktX6_transcode_2
def dkwX6_transcode_0 : List UInt8 := [42, 42, 28, 3, 5, 184, 0, 166, 153, 0, 16, 29, 4, 5, 184, 0, 166, 153, 0, 7, 4, 167, 0, 4]
abbrev dktX6_transcode_0 : List UInt8 := dkwX6_transcode_0 ++ dktX6_transcode_1
theorem dksX6_transcode_0 : cX6_transcode.data.toList.drop 0 = dktX6_transcode_0 := by decide +kernel
theorem dksX6_transcode_1 : cX6_transcode.data.toList.drop 24 = dktX6_transcode_1 := dk_seg dksX6_transcode_0 24 rfl rfl
theorem dksX6_transcode_2 : cX6_transcode.data.toList.drop 48 = dktX6_transcode_2 := dk_seg dksX6_transcode_1 24 rfl rfl
theorem dksX6_transcode_3 : cX6_transcode.data.toList.drop 72 = dktX6_transcode_3 := dk_seg dksX6_transcode_2 24 rfl rfl
theorem dksX6_transcode_4 : cX6_transcode.data.toList.drop 94 = dktX6_transcode_4 := dk_seg dksX6_transcode_3 22 rfl rfl
theorem dksX6_transcode_5 : cX6_transcode.data.toList.drop 118 = dktX6_transcode_5 := dk_seg dksX6_transcode_4 24 rfl rfl
theorem dX6_transcode_0 : decode cX6_transcode 0 = .ok (.aload_n 0, 1) := dk_42 (dk_at dksX6_transcode_0 0 rfl rfl)
theorem dX6_transcode_1 : decode cX6_transcode 1 = .ok (.aload_n 0, 1) := dk_42 (dk_at dksX6_transcode_0 1 rfl rfl)
theorem dX6_transcode_2 : decode cX6_transcode 2 = .ok (.iload_n 2, 1) := dk_28 (dk_at dksX6_transcode_0 2 rfl rfl)
theorem dX6_transcode_3 : decode cX6_transcode 3 = .ok (.iconst 0, 1) := dk_3 (dk_at dksX6_transcode_0 3 rfl rfl)
theorem dX6_transcode_4 : decode cX6_transcode 4 = .ok (.iconst 2, 1) := dk_5 (dk_at dksX6_transcode_0 4 rfl rfl)
theorem dX6_transcode_5 : decode cX6_transcode 5 = .ok (.invokestatic 166, 3) := dk_184 0 166 (dk_at dksX6_transcode_0 5 rfl rfl)
theorem dX6_transcode_8 : decode cX6_transcode 8 = .ok (.ifCond .eq 16, 3) := dk_153 0 16 (dk_at dksX6_transcode_0 8 rfl rfl)
theorem dX6_transcode_11 : decode cX6_transcode 11 = .ok (.iload_n 3, 1) := dk_29 (dk_at dksX6_transcode_0 11 rfl rfl)
theorem dX6_transcode_12 : decode cX6_transcode 12 = .ok (.iconst 1, 1) := dk_4 (dk_at dksX6_transcode_0 12 rfl rfl)
theorem dX6_transcode_13 : decode cX6_transcode 13 = .ok (.iconst 2, 1) := dk_5 (dk_at dksX6_transcode_0 13 rfl rfl)
theorem dX6_transcode_14 : decode cX6_transcode 14 = .ok (.invokestatic 166, 3) := dk_184 0 166 (dk_at dksX6_transcode_0 14 rfl rfl)
theorem dX6_transcode_17 : decode cX6_transcode 17 = .ok (.ifCond .eq 7, 3) := dk_153 0 7 (dk_at dksX6_transcode_0 17 rfl rfl)
theorem dX6_transcode_20 : decode cX6_transcode 20 = .ok (.iconst 1, 1) := dk_4 (dk_at dksX6_transcode_0 20 rfl rfl)
theorem dX6_transcode_21 : decode cX6_transcode 21 = .ok (.goto 4, 3) := dk_167 0 4 (dk_at dksX6_transcode_0 21 rfl rfl)
theorem dX6_transcode_24 : decode cX6_transcode 24 = .ok (.iconst 0, 1) := dk_3 (dk_at dksX6_transcode_1 0 rfl rfl)
theorem dX6_transcode_25 : decode cX6_transcode 25 = .ok (.iload_n 1, 1) := dk_27 (dk_at dksX6_transcode_1 1 rfl rfl)
theorem dX6_transcode_26 : decode cX6_transcode 26 = .ok (.invokevirtual 372, 3) := dk_182 1 116 (dk_at dksX6_transcode_1 2 rfl rfl)
theorem dX6_transcode_29 : decode cX6_transcode 29 = .ok (.putfield 132, 3) := dk_181 0 132 (dk_at dksX6_transcode_1 5 rfl rfl)
theorem dX6_transcode_32 : decode cX6_transcode 32 = .ok (.aload_n 0, 1) := dk_42 (dk_at dksX6_transcode_1 8 rfl rfl)
theorem dX6_transcode_33 : decode cX6_transcode 33 = .ok (.getfield 132, 3) := dk_180 0 132 (dk_at dksX6_transcode_1 9 rfl rfl)
theorem dX6_transcode_36 : decode cX6_transcode 36 = .ok (.ifCond .le 5, 3) := dk_158 0 5 (dk_at dksX6_transcode_1 12 rfl rfl)
theorem dX6_transcode_39 : decode cX6_transcode 39 = .ok (.iconst 0, 1) := dk_3 (dk_at dksX6_transcode_1 15 rfl rfl)
theorem dX6_transcode_40 : decode cX6_transcode 40 = .ok (.ireturn, 1) := dk_172 (dk_at dksX6_transcode_1 16 rfl rfl)
theorem dX6_transcode_41 : decode cX6_transcode 41 = .ok (.aload_n 0, 1) := dk_42 (dk_at dksX6_transcode_1 17 rfl rfl)
theorem dX6_transcode_42 : decode cX6_transcode 42 = .ok (.iconst 0, 1) := dk_3 (dk_at dksX6_transcode_1 18 rfl rfl)
theorem dX6_transcode_43 : decode cX6_transcode 43 = .ok (.invokevirtual 376, 3) := dk_182 1 120 (dk_at dksX6_transcode_1 19 rfl rfl)
theorem dX6_transcode_46 : decode cX6_transcode 46 = .ok (.aload_n 0, 1) := dk_42 (dk_at dksX6_transcode_1 22 rfl rfl)
theorem dX6_transcode_47 : decode cX6_transcode 47 = .ok (.aload_n 0, 1) := dk_42 (dk_at dksX6_transcode_1 23 rfl rfl)
theorem dX6_transcode_48 : decode cX6_transcode 48 = .ok (.iload_n 1, 1) := dk_27 (dk_at dksX6_transcode_2 0 rfl rfl)
theorem dX6_transcode_49 : decode cX6_transcode 49 = .ok (.invokevirtual 368, 3) := dk_182 1 112 (dk_at dksX6_transcode_2 1 rfl rfl)
theorem dX6_transcode_52 : decode cX6_transcode 52 = .ok (.iload_n 2, 1) := dk_28 (dk_at dksX6_transcode_2 4 rfl rfl)
theorem dX6_transcode_53 : decode cX6_transcode 53 = .ok (.invokevirtual 379, 3) := dk_182 1 123 (dk_at dksX6_transcode_2 5 rfl rfl)
theorem dX6_transcode_56 : decode cX6_transcode 56 = .ok (.ifCond .ne 5, 3) := dk_154 0 5 (dk_at dksX6_transcode_2 8 rfl rfl)
theorem dX6_transcode_59 : decode cX6_transcode 59 = .ok (.iconst (-1), 1) := dk_2 (dk_at dksX6_transcode_2 11 rfl rfl)
theorem dX6_transcode_60 : decode cX6_transcode 60 = .ok (.ireturn, 1) := dk_172 (dk_at dksX6_transcode_2 12 rfl rfl)
theorem dX6_transcode_61 : decode cX6_transcode 61 = .ok (.aload_n 0, 1) := dk_42 (dk_at dksX6_transcode_2 13 rfl rfl)
theorem dX6_transcode_62 : decode cX6_transcode 62 = .ok (.iload_n 3, 1) := dk_29 (dk_at dksX6_transcode_2 14 rfl rfl)
theorem dX6_transcode_63 : decode cX6_transcode 63 = .ok (.invokevirtual 267, 3) := dk_182 1 11 (dk_at dksX6_transcode_2 15 rfl rfl)
theorem dX6_transcode_66 : decode cX6_transcode 66 = .ok (.aload_n 0, 1) := dk_42 (dk_at dksX6_transcode_2 18 rfl rfl)
theorem dX6_transcode_67 : decode cX6_transcode 67 = .ok (.getfield 270, 3) := dk_180 1 14 (dk_at dksX6_transcode_2 19 rfl rfl)
theorem dX6_transcode_70 : decode cX6_transcode 70 = .ok (.bipush 120, 2) := dk_16 120 (dk_at dksX6_transcode_2 22 rfl rfl)
theorem dX6_transcode_72 : decode cX6_transcode 72 = .ok (.if_icmp .le 9, 3) := dk_164 0 9 (dk_at dksX6_transcode_3 0 rfl rfl)
theorem dX6_transcode_75 : decode cX6_transcode 75 = .ok (.aload_n 0, 1) := dk_42 (dk_at dksX6_transcode_3 3 rfl rfl)
theorem dX6_transcode_76 : decode cX6_transcode 76 = .ok (.iconst 4, 1) := dk_7 (dk_at dksX6_transcode_3 4 rfl rfl)
theorem dX6_transcode_77 : decode cX6_transcode 77 = .ok (.invokevirtual 383, 3) := dk_182 1 127 (dk_at dksX6_transcode_3 5 rfl rfl)
theorem dX6_transcode_80 : decode cX6_transcode 80 = .ok (.ireturn, 1) := dk_172 (dk_at dksX6_transcode_3 8 rfl rfl)
theorem dX6_transcode_81 : decode cX6_transcode 81 = .ok (.aload_n 0, 1) := dk_42 (dk_at dksX6_transcode_3 9 rfl rfl)
theorem dX6_transcode_82 : decode cX6_transcode 82 = .ok (.invokevirtual 386, 3) := dk_182 1 130 (dk_at dksX6_transcode_3 10 rfl rfl)
theorem dX6_transcode_85 : decode cX6_transcode 85 = .ok (.iconst 0, 1) := dk_3 (dk_at dksX6_transcode_3 13 rfl rfl)
theorem dX6_transcode_86 : decode cX6_transcode 86 = .ok (.istore 4, 2) := dk_54 4 (dk_at dksX6_transcode_3 14 rfl rfl)
theorem dX6_transcode_88 : decode cX6_transcode 88 = .ok (.iload 4, 2) := dk_21 4 (dk_at dksX6_transcode_3 16 rfl rfl)
theorem dX6_transcode_90 : decode cX6_transcode 90 = .ok (.aload_n 0, 1) := dk_42 (dk_at dksX6_transcode_3 18 rfl rfl)
theorem dX6_transcode_91 : decode cX6_transcode 91 = .ok (.getfield 270, 3) := dk_180 1 14 (dk_at dksX6_transcode_3 19 rfl rfl)
theorem dX6_transcode_94 : decode cX6_transcode 94 = .ok (.if_icmp .ge 23, 3) := dk_162 0 23 (dk_at dksX6_transcode_4 0 rfl rfl)
theorem dX6_transcode_97 : decode cX6_transcode 97 = .ok (.aload_n 0, 1) := dk_42 (dk_at dksX6_transcode_4 3 rfl rfl)
theorem dX6_transcode_98 : decode cX6_transcode 98 = .ok (.getfield 63, 3) := dk_180 0 63 (dk_at dksX6_transcode_4 4 rfl rfl)
theorem dX6_transcode_101 : decode cX6_transcode 101 = .ok (.iload 4, 2) := dk_21 4 (dk_at dksX6_transcode_4 7 rfl rfl)
theorem dX6_transcode_103 : decode cX6_transcode 103 = .ok (.aload_n 0, 1) := dk_42 (dk_at dksX6_transcode_4 9 rfl rfl)
theorem dX6_transcode_104 : decode cX6_transcode 104 = .ok (.getfield 69, 3) := dk_180 0 69 (dk_at dksX6_transcode_4 10 rfl rfl)
theorem dX6_transcode_107 : decode cX6_transcode 107 = .ok (.iload 4, 2) := dk_21 4 (dk_at dksX6_transcode_4 13 rfl rfl)
theorem dX6_transcode_109 : decode cX6_transcode 109 = .ok (.iaload, 1) := dk_46 (dk_at dksX6_transcode_4 15 rfl rfl)
theorem dX6_transcode_110 : decode cX6_transcode 110 = .ok (.iastore, 1) := dk_79 (dk_at dksX6_transcode_4 16 rfl rfl)
theorem dX6_transcode_111 : decode cX6_transcode 111 = .ok (.iinc 4 1, 3) := dk_132 4 1 (dk_at dksX6_transcode_4 17 rfl rfl)
theorem dX6_transcode_114 : decode cX6_transcode 114 = .ok (.goto (-26), 3) := dk_167 255 230 (dk_at dksX6_transcode_4 20 rfl rfl)
theorem dX6_transcode_117 : decode cX6_transcode 117 = .ok (.aload_n 0, 1) := dk_42 (dk_at dksX6_transcode_4 23 rfl rfl)
theorem dX6_transcode_118 : decode cX6_transcode 118 = .ok (.aload_n 0, 1) := dk_42 (dk_at dksX6_transcode_5 0 rfl rfl)
theorem dX6_transcode_119 : decode cX6_transcode 119 = .ok (.getfield 270, 3) := dk_180 1 14 (dk_at dksX6_transcode_5 1 rfl rfl)
theorem dX6_transcode_122 : decode cX6_transcode 122 = .ok (.putfield 228, 3) := dk_181 0 228 (dk_at dksX6_transcode_5 4 rfl rfl)
theorem dX6_transcode_125 : decode cX6_transcode 125 = .ok (.aload_n 0, 1) := dk_42 (dk_at dksX6_transcode_5 7 rfl rfl)
theorem dX6_transcode_126 : decode cX6_transcode 126 = .ok (.getfield 270, 3) := dk_180 1 14 (dk_at dksX6_transcode_5 8 rfl rfl)
theorem dX6_transcode_129 : decode cX6_transcode 129 = .ok (.ireturn, 1) := dk_172 (dk_at dksX6_transcode_5 11 rfl rfl)
abbrev cX6_asked : ByteArray := prog_18_method_66_code
def yX6_asked : MethodName := ⟨RX6, "asked", "(ZC)I"⟩
def dkwX6_asked_1 : List UInt8 := [156, 0, 7, 6, 167, 0, 4, 3, 172]
abbrev dktX6_asked_1 : List UInt8 := dkwX6_asked_1 ++ []
def dkwX6_asked_0 : List UInt8 := [27, 154, 0, 7, 4, 167, 0, 27, 42, 180, 0, 136, 154, 0, 7, 5, 167, 0, 16, 42, 28, 182, 1, 112]
abbrev dktX6_asked_0 : List UInt8 := dkwX6_asked_0 ++ dktX6_asked_1
theorem dksX6_asked_0 : cX6_asked.data.toList.drop 0 = dktX6_asked_0 := by decide +kernel
theorem dksX6_asked_1 : cX6_asked.data.toList.drop 24 = dktX6_asked_1 := dk_seg dksX6_asked_0 24 rfl rfl
theorem dX6_asked_0 : decode cX6_asked 0 = .ok (.iload_n 1, 1) := dk_27 (dk_at dksX6_asked_0 0 rfl rfl)
theorem dX6_asked_1 : decode cX6_asked 1 = .ok (.ifCond .ne 7, 3) := dk_154 0 7 (dk_at dksX6_asked_0 1 rfl rfl)
theorem dX6_asked_4 : decode cX6_asked 4 = .ok (.iconst 1, 1) := dk_4 (dk_at dksX6_asked_0 4 rfl rfl)
theorem dX6_asked_5 : decode cX6_asked 5 = .ok (.goto 27, 3) := dk_167 0 27 (dk_at dksX6_asked_0 5 rfl rfl)
theorem dX6_asked_8 : decode cX6_asked 8 = .ok (.aload_n 0, 1) := dk_42 (dk_at dksX6_asked_0 8 rfl rfl)
theorem dX6_asked_9 : decode cX6_asked 9 = .ok (.getfield 136, 3) := dk_180 0 136 (dk_at dksX6_asked_0 9 rfl rfl)
theorem dX6_asked_12 : decode cX6_asked 12 = .ok (.ifCond .ne 7, 3) := dk_154 0 7 (dk_at dksX6_asked_0 12 rfl rfl)
theorem dX6_asked_15 : decode cX6_asked 15 = .ok (.iconst 2, 1) := dk_5 (dk_at dksX6_asked_0 15 rfl rfl)
theorem dX6_asked_16 : decode cX6_asked 16 = .ok (.goto 16, 3) := dk_167 0 16 (dk_at dksX6_asked_0 16 rfl rfl)
theorem dX6_asked_19 : decode cX6_asked 19 = .ok (.aload_n 0, 1) := dk_42 (dk_at dksX6_asked_0 19 rfl rfl)
theorem dX6_asked_20 : decode cX6_asked 20 = .ok (.iload_n 2, 1) := dk_28 (dk_at dksX6_asked_0 20 rfl rfl)
theorem dX6_asked_21 : decode cX6_asked 21 = .ok (.invokevirtual 368, 3) := dk_182 1 112 (dk_at dksX6_asked_0 21 rfl rfl)
theorem dX6_asked_24 : decode cX6_asked 24 = .ok (.ifCond .ge 7, 3) := dk_156 0 7 (dk_at dksX6_asked_1 0 rfl rfl)
theorem dX6_asked_27 : decode cX6_asked 27 = .ok (.iconst 3, 1) := dk_6 (dk_at dksX6_asked_1 3 rfl rfl)
theorem dX6_asked_28 : decode cX6_asked 28 = .ok (.goto 4, 3) := dk_167 0 4 (dk_at dksX6_asked_1 4 rfl rfl)
theorem dX6_asked_31 : decode cX6_asked 31 = .ok (.iconst 0, 1) := dk_3 (dk_at dksX6_asked_1 7 rfl rfl)
theorem dX6_asked_32 : decode cX6_asked 32 = .ok (.ireturn, 1) := dk_172 (dk_at dksX6_asked_1 8 rfl rfl)
abbrev cX6_typeOf : ByteArray := prog_18_method_65_code
def yX6_typeOf : MethodName := ⟨RX6, "typeOf", "(C)I"⟩
def dkwX6_typeOf_1 : List UInt8 := [172]
abbrev dktX6_typeOf_1 : List UInt8 := dkwX6_typeOf_1 ++ []
def dkwX6_typeOf_0 : List UInt8 := [27, 16, 65, 16, 90, 184, 0, 166, 153, 0, 15, 42, 180, 0, 17, 27, 16, 65, 100, 46, 167, 0, 4, 2]
abbrev dktX6_typeOf_0 : List UInt8 := dkwX6_typeOf_0 ++ dktX6_typeOf_1
theorem dksX6_typeOf_0 : cX6_typeOf.data.toList.drop 0 = dktX6_typeOf_0 := by decide +kernel
theorem dksX6_typeOf_1 : cX6_typeOf.data.toList.drop 24 = dktX6_typeOf_1 := dk_seg dksX6_typeOf_0 24 rfl rfl
theorem dX6_typeOf_0 : decode cX6_typeOf 0 = .ok (.iload_n 1, 1) := dk_27 (dk_at dksX6_typeOf_0 0 rfl rfl)
theorem dX6_typeOf_1 : decode cX6_typeOf 1 = .ok (.bipush 65, 2) := dk_16 65 (dk_at dksX6_typeOf_0 1 rfl rfl)
theorem dX6_typeOf_3 : decode cX6_typeOf 3 = .ok (.bipush 90, 2) := dk_16 90 (dk_at dksX6_typeOf_0 3 rfl rfl)
theorem dX6_typeOf_5 : decode cX6_typeOf 5 = .ok (.invokestatic 166, 3) := dk_184 0 166 (dk_at dksX6_typeOf_0 5 rfl rfl)
theorem dX6_typeOf_8 : decode cX6_typeOf 8 = .ok (.ifCond .eq 15, 3) := dk_153 0 15 (dk_at dksX6_typeOf_0 8 rfl rfl)
theorem dX6_typeOf_11 : decode cX6_typeOf 11 = .ok (.aload_n 0, 1) := dk_42 (dk_at dksX6_typeOf_0 11 rfl rfl)
theorem dX6_typeOf_12 : decode cX6_typeOf 12 = .ok (.getfield 17, 3) := dk_180 0 17 (dk_at dksX6_typeOf_0 12 rfl rfl)
theorem dX6_typeOf_15 : decode cX6_typeOf 15 = .ok (.iload_n 1, 1) := dk_27 (dk_at dksX6_typeOf_0 15 rfl rfl)
theorem dX6_typeOf_16 : decode cX6_typeOf 16 = .ok (.bipush 65, 2) := dk_16 65 (dk_at dksX6_typeOf_0 16 rfl rfl)
theorem dX6_typeOf_18 : decode cX6_typeOf 18 = .ok (.isub, 1) := dk_100 (dk_at dksX6_typeOf_0 18 rfl rfl)
theorem dX6_typeOf_19 : decode cX6_typeOf 19 = .ok (.iaload, 1) := dk_46 (dk_at dksX6_typeOf_0 19 rfl rfl)
theorem dX6_typeOf_20 : decode cX6_typeOf 20 = .ok (.goto 4, 3) := dk_167 0 4 (dk_at dksX6_typeOf_0 20 rfl rfl)
theorem dX6_typeOf_23 : decode cX6_typeOf 23 = .ok (.iconst (-1), 1) := dk_2 (dk_at dksX6_typeOf_0 23 rfl rfl)
theorem dX6_typeOf_24 : decode cX6_typeOf 24 = .ok (.ireturn, 1) := dk_172 (dk_at dksX6_typeOf_1 0 rfl rfl)
abbrev cX6_load : ByteArray := prog_18_method_67_code
def yX6_load : MethodName := ⟨RX6, "load", "(I)V"⟩
def dkwX6_load_1 : List UInt8 := [28, 42, 180, 0, 63, 27, 28, 96, 46, 79, 132, 2, 1, 167, 255, 231, 177]
abbrev dktX6_load_1 : List UInt8 := dkwX6_load_1 ++ []
def dkwX6_load_0 : List UInt8 := [42, 42, 180, 0, 228, 27, 100, 181, 1, 5, 3, 61, 28, 42, 180, 1, 5, 162, 0, 23, 42, 180, 0, 66]
abbrev dktX6_load_0 : List UInt8 := dkwX6_load_0 ++ dktX6_load_1
theorem dksX6_load_0 : cX6_load.data.toList.drop 0 = dktX6_load_0 := by decide +kernel
theorem dksX6_load_1 : cX6_load.data.toList.drop 24 = dktX6_load_1 := dk_seg dksX6_load_0 24 rfl rfl
theorem dX6_load_0 : decode cX6_load 0 = .ok (.aload_n 0, 1) := dk_42 (dk_at dksX6_load_0 0 rfl rfl)
theorem dX6_load_1 : decode cX6_load 1 = .ok (.aload_n 0, 1) := dk_42 (dk_at dksX6_load_0 1 rfl rfl)
theorem dX6_load_2 : decode cX6_load 2 = .ok (.getfield 228, 3) := dk_180 0 228 (dk_at dksX6_load_0 2 rfl rfl)
theorem dX6_load_5 : decode cX6_load 5 = .ok (.iload_n 1, 1) := dk_27 (dk_at dksX6_load_0 5 rfl rfl)
theorem dX6_load_6 : decode cX6_load 6 = .ok (.isub, 1) := dk_100 (dk_at dksX6_load_0 6 rfl rfl)
theorem dX6_load_7 : decode cX6_load 7 = .ok (.putfield 261, 3) := dk_181 1 5 (dk_at dksX6_load_0 7 rfl rfl)
theorem dX6_load_10 : decode cX6_load 10 = .ok (.iconst 0, 1) := dk_3 (dk_at dksX6_load_0 10 rfl rfl)
theorem dX6_load_11 : decode cX6_load 11 = .ok (.istore_n 2, 1) := dk_61 (dk_at dksX6_load_0 11 rfl rfl)
theorem dX6_load_12 : decode cX6_load 12 = .ok (.iload_n 2, 1) := dk_28 (dk_at dksX6_load_0 12 rfl rfl)
theorem dX6_load_13 : decode cX6_load 13 = .ok (.aload_n 0, 1) := dk_42 (dk_at dksX6_load_0 13 rfl rfl)
theorem dX6_load_14 : decode cX6_load 14 = .ok (.getfield 261, 3) := dk_180 1 5 (dk_at dksX6_load_0 14 rfl rfl)
theorem dX6_load_17 : decode cX6_load 17 = .ok (.if_icmp .ge 23, 3) := dk_162 0 23 (dk_at dksX6_load_0 17 rfl rfl)
theorem dX6_load_20 : decode cX6_load 20 = .ok (.aload_n 0, 1) := dk_42 (dk_at dksX6_load_0 20 rfl rfl)
theorem dX6_load_21 : decode cX6_load 21 = .ok (.getfield 66, 3) := dk_180 0 66 (dk_at dksX6_load_0 21 rfl rfl)
theorem dX6_load_24 : decode cX6_load 24 = .ok (.iload_n 2, 1) := dk_28 (dk_at dksX6_load_1 0 rfl rfl)
theorem dX6_load_25 : decode cX6_load 25 = .ok (.aload_n 0, 1) := dk_42 (dk_at dksX6_load_1 1 rfl rfl)
theorem dX6_load_26 : decode cX6_load 26 = .ok (.getfield 63, 3) := dk_180 0 63 (dk_at dksX6_load_1 2 rfl rfl)
theorem dX6_load_29 : decode cX6_load 29 = .ok (.iload_n 1, 1) := dk_27 (dk_at dksX6_load_1 5 rfl rfl)
theorem dX6_load_30 : decode cX6_load 30 = .ok (.iload_n 2, 1) := dk_28 (dk_at dksX6_load_1 6 rfl rfl)
theorem dX6_load_31 : decode cX6_load 31 = .ok (.iadd, 1) := dk_96 (dk_at dksX6_load_1 7 rfl rfl)
theorem dX6_load_32 : decode cX6_load 32 = .ok (.iaload, 1) := dk_46 (dk_at dksX6_load_1 8 rfl rfl)
theorem dX6_load_33 : decode cX6_load 33 = .ok (.iastore, 1) := dk_79 (dk_at dksX6_load_1 9 rfl rfl)
theorem dX6_load_34 : decode cX6_load 34 = .ok (.iinc 2 1, 3) := dk_132 2 1 (dk_at dksX6_load_1 10 rfl rfl)
theorem dX6_load_37 : decode cX6_load 37 = .ok (.goto (-25), 3) := dk_167 255 231 (dk_at dksX6_load_1 13 rfl rfl)
theorem dX6_load_40 : decode cX6_load 40 = .ok (.return_, 1) := dk_177 (dk_at dksX6_load_1 16 rfl rfl)
abbrev cX6_isValue : ByteArray := prog_18_method_30_code
def yX6_isValue : MethodName := ⟨RX6, "isValue", "(II)Z"⟩
def dkwX6_isValue_8 : List UInt8 := [29, 46, 160, 0, 7, 4, 167, 0, 4, 3, 181, 0, 236, 132, 3, 1, 167, 255, 214, 42, 180, 0, 236, 172]
abbrev dktX6_isValue_8 : List UInt8 := dkwX6_isValue_8 ++ []
def dkwX6_isValue_7 : List UInt8 := [180, 1, 14, 162, 0, 40, 42, 180, 0, 236, 153, 0, 33, 42, 42, 180, 0, 69, 29, 46, 42, 180, 0, 66]
abbrev dktX6_isValue_7 : List UInt8 := dkwX6_isValue_7 ++ dktX6_isValue_8
def dkwX6_isValue_6 : List UInt8 := [42, 180, 1, 14, 42, 180, 1, 5, 160, 0, 7, 4, 167, 0, 4, 3, 181, 0, 236, 3, 62, 29, 42]
abbrev dktX6_isValue_6 : List UInt8 := dkwX6_isValue_6 ++ dktX6_isValue_7
def dkwX6_isValue_5 : List UInt8 := [180, 0, 236, 154, 0, 5, 3, 172, 42, 182, 1, 8, 28, 154, 0, 5, 4, 172, 42, 28, 182, 1, 11, 42]
abbrev dktX6_isValue_5 : List UInt8 := dkwX6_isValue_5 ++ dktX6_isValue_6
def dkwX6_isValue_4 : List UInt8 := [159, 0, 14, 42, 180, 0, 245, 42, 180, 1, 5, 160, 0, 7, 4, 167, 0, 4, 3, 181, 0, 236, 42]
abbrev dktX6_isValue_4 : List UInt8 := dkwX6_isValue_4 ++ dktX6_isValue_5
def dkwX6_isValue_3 : List UInt8 := [182, 0, 255, 167, 255, 233, 42, 182, 1, 2, 167, 255, 226, 42, 42, 180, 0, 236, 153, 0, 23, 28, 5]
abbrev dktX6_isValue_3 : List UInt8 := dkwX6_isValue_3 ++ dktX6_isValue_4
def dkwX6_isValue_2 : List UInt8 := [182, 0, 252, 42, 180, 0, 236, 153, 0, 29, 42, 180, 0, 242, 158, 0, 22, 28, 5, 162, 0, 10, 42]
abbrev dktX6_isValue_2 : List UInt8 := dkwX6_isValue_2 ++ dktX6_isValue_3
def dkwX6_isValue_1 : List UInt8 := [181, 0, 236, 28, 5, 162, 0, 13, 42, 27, 2, 3, 182, 0, 248, 167, 0, 10, 42, 27, 2, 3]
abbrev dktX6_isValue_1 : List UInt8 := dkwX6_isValue_1 ++ dktX6_isValue_2
def dkwX6_isValue_0 : List UInt8 := [42, 3, 181, 0, 233, 42, 3, 181, 0, 239, 42, 3, 181, 0, 242, 42, 3, 181, 0, 245, 42, 4]
abbrev dktX6_isValue_0 : List UInt8 := dkwX6_isValue_0 ++ dktX6_isValue_1
theorem dksX6_isValue_0 : cX6_isValue.data.toList.drop 0 = dktX6_isValue_0 := by decide +kernel
theorem dksX6_isValue_1 : cX6_isValue.data.toList.drop 22 = dktX6_isValue_1 := dk_seg dksX6_isValue_0 22 rfl rfl
theorem dksX6_isValue_2 : cX6_isValue.data.toList.drop 44 = dktX6_isValue_2 := dk_seg dksX6_isValue_1 22 rfl rfl
theorem dksX6_isValue_3 : cX6_isValue.data.toList.drop 67 = dktX6_isValue_3 := dk_seg dksX6_isValue_2 23 rfl rfl
theorem dksX6_isValue_4 : cX6_isValue.data.toList.drop 90 = dktX6_isValue_4 := dk_seg dksX6_isValue_3 23 rfl rfl
theorem dksX6_isValue_5 : cX6_isValue.data.toList.drop 113 = dktX6_isValue_5 := dk_seg dksX6_isValue_4 23 rfl rfl
theorem dksX6_isValue_6 : cX6_isValue.data.toList.drop 137 = dktX6_isValue_6 := dk_seg dksX6_isValue_5 24 rfl rfl
theorem dksX6_isValue_7 : cX6_isValue.data.toList.drop 160 = dktX6_isValue_7 := dk_seg dksX6_isValue_6 23 rfl rfl
theorem dksX6_isValue_8 : cX6_isValue.data.toList.drop 184 = dktX6_isValue_8 := dk_seg dksX6_isValue_7 24 rfl rfl
theorem dX6_isValue_0 : decode cX6_isValue 0 = .ok (.aload_n 0, 1) := dk_42 (dk_at dksX6_isValue_0 0 rfl rfl)
theorem dX6_isValue_1 : decode cX6_isValue 1 = .ok (.iconst 0, 1) := dk_3 (dk_at dksX6_isValue_0 1 rfl rfl)
theorem dX6_isValue_2 : decode cX6_isValue 2 = .ok (.putfield 233, 3) := dk_181 0 233 (dk_at dksX6_isValue_0 2 rfl rfl)
theorem dX6_isValue_5 : decode cX6_isValue 5 = .ok (.aload_n 0, 1) := dk_42 (dk_at dksX6_isValue_0 5 rfl rfl)
theorem dX6_isValue_6 : decode cX6_isValue 6 = .ok (.iconst 0, 1) := dk_3 (dk_at dksX6_isValue_0 6 rfl rfl)
theorem dX6_isValue_7 : decode cX6_isValue 7 = .ok (.putfield 239, 3) := dk_181 0 239 (dk_at dksX6_isValue_0 7 rfl rfl)
theorem dX6_isValue_10 : decode cX6_isValue 10 = .ok (.aload_n 0, 1) := dk_42 (dk_at dksX6_isValue_0 10 rfl rfl)
theorem dX6_isValue_11 : decode cX6_isValue 11 = .ok (.iconst 0, 1) := dk_3 (dk_at dksX6_isValue_0 11 rfl rfl)
theorem dX6_isValue_12 : decode cX6_isValue 12 = .ok (.putfield 242, 3) := dk_181 0 242 (dk_at dksX6_isValue_0 12 rfl rfl)
theorem dX6_isValue_15 : decode cX6_isValue 15 = .ok (.aload_n 0, 1) := dk_42 (dk_at dksX6_isValue_0 15 rfl rfl)
theorem dX6_isValue_16 : decode cX6_isValue 16 = .ok (.iconst 0, 1) := dk_3 (dk_at dksX6_isValue_0 16 rfl rfl)
theorem dX6_isValue_17 : decode cX6_isValue 17 = .ok (.putfield 245, 3) := dk_181 0 245 (dk_at dksX6_isValue_0 17 rfl rfl)
theorem dX6_isValue_20 : decode cX6_isValue 20 = .ok (.aload_n 0, 1) := dk_42 (dk_at dksX6_isValue_0 20 rfl rfl)
theorem dX6_isValue_21 : decode cX6_isValue 21 = .ok (.iconst 1, 1) := dk_4 (dk_at dksX6_isValue_0 21 rfl rfl)
theorem dX6_isValue_22 : decode cX6_isValue 22 = .ok (.putfield 236, 3) := dk_181 0 236 (dk_at dksX6_isValue_1 0 rfl rfl)
theorem dX6_isValue_25 : decode cX6_isValue 25 = .ok (.iload_n 2, 1) := dk_28 (dk_at dksX6_isValue_1 3 rfl rfl)
theorem dX6_isValue_26 : decode cX6_isValue 26 = .ok (.iconst 2, 1) := dk_5 (dk_at dksX6_isValue_1 4 rfl rfl)
theorem dX6_isValue_27 : decode cX6_isValue 27 = .ok (.if_icmp .ge 13, 3) := dk_162 0 13 (dk_at dksX6_isValue_1 5 rfl rfl)
theorem dX6_isValue_30 : decode cX6_isValue 30 = .ok (.aload_n 0, 1) := dk_42 (dk_at dksX6_isValue_1 8 rfl rfl)
theorem dX6_isValue_31 : decode cX6_isValue 31 = .ok (.iload_n 1, 1) := dk_27 (dk_at dksX6_isValue_1 9 rfl rfl)
theorem dX6_isValue_32 : decode cX6_isValue 32 = .ok (.iconst (-1), 1) := dk_2 (dk_at dksX6_isValue_1 10 rfl rfl)
theorem dX6_isValue_33 : decode cX6_isValue 33 = .ok (.iconst 0, 1) := dk_3 (dk_at dksX6_isValue_1 11 rfl rfl)
theorem dX6_isValue_34 : decode cX6_isValue 34 = .ok (.invokevirtual 248, 3) := dk_182 0 248 (dk_at dksX6_isValue_1 12 rfl rfl)
theorem dX6_isValue_37 : decode cX6_isValue 37 = .ok (.goto 10, 3) := dk_167 0 10 (dk_at dksX6_isValue_1 15 rfl rfl)
theorem dX6_isValue_40 : decode cX6_isValue 40 = .ok (.aload_n 0, 1) := dk_42 (dk_at dksX6_isValue_1 18 rfl rfl)
theorem dX6_isValue_41 : decode cX6_isValue 41 = .ok (.iload_n 1, 1) := dk_27 (dk_at dksX6_isValue_1 19 rfl rfl)
theorem dX6_isValue_42 : decode cX6_isValue 42 = .ok (.iconst (-1), 1) := dk_2 (dk_at dksX6_isValue_1 20 rfl rfl)
theorem dX6_isValue_43 : decode cX6_isValue 43 = .ok (.iconst 0, 1) := dk_3 (dk_at dksX6_isValue_1 21 rfl rfl)
theorem dX6_isValue_44 : decode cX6_isValue 44 = .ok (.invokevirtual 252, 3) := dk_182 0 252 (dk_at dksX6_isValue_2 0 rfl rfl)
theorem dX6_isValue_47 : decode cX6_isValue 47 = .ok (.aload_n 0, 1) := dk_42 (dk_at dksX6_isValue_2 3 rfl rfl)
theorem dX6_isValue_48 : decode cX6_isValue 48 = .ok (.getfield 236, 3) := dk_180 0 236 (dk_at dksX6_isValue_2 4 rfl rfl)
theorem dX6_isValue_51 : decode cX6_isValue 51 = .ok (.ifCond .eq 29, 3) := dk_153 0 29 (dk_at dksX6_isValue_2 7 rfl rfl)
theorem dX6_isValue_54 : decode cX6_isValue 54 = .ok (.aload_n 0, 1) := dk_42 (dk_at dksX6_isValue_2 10 rfl rfl)
theorem dX6_isValue_55 : decode cX6_isValue 55 = .ok (.getfield 242, 3) := dk_180 0 242 (dk_at dksX6_isValue_2 11 rfl rfl)
theorem dX6_isValue_58 : decode cX6_isValue 58 = .ok (.ifCond .le 22, 3) := dk_158 0 22 (dk_at dksX6_isValue_2 14 rfl rfl)
theorem dX6_isValue_61 : decode cX6_isValue 61 = .ok (.iload_n 2, 1) := dk_28 (dk_at dksX6_isValue_2 17 rfl rfl)
theorem dX6_isValue_62 : decode cX6_isValue 62 = .ok (.iconst 2, 1) := dk_5 (dk_at dksX6_isValue_2 18 rfl rfl)
theorem dX6_isValue_63 : decode cX6_isValue 63 = .ok (.if_icmp .ge 10, 3) := dk_162 0 10 (dk_at dksX6_isValue_2 19 rfl rfl)
theorem dX6_isValue_66 : decode cX6_isValue 66 = .ok (.aload_n 0, 1) := dk_42 (dk_at dksX6_isValue_2 22 rfl rfl)
theorem dX6_isValue_67 : decode cX6_isValue 67 = .ok (.invokevirtual 255, 3) := dk_182 0 255 (dk_at dksX6_isValue_3 0 rfl rfl)
theorem dX6_isValue_70 : decode cX6_isValue 70 = .ok (.goto (-23), 3) := dk_167 255 233 (dk_at dksX6_isValue_3 3 rfl rfl)
theorem dX6_isValue_73 : decode cX6_isValue 73 = .ok (.aload_n 0, 1) := dk_42 (dk_at dksX6_isValue_3 6 rfl rfl)
theorem dX6_isValue_74 : decode cX6_isValue 74 = .ok (.invokevirtual 258, 3) := dk_182 1 2 (dk_at dksX6_isValue_3 7 rfl rfl)
theorem dX6_isValue_77 : decode cX6_isValue 77 = .ok (.goto (-30), 3) := dk_167 255 226 (dk_at dksX6_isValue_3 10 rfl rfl)
theorem dX6_isValue_80 : decode cX6_isValue 80 = .ok (.aload_n 0, 1) := dk_42 (dk_at dksX6_isValue_3 13 rfl rfl)
theorem dX6_isValue_81 : decode cX6_isValue 81 = .ok (.aload_n 0, 1) := dk_42 (dk_at dksX6_isValue_3 14 rfl rfl)
theorem dX6_isValue_82 : decode cX6_isValue 82 = .ok (.getfield 236, 3) := dk_180 0 236 (dk_at dksX6_isValue_3 15 rfl rfl)
theorem dX6_isValue_85 : decode cX6_isValue 85 = .ok (.ifCond .eq 23, 3) := dk_153 0 23 (dk_at dksX6_isValue_3 18 rfl rfl)
theorem dX6_isValue_88 : decode cX6_isValue 88 = .ok (.iload_n 2, 1) := dk_28 (dk_at dksX6_isValue_3 21 rfl rfl)
theorem dX6_isValue_89 : decode cX6_isValue 89 = .ok (.iconst 2, 1) := dk_5 (dk_at dksX6_isValue_3 22 rfl rfl)
theorem dX6_isValue_90 : decode cX6_isValue 90 = .ok (.if_icmp .eq 14, 3) := dk_159 0 14 (dk_at dksX6_isValue_4 0 rfl rfl)
theorem dX6_isValue_93 : decode cX6_isValue 93 = .ok (.aload_n 0, 1) := dk_42 (dk_at dksX6_isValue_4 3 rfl rfl)
theorem dX6_isValue_94 : decode cX6_isValue 94 = .ok (.getfield 245, 3) := dk_180 0 245 (dk_at dksX6_isValue_4 4 rfl rfl)
theorem dX6_isValue_97 : decode cX6_isValue 97 = .ok (.aload_n 0, 1) := dk_42 (dk_at dksX6_isValue_4 7 rfl rfl)
theorem dX6_isValue_98 : decode cX6_isValue 98 = .ok (.getfield 261, 3) := dk_180 1 5 (dk_at dksX6_isValue_4 8 rfl rfl)
theorem dX6_isValue_101 : decode cX6_isValue 101 = .ok (.if_icmp .ne 7, 3) := dk_160 0 7 (dk_at dksX6_isValue_4 11 rfl rfl)
theorem dX6_isValue_104 : decode cX6_isValue 104 = .ok (.iconst 1, 1) := dk_4 (dk_at dksX6_isValue_4 14 rfl rfl)
theorem dX6_isValue_105 : decode cX6_isValue 105 = .ok (.goto 4, 3) := dk_167 0 4 (dk_at dksX6_isValue_4 15 rfl rfl)
theorem dX6_isValue_108 : decode cX6_isValue 108 = .ok (.iconst 0, 1) := dk_3 (dk_at dksX6_isValue_4 18 rfl rfl)
theorem dX6_isValue_109 : decode cX6_isValue 109 = .ok (.putfield 236, 3) := dk_181 0 236 (dk_at dksX6_isValue_4 19 rfl rfl)
theorem dX6_isValue_112 : decode cX6_isValue 112 = .ok (.aload_n 0, 1) := dk_42 (dk_at dksX6_isValue_4 22 rfl rfl)
theorem dX6_isValue_113 : decode cX6_isValue 113 = .ok (.getfield 236, 3) := dk_180 0 236 (dk_at dksX6_isValue_5 0 rfl rfl)
theorem dX6_isValue_116 : decode cX6_isValue 116 = .ok (.ifCond .ne 5, 3) := dk_154 0 5 (dk_at dksX6_isValue_5 3 rfl rfl)
theorem dX6_isValue_119 : decode cX6_isValue 119 = .ok (.iconst 0, 1) := dk_3 (dk_at dksX6_isValue_5 6 rfl rfl)
theorem dX6_isValue_120 : decode cX6_isValue 120 = .ok (.ireturn, 1) := dk_172 (dk_at dksX6_isValue_5 7 rfl rfl)
theorem dX6_isValue_121 : decode cX6_isValue 121 = .ok (.aload_n 0, 1) := dk_42 (dk_at dksX6_isValue_5 8 rfl rfl)
theorem dX6_isValue_122 : decode cX6_isValue 122 = .ok (.invokevirtual 264, 3) := dk_182 1 8 (dk_at dksX6_isValue_5 9 rfl rfl)
theorem dX6_isValue_125 : decode cX6_isValue 125 = .ok (.iload_n 2, 1) := dk_28 (dk_at dksX6_isValue_5 12 rfl rfl)
theorem dX6_isValue_126 : decode cX6_isValue 126 = .ok (.ifCond .ne 5, 3) := dk_154 0 5 (dk_at dksX6_isValue_5 13 rfl rfl)
theorem dX6_isValue_129 : decode cX6_isValue 129 = .ok (.iconst 1, 1) := dk_4 (dk_at dksX6_isValue_5 16 rfl rfl)
theorem dX6_isValue_130 : decode cX6_isValue 130 = .ok (.ireturn, 1) := dk_172 (dk_at dksX6_isValue_5 17 rfl rfl)
theorem dX6_isValue_131 : decode cX6_isValue 131 = .ok (.aload_n 0, 1) := dk_42 (dk_at dksX6_isValue_5 18 rfl rfl)
theorem dX6_isValue_132 : decode cX6_isValue 132 = .ok (.iload_n 2, 1) := dk_28 (dk_at dksX6_isValue_5 19 rfl rfl)
theorem dX6_isValue_133 : decode cX6_isValue 133 = .ok (.invokevirtual 267, 3) := dk_182 1 11 (dk_at dksX6_isValue_5 20 rfl rfl)
theorem dX6_isValue_136 : decode cX6_isValue 136 = .ok (.aload_n 0, 1) := dk_42 (dk_at dksX6_isValue_5 23 rfl rfl)
theorem dX6_isValue_137 : decode cX6_isValue 137 = .ok (.aload_n 0, 1) := dk_42 (dk_at dksX6_isValue_6 0 rfl rfl)
theorem dX6_isValue_138 : decode cX6_isValue 138 = .ok (.getfield 270, 3) := dk_180 1 14 (dk_at dksX6_isValue_6 1 rfl rfl)
theorem dX6_isValue_141 : decode cX6_isValue 141 = .ok (.aload_n 0, 1) := dk_42 (dk_at dksX6_isValue_6 4 rfl rfl)
theorem dX6_isValue_142 : decode cX6_isValue 142 = .ok (.getfield 261, 3) := dk_180 1 5 (dk_at dksX6_isValue_6 5 rfl rfl)
theorem dX6_isValue_145 : decode cX6_isValue 145 = .ok (.if_icmp .ne 7, 3) := dk_160 0 7 (dk_at dksX6_isValue_6 8 rfl rfl)
theorem dX6_isValue_148 : decode cX6_isValue 148 = .ok (.iconst 1, 1) := dk_4 (dk_at dksX6_isValue_6 11 rfl rfl)
theorem dX6_isValue_149 : decode cX6_isValue 149 = .ok (.goto 4, 3) := dk_167 0 4 (dk_at dksX6_isValue_6 12 rfl rfl)
theorem dX6_isValue_152 : decode cX6_isValue 152 = .ok (.iconst 0, 1) := dk_3 (dk_at dksX6_isValue_6 15 rfl rfl)
theorem dX6_isValue_153 : decode cX6_isValue 153 = .ok (.putfield 236, 3) := dk_181 0 236 (dk_at dksX6_isValue_6 16 rfl rfl)
theorem dX6_isValue_156 : decode cX6_isValue 156 = .ok (.iconst 0, 1) := dk_3 (dk_at dksX6_isValue_6 19 rfl rfl)
theorem dX6_isValue_157 : decode cX6_isValue 157 = .ok (.istore_n 3, 1) := dk_62 (dk_at dksX6_isValue_6 20 rfl rfl)
theorem dX6_isValue_158 : decode cX6_isValue 158 = .ok (.iload_n 3, 1) := dk_29 (dk_at dksX6_isValue_6 21 rfl rfl)
theorem dX6_isValue_159 : decode cX6_isValue 159 = .ok (.aload_n 0, 1) := dk_42 (dk_at dksX6_isValue_6 22 rfl rfl)
theorem dX6_isValue_160 : decode cX6_isValue 160 = .ok (.getfield 270, 3) := dk_180 1 14 (dk_at dksX6_isValue_7 0 rfl rfl)
theorem dX6_isValue_163 : decode cX6_isValue 163 = .ok (.if_icmp .ge 40, 3) := dk_162 0 40 (dk_at dksX6_isValue_7 3 rfl rfl)
theorem dX6_isValue_166 : decode cX6_isValue 166 = .ok (.aload_n 0, 1) := dk_42 (dk_at dksX6_isValue_7 6 rfl rfl)
theorem dX6_isValue_167 : decode cX6_isValue 167 = .ok (.getfield 236, 3) := dk_180 0 236 (dk_at dksX6_isValue_7 7 rfl rfl)
theorem dX6_isValue_170 : decode cX6_isValue 170 = .ok (.ifCond .eq 33, 3) := dk_153 0 33 (dk_at dksX6_isValue_7 10 rfl rfl)
theorem dX6_isValue_173 : decode cX6_isValue 173 = .ok (.aload_n 0, 1) := dk_42 (dk_at dksX6_isValue_7 13 rfl rfl)
theorem dX6_isValue_174 : decode cX6_isValue 174 = .ok (.aload_n 0, 1) := dk_42 (dk_at dksX6_isValue_7 14 rfl rfl)
theorem dX6_isValue_175 : decode cX6_isValue 175 = .ok (.getfield 69, 3) := dk_180 0 69 (dk_at dksX6_isValue_7 15 rfl rfl)
theorem dX6_isValue_178 : decode cX6_isValue 178 = .ok (.iload_n 3, 1) := dk_29 (dk_at dksX6_isValue_7 18 rfl rfl)
theorem dX6_isValue_179 : decode cX6_isValue 179 = .ok (.iaload, 1) := dk_46 (dk_at dksX6_isValue_7 19 rfl rfl)
theorem dX6_isValue_180 : decode cX6_isValue 180 = .ok (.aload_n 0, 1) := dk_42 (dk_at dksX6_isValue_7 20 rfl rfl)
theorem dX6_isValue_181 : decode cX6_isValue 181 = .ok (.getfield 66, 3) := dk_180 0 66 (dk_at dksX6_isValue_7 21 rfl rfl)
theorem dX6_isValue_184 : decode cX6_isValue 184 = .ok (.iload_n 3, 1) := dk_29 (dk_at dksX6_isValue_8 0 rfl rfl)
theorem dX6_isValue_185 : decode cX6_isValue 185 = .ok (.iaload, 1) := dk_46 (dk_at dksX6_isValue_8 1 rfl rfl)
theorem dX6_isValue_186 : decode cX6_isValue 186 = .ok (.if_icmp .ne 7, 3) := dk_160 0 7 (dk_at dksX6_isValue_8 2 rfl rfl)
theorem dX6_isValue_189 : decode cX6_isValue 189 = .ok (.iconst 1, 1) := dk_4 (dk_at dksX6_isValue_8 5 rfl rfl)
theorem dX6_isValue_190 : decode cX6_isValue 190 = .ok (.goto 4, 3) := dk_167 0 4 (dk_at dksX6_isValue_8 6 rfl rfl)
theorem dX6_isValue_193 : decode cX6_isValue 193 = .ok (.iconst 0, 1) := dk_3 (dk_at dksX6_isValue_8 9 rfl rfl)
theorem dX6_isValue_194 : decode cX6_isValue 194 = .ok (.putfield 236, 3) := dk_181 0 236 (dk_at dksX6_isValue_8 10 rfl rfl)
theorem dX6_isValue_197 : decode cX6_isValue 197 = .ok (.iinc 3 1, 3) := dk_132 3 1 (dk_at dksX6_isValue_8 13 rfl rfl)
theorem dX6_isValue_200 : decode cX6_isValue 200 = .ok (.goto (-42), 3) := dk_167 255 214 (dk_at dksX6_isValue_8 16 rfl rfl)
theorem dX6_isValue_203 : decode cX6_isValue 203 = .ok (.aload_n 0, 1) := dk_42 (dk_at dksX6_isValue_8 19 rfl rfl)
theorem dX6_isValue_204 : decode cX6_isValue 204 = .ok (.getfield 236, 3) := dk_180 0 236 (dk_at dksX6_isValue_8 20 rfl rfl)
theorem dX6_isValue_207 : decode cX6_isValue 207 = .ok (.ireturn, 1) := dk_172 (dk_at dksX6_isValue_8 23 rfl rfl)
abbrev cX6_element : ByteArray := prog_18_method_36_code
def yX6_element : MethodName := ⟨RX6, "element", "(III)V"⟩
def dkwX6_element_13 : List UInt8 := [42, 180, 0, 236, 153, 0, 13, 42, 21, 4, 21, 5, 21, 6, 182, 1, 41, 177]
abbrev dktX6_element_13 : List UInt8 := dkwX6_element_13 ++ []
def dkwX6_element_12 : List UInt8 := [180, 0, 48, 16, 6, 42, 180, 0, 222, 104, 21, 10, 96, 46, 167, 0, 5, 21, 4, 54, 4, 167, 254, 223]
abbrev dktX6_element_12 : List UInt8 := dkwX6_element_12 ++ dktX6_element_13
def dkwX6_element_11 : List UInt8 := [21, 4, 21, 5, 21, 6, 21, 10, 182, 1, 37, 54, 5, 3, 54, 6, 42, 180, 0, 236, 153, 0, 21, 42]
abbrev dktX6_element_11 : List UInt8 := dkwX6_element_11 ++ dktX6_element_12
def dkwX6_element_10 : List UInt8 := [21, 10, 42, 180, 0, 32, 42, 180, 0, 222, 46, 162, 0, 7, 4, 167, 0, 4, 3, 181, 0, 236, 42]
abbrev dktX6_element_10 : List UInt8 := dkwX6_element_10 ++ dktX6_element_11
def dkwX6_element_9 : List UInt8 := [42, 180, 0, 222, 104, 21, 10, 96, 46, 46, 21, 9, 126, 154, 0, 9, 132, 10, 1, 167, 255, 213, 42]
abbrev dktX6_element_9 : List UInt8 := dkwX6_element_9 ++ dktX6_element_10
def dkwX6_element_8 : List UInt8 := [21, 10, 42, 180, 0, 32, 42, 180, 0, 222, 46, 162, 0, 35, 42, 180, 0, 35, 42, 180, 0, 48, 16, 6]
abbrev dktX6_element_8 : List UInt8 := dkwX6_element_8 ++ dktX6_element_9
def dkwX6_element_7 : List UInt8 := [162, 0, 18, 42, 180, 0, 66, 42, 180, 0, 245, 46, 184, 1, 34, 167, 0, 4, 3, 54, 9, 3, 54, 10]
abbrev dktX6_element_7 : List UInt8 := dkwX6_element_7 ++ dktX6_element_8
def dkwX6_element_6 : List UInt8 := [160, 0, 7, 4, 167, 0, 4, 3, 54, 7, 21, 7, 153, 0, 150, 42, 180, 0, 245, 42, 182, 1, 17]
abbrev dktX6_element_6 : List UInt8 := dkwX6_element_6 ++ dktX6_element_7
def dkwX6_element_5 : List UInt8 := [132, 9, 255, 167, 255, 197, 42, 180, 0, 236, 153, 0, 21, 42, 180, 0, 20, 42, 180, 0, 222, 46, 16, 9]
abbrev dktX6_element_5 : List UInt8 := dkwX6_element_5 ++ dktX6_element_6
def dkwX6_element_4 : List UInt8 := [153, 0, 7, 4, 167, 0, 4, 3, 181, 0, 236, 42, 180, 0, 236, 153, 0, 8, 42, 2, 182, 1, 31]
abbrev dktX6_element_4 : List UInt8 := dkwX6_element_4 ++ dktX6_element_5
def dkwX6_element_3 : List UInt8 := [153, 0, 51, 42, 42, 182, 1, 20, 42, 180, 0, 57, 21, 9, 46, 160, 0, 14, 42, 180, 0, 236]
abbrev dktX6_element_3 : List UInt8 := dkwX6_element_3 ++ dktX6_element_4
def dkwX6_element_2 : List UInt8 := [4, 54, 8, 42, 180, 0, 225, 4, 100, 54, 9, 21, 9, 21, 8, 161, 0, 58, 42, 180, 0, 236]
abbrev dktX6_element_2 : List UInt8 := dkwX6_element_2 ++ dktX6_element_3
def dkwX6_element_1 : List UInt8 := [42, 21, 4, 182, 0, 218, 42, 180, 0, 20, 42, 180, 0, 222, 46, 16, 9, 160, 0, 7, 3, 167, 0, 4]
abbrev dktX6_element_1 : List UInt8 := dkwX6_element_1 ++ dktX6_element_2
def dkwX6_element_0 : List UInt8 := [27, 54, 4, 28, 54, 5, 29, 54, 6, 4, 54, 7, 21, 7, 153, 1, 34, 42, 180, 0, 236, 153, 1, 27]
abbrev dktX6_element_0 : List UInt8 := dkwX6_element_0 ++ dktX6_element_1
theorem dksX6_element_0 : cX6_element.data.toList.drop 0 = dktX6_element_0 := by decide +kernel
theorem dksX6_element_1 : cX6_element.data.toList.drop 24 = dktX6_element_1 := dk_seg dksX6_element_0 24 rfl rfl
theorem dksX6_element_2 : cX6_element.data.toList.drop 48 = dktX6_element_2 := dk_seg dksX6_element_1 24 rfl rfl
theorem dksX6_element_3 : cX6_element.data.toList.drop 70 = dktX6_element_3 := dk_seg dksX6_element_2 22 rfl rfl
theorem dksX6_element_4 : cX6_element.data.toList.drop 92 = dktX6_element_4 := dk_seg dksX6_element_3 22 rfl rfl
theorem dksX6_element_5 : cX6_element.data.toList.drop 115 = dktX6_element_5 := dk_seg dksX6_element_4 23 rfl rfl
theorem dksX6_element_6 : cX6_element.data.toList.drop 139 = dktX6_element_6 := dk_seg dksX6_element_5 24 rfl rfl
theorem dksX6_element_7 : cX6_element.data.toList.drop 162 = dktX6_element_7 := dk_seg dksX6_element_6 23 rfl rfl
theorem dksX6_element_8 : cX6_element.data.toList.drop 186 = dktX6_element_8 := dk_seg dksX6_element_7 24 rfl rfl
theorem dksX6_element_9 : cX6_element.data.toList.drop 210 = dktX6_element_9 := dk_seg dksX6_element_8 24 rfl rfl
theorem dksX6_element_10 : cX6_element.data.toList.drop 233 = dktX6_element_10 := dk_seg dksX6_element_9 23 rfl rfl
theorem dksX6_element_11 : cX6_element.data.toList.drop 256 = dktX6_element_11 := dk_seg dksX6_element_10 23 rfl rfl
theorem dksX6_element_12 : cX6_element.data.toList.drop 280 = dktX6_element_12 := dk_seg dksX6_element_11 24 rfl rfl
theorem dksX6_element_13 : cX6_element.data.toList.drop 304 = dktX6_element_13 := dk_seg dksX6_element_12 24 rfl rfl
theorem dX6_element_0 : decode cX6_element 0 = .ok (.iload_n 1, 1) := dk_27 (dk_at dksX6_element_0 0 rfl rfl)
theorem dX6_element_1 : decode cX6_element 1 = .ok (.istore 4, 2) := dk_54 4 (dk_at dksX6_element_0 1 rfl rfl)
theorem dX6_element_3 : decode cX6_element 3 = .ok (.iload_n 2, 1) := dk_28 (dk_at dksX6_element_0 3 rfl rfl)
theorem dX6_element_4 : decode cX6_element 4 = .ok (.istore 5, 2) := dk_54 5 (dk_at dksX6_element_0 4 rfl rfl)
theorem dX6_element_6 : decode cX6_element 6 = .ok (.iload_n 3, 1) := dk_29 (dk_at dksX6_element_0 6 rfl rfl)
theorem dX6_element_7 : decode cX6_element 7 = .ok (.istore 6, 2) := dk_54 6 (dk_at dksX6_element_0 7 rfl rfl)
theorem dX6_element_9 : decode cX6_element 9 = .ok (.iconst 1, 1) := dk_4 (dk_at dksX6_element_0 9 rfl rfl)
theorem dX6_element_10 : decode cX6_element 10 = .ok (.istore 7, 2) := dk_54 7 (dk_at dksX6_element_0 10 rfl rfl)
theorem dX6_element_12 : decode cX6_element 12 = .ok (.iload 7, 2) := dk_21 7 (dk_at dksX6_element_0 12 rfl rfl)
theorem dX6_element_14 : decode cX6_element 14 = .ok (.ifCond .eq 290, 3) := dk_153 1 34 (dk_at dksX6_element_0 14 rfl rfl)
theorem dX6_element_17 : decode cX6_element 17 = .ok (.aload_n 0, 1) := dk_42 (dk_at dksX6_element_0 17 rfl rfl)
theorem dX6_element_18 : decode cX6_element 18 = .ok (.getfield 236, 3) := dk_180 0 236 (dk_at dksX6_element_0 18 rfl rfl)
theorem dX6_element_21 : decode cX6_element 21 = .ok (.ifCond .eq 283, 3) := dk_153 1 27 (dk_at dksX6_element_0 21 rfl rfl)
theorem dX6_element_24 : decode cX6_element 24 = .ok (.aload_n 0, 1) := dk_42 (dk_at dksX6_element_1 0 rfl rfl)
theorem dX6_element_25 : decode cX6_element 25 = .ok (.iload 4, 2) := dk_21 4 (dk_at dksX6_element_1 1 rfl rfl)
theorem dX6_element_27 : decode cX6_element 27 = .ok (.invokevirtual 218, 3) := dk_182 0 218 (dk_at dksX6_element_1 3 rfl rfl)
theorem dX6_element_30 : decode cX6_element 30 = .ok (.aload_n 0, 1) := dk_42 (dk_at dksX6_element_1 6 rfl rfl)
theorem dX6_element_31 : decode cX6_element 31 = .ok (.getfield 20, 3) := dk_180 0 20 (dk_at dksX6_element_1 7 rfl rfl)
theorem dX6_element_34 : decode cX6_element 34 = .ok (.aload_n 0, 1) := dk_42 (dk_at dksX6_element_1 10 rfl rfl)
theorem dX6_element_35 : decode cX6_element 35 = .ok (.getfield 222, 3) := dk_180 0 222 (dk_at dksX6_element_1 11 rfl rfl)
theorem dX6_element_38 : decode cX6_element 38 = .ok (.iaload, 1) := dk_46 (dk_at dksX6_element_1 14 rfl rfl)
theorem dX6_element_39 : decode cX6_element 39 = .ok (.bipush 9, 2) := dk_16 9 (dk_at dksX6_element_1 15 rfl rfl)
theorem dX6_element_41 : decode cX6_element 41 = .ok (.if_icmp .ne 7, 3) := dk_160 0 7 (dk_at dksX6_element_1 17 rfl rfl)
theorem dX6_element_44 : decode cX6_element 44 = .ok (.iconst 0, 1) := dk_3 (dk_at dksX6_element_1 20 rfl rfl)
theorem dX6_element_45 : decode cX6_element 45 = .ok (.goto 4, 3) := dk_167 0 4 (dk_at dksX6_element_1 21 rfl rfl)
theorem dX6_element_48 : decode cX6_element 48 = .ok (.iconst 1, 1) := dk_4 (dk_at dksX6_element_2 0 rfl rfl)
theorem dX6_element_49 : decode cX6_element 49 = .ok (.istore 8, 2) := dk_54 8 (dk_at dksX6_element_2 1 rfl rfl)
theorem dX6_element_51 : decode cX6_element 51 = .ok (.aload_n 0, 1) := dk_42 (dk_at dksX6_element_2 3 rfl rfl)
theorem dX6_element_52 : decode cX6_element 52 = .ok (.getfield 225, 3) := dk_180 0 225 (dk_at dksX6_element_2 4 rfl rfl)
theorem dX6_element_55 : decode cX6_element 55 = .ok (.iconst 1, 1) := dk_4 (dk_at dksX6_element_2 7 rfl rfl)
theorem dX6_element_56 : decode cX6_element 56 = .ok (.isub, 1) := dk_100 (dk_at dksX6_element_2 8 rfl rfl)
theorem dX6_element_57 : decode cX6_element 57 = .ok (.istore 9, 2) := dk_54 9 (dk_at dksX6_element_2 9 rfl rfl)
theorem dX6_element_59 : decode cX6_element 59 = .ok (.iload 9, 2) := dk_21 9 (dk_at dksX6_element_2 11 rfl rfl)
theorem dX6_element_61 : decode cX6_element 61 = .ok (.iload 8, 2) := dk_21 8 (dk_at dksX6_element_2 13 rfl rfl)
theorem dX6_element_63 : decode cX6_element 63 = .ok (.if_icmp .lt 58, 3) := dk_161 0 58 (dk_at dksX6_element_2 15 rfl rfl)
theorem dX6_element_66 : decode cX6_element 66 = .ok (.aload_n 0, 1) := dk_42 (dk_at dksX6_element_2 18 rfl rfl)
theorem dX6_element_67 : decode cX6_element 67 = .ok (.getfield 236, 3) := dk_180 0 236 (dk_at dksX6_element_2 19 rfl rfl)
theorem dX6_element_70 : decode cX6_element 70 = .ok (.ifCond .eq 51, 3) := dk_153 0 51 (dk_at dksX6_element_3 0 rfl rfl)
theorem dX6_element_73 : decode cX6_element 73 = .ok (.aload_n 0, 1) := dk_42 (dk_at dksX6_element_3 3 rfl rfl)
theorem dX6_element_74 : decode cX6_element 74 = .ok (.aload_n 0, 1) := dk_42 (dk_at dksX6_element_3 4 rfl rfl)
theorem dX6_element_75 : decode cX6_element 75 = .ok (.invokevirtual 276, 3) := dk_182 1 20 (dk_at dksX6_element_3 5 rfl rfl)
theorem dX6_element_78 : decode cX6_element 78 = .ok (.aload_n 0, 1) := dk_42 (dk_at dksX6_element_3 8 rfl rfl)
theorem dX6_element_79 : decode cX6_element 79 = .ok (.getfield 57, 3) := dk_180 0 57 (dk_at dksX6_element_3 9 rfl rfl)
theorem dX6_element_82 : decode cX6_element 82 = .ok (.iload 9, 2) := dk_21 9 (dk_at dksX6_element_3 12 rfl rfl)
theorem dX6_element_84 : decode cX6_element 84 = .ok (.iaload, 1) := dk_46 (dk_at dksX6_element_3 14 rfl rfl)
theorem dX6_element_85 : decode cX6_element 85 = .ok (.if_icmp .ne 14, 3) := dk_160 0 14 (dk_at dksX6_element_3 15 rfl rfl)
theorem dX6_element_88 : decode cX6_element 88 = .ok (.aload_n 0, 1) := dk_42 (dk_at dksX6_element_3 18 rfl rfl)
theorem dX6_element_89 : decode cX6_element 89 = .ok (.getfield 236, 3) := dk_180 0 236 (dk_at dksX6_element_3 19 rfl rfl)
theorem dX6_element_92 : decode cX6_element 92 = .ok (.ifCond .eq 7, 3) := dk_153 0 7 (dk_at dksX6_element_4 0 rfl rfl)
theorem dX6_element_95 : decode cX6_element 95 = .ok (.iconst 1, 1) := dk_4 (dk_at dksX6_element_4 3 rfl rfl)
theorem dX6_element_96 : decode cX6_element 96 = .ok (.goto 4, 3) := dk_167 0 4 (dk_at dksX6_element_4 4 rfl rfl)
theorem dX6_element_99 : decode cX6_element 99 = .ok (.iconst 0, 1) := dk_3 (dk_at dksX6_element_4 7 rfl rfl)
theorem dX6_element_100 : decode cX6_element 100 = .ok (.putfield 236, 3) := dk_181 0 236 (dk_at dksX6_element_4 8 rfl rfl)
theorem dX6_element_103 : decode cX6_element 103 = .ok (.aload_n 0, 1) := dk_42 (dk_at dksX6_element_4 11 rfl rfl)
theorem dX6_element_104 : decode cX6_element 104 = .ok (.getfield 236, 3) := dk_180 0 236 (dk_at dksX6_element_4 12 rfl rfl)
theorem dX6_element_107 : decode cX6_element 107 = .ok (.ifCond .eq 8, 3) := dk_153 0 8 (dk_at dksX6_element_4 15 rfl rfl)
theorem dX6_element_110 : decode cX6_element 110 = .ok (.aload_n 0, 1) := dk_42 (dk_at dksX6_element_4 18 rfl rfl)
theorem dX6_element_111 : decode cX6_element 111 = .ok (.iconst (-1), 1) := dk_2 (dk_at dksX6_element_4 19 rfl rfl)
theorem dX6_element_112 : decode cX6_element 112 = .ok (.invokevirtual 287, 3) := dk_182 1 31 (dk_at dksX6_element_4 20 rfl rfl)
theorem dX6_element_115 : decode cX6_element 115 = .ok (.iinc 9 (-1), 3) := dk_132 9 255 (dk_at dksX6_element_5 0 rfl rfl)
theorem dX6_element_118 : decode cX6_element 118 = .ok (.goto (-59), 3) := dk_167 255 197 (dk_at dksX6_element_5 3 rfl rfl)
theorem dX6_element_121 : decode cX6_element 121 = .ok (.aload_n 0, 1) := dk_42 (dk_at dksX6_element_5 6 rfl rfl)
theorem dX6_element_122 : decode cX6_element 122 = .ok (.getfield 236, 3) := dk_180 0 236 (dk_at dksX6_element_5 7 rfl rfl)
theorem dX6_element_125 : decode cX6_element 125 = .ok (.ifCond .eq 21, 3) := dk_153 0 21 (dk_at dksX6_element_5 10 rfl rfl)
theorem dX6_element_128 : decode cX6_element 128 = .ok (.aload_n 0, 1) := dk_42 (dk_at dksX6_element_5 13 rfl rfl)
theorem dX6_element_129 : decode cX6_element 129 = .ok (.getfield 20, 3) := dk_180 0 20 (dk_at dksX6_element_5 14 rfl rfl)
theorem dX6_element_132 : decode cX6_element 132 = .ok (.aload_n 0, 1) := dk_42 (dk_at dksX6_element_5 17 rfl rfl)
theorem dX6_element_133 : decode cX6_element 133 = .ok (.getfield 222, 3) := dk_180 0 222 (dk_at dksX6_element_5 18 rfl rfl)
theorem dX6_element_136 : decode cX6_element 136 = .ok (.iaload, 1) := dk_46 (dk_at dksX6_element_5 21 rfl rfl)
theorem dX6_element_137 : decode cX6_element 137 = .ok (.bipush 9, 2) := dk_16 9 (dk_at dksX6_element_5 22 rfl rfl)
theorem dX6_element_139 : decode cX6_element 139 = .ok (.if_icmp .ne 7, 3) := dk_160 0 7 (dk_at dksX6_element_6 0 rfl rfl)
theorem dX6_element_142 : decode cX6_element 142 = .ok (.iconst 1, 1) := dk_4 (dk_at dksX6_element_6 3 rfl rfl)
theorem dX6_element_143 : decode cX6_element 143 = .ok (.goto 4, 3) := dk_167 0 4 (dk_at dksX6_element_6 4 rfl rfl)
theorem dX6_element_146 : decode cX6_element 146 = .ok (.iconst 0, 1) := dk_3 (dk_at dksX6_element_6 7 rfl rfl)
theorem dX6_element_147 : decode cX6_element 147 = .ok (.istore 7, 2) := dk_54 7 (dk_at dksX6_element_6 8 rfl rfl)
theorem dX6_element_149 : decode cX6_element 149 = .ok (.iload 7, 2) := dk_21 7 (dk_at dksX6_element_6 10 rfl rfl)
theorem dX6_element_151 : decode cX6_element 151 = .ok (.ifCond .eq 150, 3) := dk_153 0 150 (dk_at dksX6_element_6 12 rfl rfl)
theorem dX6_element_154 : decode cX6_element 154 = .ok (.aload_n 0, 1) := dk_42 (dk_at dksX6_element_6 15 rfl rfl)
theorem dX6_element_155 : decode cX6_element 155 = .ok (.getfield 245, 3) := dk_180 0 245 (dk_at dksX6_element_6 16 rfl rfl)
theorem dX6_element_158 : decode cX6_element 158 = .ok (.aload_n 0, 1) := dk_42 (dk_at dksX6_element_6 19 rfl rfl)
theorem dX6_element_159 : decode cX6_element 159 = .ok (.invokevirtual 273, 3) := dk_182 1 17 (dk_at dksX6_element_6 20 rfl rfl)
theorem dX6_element_162 : decode cX6_element 162 = .ok (.if_icmp .ge 18, 3) := dk_162 0 18 (dk_at dksX6_element_7 0 rfl rfl)
theorem dX6_element_165 : decode cX6_element 165 = .ok (.aload_n 0, 1) := dk_42 (dk_at dksX6_element_7 3 rfl rfl)
theorem dX6_element_166 : decode cX6_element 166 = .ok (.getfield 66, 3) := dk_180 0 66 (dk_at dksX6_element_7 4 rfl rfl)
theorem dX6_element_169 : decode cX6_element 169 = .ok (.aload_n 0, 1) := dk_42 (dk_at dksX6_element_7 7 rfl rfl)
theorem dX6_element_170 : decode cX6_element 170 = .ok (.getfield 245, 3) := dk_180 0 245 (dk_at dksX6_element_7 8 rfl rfl)
theorem dX6_element_173 : decode cX6_element 173 = .ok (.iaload, 1) := dk_46 (dk_at dksX6_element_7 11 rfl rfl)
theorem dX6_element_174 : decode cX6_element 174 = .ok (.invokestatic 290, 3) := dk_184 1 34 (dk_at dksX6_element_7 12 rfl rfl)
theorem dX6_element_177 : decode cX6_element 177 = .ok (.goto 4, 3) := dk_167 0 4 (dk_at dksX6_element_7 15 rfl rfl)
theorem dX6_element_180 : decode cX6_element 180 = .ok (.iconst 0, 1) := dk_3 (dk_at dksX6_element_7 18 rfl rfl)
theorem dX6_element_181 : decode cX6_element 181 = .ok (.istore 9, 2) := dk_54 9 (dk_at dksX6_element_7 19 rfl rfl)
theorem dX6_element_183 : decode cX6_element 183 = .ok (.iconst 0, 1) := dk_3 (dk_at dksX6_element_7 21 rfl rfl)
theorem dX6_element_184 : decode cX6_element 184 = .ok (.istore 10, 2) := dk_54 10 (dk_at dksX6_element_7 22 rfl rfl)
theorem dX6_element_186 : decode cX6_element 186 = .ok (.iload 10, 2) := dk_21 10 (dk_at dksX6_element_8 0 rfl rfl)
theorem dX6_element_188 : decode cX6_element 188 = .ok (.aload_n 0, 1) := dk_42 (dk_at dksX6_element_8 2 rfl rfl)
theorem dX6_element_189 : decode cX6_element 189 = .ok (.getfield 32, 3) := dk_180 0 32 (dk_at dksX6_element_8 3 rfl rfl)
theorem dX6_element_192 : decode cX6_element 192 = .ok (.aload_n 0, 1) := dk_42 (dk_at dksX6_element_8 6 rfl rfl)
theorem dX6_element_193 : decode cX6_element 193 = .ok (.getfield 222, 3) := dk_180 0 222 (dk_at dksX6_element_8 7 rfl rfl)
theorem dX6_element_196 : decode cX6_element 196 = .ok (.iaload, 1) := dk_46 (dk_at dksX6_element_8 10 rfl rfl)
theorem dX6_element_197 : decode cX6_element 197 = .ok (.if_icmp .ge 35, 3) := dk_162 0 35 (dk_at dksX6_element_8 11 rfl rfl)
theorem dX6_element_200 : decode cX6_element 200 = .ok (.aload_n 0, 1) := dk_42 (dk_at dksX6_element_8 14 rfl rfl)
theorem dX6_element_201 : decode cX6_element 201 = .ok (.getfield 35, 3) := dk_180 0 35 (dk_at dksX6_element_8 15 rfl rfl)
theorem dX6_element_204 : decode cX6_element 204 = .ok (.aload_n 0, 1) := dk_42 (dk_at dksX6_element_8 18 rfl rfl)
theorem dX6_element_205 : decode cX6_element 205 = .ok (.getfield 48, 3) := dk_180 0 48 (dk_at dksX6_element_8 19 rfl rfl)
theorem dX6_element_208 : decode cX6_element 208 = .ok (.bipush 6, 2) := dk_16 6 (dk_at dksX6_element_8 22 rfl rfl)
theorem dX6_element_210 : decode cX6_element 210 = .ok (.aload_n 0, 1) := dk_42 (dk_at dksX6_element_9 0 rfl rfl)
theorem dX6_element_211 : decode cX6_element 211 = .ok (.getfield 222, 3) := dk_180 0 222 (dk_at dksX6_element_9 1 rfl rfl)
theorem dX6_element_214 : decode cX6_element 214 = .ok (.imul, 1) := dk_104 (dk_at dksX6_element_9 4 rfl rfl)
theorem dX6_element_215 : decode cX6_element 215 = .ok (.iload 10, 2) := dk_21 10 (dk_at dksX6_element_9 5 rfl rfl)
theorem dX6_element_217 : decode cX6_element 217 = .ok (.iadd, 1) := dk_96 (dk_at dksX6_element_9 7 rfl rfl)
theorem dX6_element_218 : decode cX6_element 218 = .ok (.iaload, 1) := dk_46 (dk_at dksX6_element_9 8 rfl rfl)
theorem dX6_element_219 : decode cX6_element 219 = .ok (.iaload, 1) := dk_46 (dk_at dksX6_element_9 9 rfl rfl)
theorem dX6_element_220 : decode cX6_element 220 = .ok (.iload 9, 2) := dk_21 9 (dk_at dksX6_element_9 10 rfl rfl)
theorem dX6_element_222 : decode cX6_element 222 = .ok (.iand, 1) := dk_126 (dk_at dksX6_element_9 12 rfl rfl)
theorem dX6_element_223 : decode cX6_element 223 = .ok (.ifCond .ne 9, 3) := dk_154 0 9 (dk_at dksX6_element_9 13 rfl rfl)
theorem dX6_element_226 : decode cX6_element 226 = .ok (.iinc 10 1, 3) := dk_132 10 1 (dk_at dksX6_element_9 16 rfl rfl)
theorem dX6_element_229 : decode cX6_element 229 = .ok (.goto (-43), 3) := dk_167 255 213 (dk_at dksX6_element_9 19 rfl rfl)
theorem dX6_element_232 : decode cX6_element 232 = .ok (.aload_n 0, 1) := dk_42 (dk_at dksX6_element_9 22 rfl rfl)
theorem dX6_element_233 : decode cX6_element 233 = .ok (.iload 10, 2) := dk_21 10 (dk_at dksX6_element_10 0 rfl rfl)
theorem dX6_element_235 : decode cX6_element 235 = .ok (.aload_n 0, 1) := dk_42 (dk_at dksX6_element_10 2 rfl rfl)
theorem dX6_element_236 : decode cX6_element 236 = .ok (.getfield 32, 3) := dk_180 0 32 (dk_at dksX6_element_10 3 rfl rfl)
theorem dX6_element_239 : decode cX6_element 239 = .ok (.aload_n 0, 1) := dk_42 (dk_at dksX6_element_10 6 rfl rfl)
theorem dX6_element_240 : decode cX6_element 240 = .ok (.getfield 222, 3) := dk_180 0 222 (dk_at dksX6_element_10 7 rfl rfl)
theorem dX6_element_243 : decode cX6_element 243 = .ok (.iaload, 1) := dk_46 (dk_at dksX6_element_10 10 rfl rfl)
theorem dX6_element_244 : decode cX6_element 244 = .ok (.if_icmp .ge 7, 3) := dk_162 0 7 (dk_at dksX6_element_10 11 rfl rfl)
theorem dX6_element_247 : decode cX6_element 247 = .ok (.iconst 1, 1) := dk_4 (dk_at dksX6_element_10 14 rfl rfl)
theorem dX6_element_248 : decode cX6_element 248 = .ok (.goto 4, 3) := dk_167 0 4 (dk_at dksX6_element_10 15 rfl rfl)
theorem dX6_element_251 : decode cX6_element 251 = .ok (.iconst 0, 1) := dk_3 (dk_at dksX6_element_10 18 rfl rfl)
theorem dX6_element_252 : decode cX6_element 252 = .ok (.putfield 236, 3) := dk_181 0 236 (dk_at dksX6_element_10 19 rfl rfl)
theorem dX6_element_255 : decode cX6_element 255 = .ok (.aload_n 0, 1) := dk_42 (dk_at dksX6_element_10 22 rfl rfl)
theorem dX6_element_256 : decode cX6_element 256 = .ok (.iload 4, 2) := dk_21 4 (dk_at dksX6_element_11 0 rfl rfl)
theorem dX6_element_258 : decode cX6_element 258 = .ok (.iload 5, 2) := dk_21 5 (dk_at dksX6_element_11 2 rfl rfl)
theorem dX6_element_260 : decode cX6_element 260 = .ok (.iload 6, 2) := dk_21 6 (dk_at dksX6_element_11 4 rfl rfl)
theorem dX6_element_262 : decode cX6_element 262 = .ok (.iload 10, 2) := dk_21 10 (dk_at dksX6_element_11 6 rfl rfl)
theorem dX6_element_264 : decode cX6_element 264 = .ok (.invokevirtual 293, 3) := dk_182 1 37 (dk_at dksX6_element_11 8 rfl rfl)
theorem dX6_element_267 : decode cX6_element 267 = .ok (.istore 5, 2) := dk_54 5 (dk_at dksX6_element_11 11 rfl rfl)
theorem dX6_element_269 : decode cX6_element 269 = .ok (.iconst 0, 1) := dk_3 (dk_at dksX6_element_11 13 rfl rfl)
theorem dX6_element_270 : decode cX6_element 270 = .ok (.istore 6, 2) := dk_54 6 (dk_at dksX6_element_11 14 rfl rfl)
theorem dX6_element_272 : decode cX6_element 272 = .ok (.aload_n 0, 1) := dk_42 (dk_at dksX6_element_11 16 rfl rfl)
theorem dX6_element_273 : decode cX6_element 273 = .ok (.getfield 236, 3) := dk_180 0 236 (dk_at dksX6_element_11 17 rfl rfl)
theorem dX6_element_276 : decode cX6_element 276 = .ok (.ifCond .eq 21, 3) := dk_153 0 21 (dk_at dksX6_element_11 20 rfl rfl)
theorem dX6_element_279 : decode cX6_element 279 = .ok (.aload_n 0, 1) := dk_42 (dk_at dksX6_element_11 23 rfl rfl)
theorem dX6_element_280 : decode cX6_element 280 = .ok (.getfield 48, 3) := dk_180 0 48 (dk_at dksX6_element_12 0 rfl rfl)
theorem dX6_element_283 : decode cX6_element 283 = .ok (.bipush 6, 2) := dk_16 6 (dk_at dksX6_element_12 3 rfl rfl)
theorem dX6_element_285 : decode cX6_element 285 = .ok (.aload_n 0, 1) := dk_42 (dk_at dksX6_element_12 5 rfl rfl)
theorem dX6_element_286 : decode cX6_element 286 = .ok (.getfield 222, 3) := dk_180 0 222 (dk_at dksX6_element_12 6 rfl rfl)
theorem dX6_element_289 : decode cX6_element 289 = .ok (.imul, 1) := dk_104 (dk_at dksX6_element_12 9 rfl rfl)
theorem dX6_element_290 : decode cX6_element 290 = .ok (.iload 10, 2) := dk_21 10 (dk_at dksX6_element_12 10 rfl rfl)
theorem dX6_element_292 : decode cX6_element 292 = .ok (.iadd, 1) := dk_96 (dk_at dksX6_element_12 12 rfl rfl)
theorem dX6_element_293 : decode cX6_element 293 = .ok (.iaload, 1) := dk_46 (dk_at dksX6_element_12 13 rfl rfl)
theorem dX6_element_294 : decode cX6_element 294 = .ok (.goto 5, 3) := dk_167 0 5 (dk_at dksX6_element_12 14 rfl rfl)
theorem dX6_element_297 : decode cX6_element 297 = .ok (.iload 4, 2) := dk_21 4 (dk_at dksX6_element_12 17 rfl rfl)
theorem dX6_element_299 : decode cX6_element 299 = .ok (.istore 4, 2) := dk_54 4 (dk_at dksX6_element_12 19 rfl rfl)
theorem dX6_element_301 : decode cX6_element 301 = .ok (.goto (-289), 3) := dk_167 254 223 (dk_at dksX6_element_12 21 rfl rfl)
theorem dX6_element_304 : decode cX6_element 304 = .ok (.aload_n 0, 1) := dk_42 (dk_at dksX6_element_13 0 rfl rfl)
theorem dX6_element_305 : decode cX6_element 305 = .ok (.getfield 236, 3) := dk_180 0 236 (dk_at dksX6_element_13 1 rfl rfl)
theorem dX6_element_308 : decode cX6_element 308 = .ok (.ifCond .eq 13, 3) := dk_153 0 13 (dk_at dksX6_element_13 4 rfl rfl)
theorem dX6_element_311 : decode cX6_element 311 = .ok (.aload_n 0, 1) := dk_42 (dk_at dksX6_element_13 7 rfl rfl)
theorem dX6_element_312 : decode cX6_element 312 = .ok (.iload 4, 2) := dk_21 4 (dk_at dksX6_element_13 8 rfl rfl)
theorem dX6_element_314 : decode cX6_element 314 = .ok (.iload 5, 2) := dk_21 5 (dk_at dksX6_element_13 10 rfl rfl)
theorem dX6_element_316 : decode cX6_element 316 = .ok (.iload 6, 2) := dk_21 6 (dk_at dksX6_element_13 12 rfl rfl)
theorem dX6_element_318 : decode cX6_element 318 = .ok (.invokevirtual 297, 3) := dk_182 1 41 (dk_at dksX6_element_13 14 rfl rfl)
theorem dX6_element_321 : decode cX6_element 321 = .ok (.return_, 1) := dk_177 (dk_at dksX6_element_13 17 rfl rfl)
abbrev cX6_next : ByteArray := prog_18_method_32_code
def yX6_next : MethodName := ⟨RX6, "next", "()I"⟩
def dkwX6_next_2 : List UInt8 := [3, 172]
abbrev dktX6_next_2 : List UInt8 := dkwX6_next_2 ++ []
def dkwX6_next_1 : List UInt8 := [181, 0, 245, 42, 180, 0, 236, 153, 0, 17, 42, 180, 0, 66, 42, 180, 0, 245, 4, 100, 46, 167, 0, 4]
abbrev dktX6_next_1 : List UInt8 := dkwX6_next_1 ++ dktX6_next_2
def dkwX6_next_0 : List UInt8 := [42, 180, 0, 245, 42, 182, 1, 17, 161, 0, 8, 42, 3, 181, 0, 236, 42, 89, 180, 0, 245, 4, 96]
abbrev dktX6_next_0 : List UInt8 := dkwX6_next_0 ++ dktX6_next_1
theorem dksX6_next_0 : cX6_next.data.toList.drop 0 = dktX6_next_0 := by decide +kernel
theorem dksX6_next_1 : cX6_next.data.toList.drop 23 = dktX6_next_1 := dk_seg dksX6_next_0 23 rfl rfl
theorem dksX6_next_2 : cX6_next.data.toList.drop 47 = dktX6_next_2 := dk_seg dksX6_next_1 24 rfl rfl
theorem dX6_next_0 : decode cX6_next 0 = .ok (.aload_n 0, 1) := dk_42 (dk_at dksX6_next_0 0 rfl rfl)
theorem dX6_next_1 : decode cX6_next 1 = .ok (.getfield 245, 3) := dk_180 0 245 (dk_at dksX6_next_0 1 rfl rfl)
theorem dX6_next_4 : decode cX6_next 4 = .ok (.aload_n 0, 1) := dk_42 (dk_at dksX6_next_0 4 rfl rfl)
theorem dX6_next_5 : decode cX6_next 5 = .ok (.invokevirtual 273, 3) := dk_182 1 17 (dk_at dksX6_next_0 5 rfl rfl)
theorem dX6_next_8 : decode cX6_next 8 = .ok (.if_icmp .lt 8, 3) := dk_161 0 8 (dk_at dksX6_next_0 8 rfl rfl)
theorem dX6_next_11 : decode cX6_next 11 = .ok (.aload_n 0, 1) := dk_42 (dk_at dksX6_next_0 11 rfl rfl)
theorem dX6_next_12 : decode cX6_next 12 = .ok (.iconst 0, 1) := dk_3 (dk_at dksX6_next_0 12 rfl rfl)
theorem dX6_next_13 : decode cX6_next 13 = .ok (.putfield 236, 3) := dk_181 0 236 (dk_at dksX6_next_0 13 rfl rfl)
theorem dX6_next_16 : decode cX6_next 16 = .ok (.aload_n 0, 1) := dk_42 (dk_at dksX6_next_0 16 rfl rfl)
theorem dX6_next_17 : decode cX6_next 17 = .ok (.dup, 1) := dk_89 (dk_at dksX6_next_0 17 rfl rfl)
theorem dX6_next_18 : decode cX6_next 18 = .ok (.getfield 245, 3) := dk_180 0 245 (dk_at dksX6_next_0 18 rfl rfl)
theorem dX6_next_21 : decode cX6_next 21 = .ok (.iconst 1, 1) := dk_4 (dk_at dksX6_next_0 21 rfl rfl)
theorem dX6_next_22 : decode cX6_next 22 = .ok (.iadd, 1) := dk_96 (dk_at dksX6_next_0 22 rfl rfl)
theorem dX6_next_23 : decode cX6_next 23 = .ok (.putfield 245, 3) := dk_181 0 245 (dk_at dksX6_next_1 0 rfl rfl)
theorem dX6_next_26 : decode cX6_next 26 = .ok (.aload_n 0, 1) := dk_42 (dk_at dksX6_next_1 3 rfl rfl)
theorem dX6_next_27 : decode cX6_next 27 = .ok (.getfield 236, 3) := dk_180 0 236 (dk_at dksX6_next_1 4 rfl rfl)
theorem dX6_next_30 : decode cX6_next 30 = .ok (.ifCond .eq 17, 3) := dk_153 0 17 (dk_at dksX6_next_1 7 rfl rfl)
theorem dX6_next_33 : decode cX6_next 33 = .ok (.aload_n 0, 1) := dk_42 (dk_at dksX6_next_1 10 rfl rfl)
theorem dX6_next_34 : decode cX6_next 34 = .ok (.getfield 66, 3) := dk_180 0 66 (dk_at dksX6_next_1 11 rfl rfl)
theorem dX6_next_37 : decode cX6_next 37 = .ok (.aload_n 0, 1) := dk_42 (dk_at dksX6_next_1 14 rfl rfl)
theorem dX6_next_38 : decode cX6_next 38 = .ok (.getfield 245, 3) := dk_180 0 245 (dk_at dksX6_next_1 15 rfl rfl)
theorem dX6_next_41 : decode cX6_next 41 = .ok (.iconst 1, 1) := dk_4 (dk_at dksX6_next_1 18 rfl rfl)
theorem dX6_next_42 : decode cX6_next 42 = .ok (.isub, 1) := dk_100 (dk_at dksX6_next_1 19 rfl rfl)
theorem dX6_next_43 : decode cX6_next 43 = .ok (.iaload, 1) := dk_46 (dk_at dksX6_next_1 20 rfl rfl)
theorem dX6_next_44 : decode cX6_next 44 = .ok (.goto 4, 3) := dk_167 0 4 (dk_at dksX6_next_1 21 rfl rfl)
theorem dX6_next_47 : decode cX6_next 47 = .ok (.iconst 0, 1) := dk_3 (dk_at dksX6_next_2 0 rfl rfl)
theorem dX6_next_48 : decode cX6_next 48 = .ok (.ireturn, 1) := dk_172 (dk_at dksX6_next_2 1 rfl rfl)
abbrev cX6_bound : ByteArray := prog_18_method_31_code
def yX6_bound : MethodName := ⟨RX6, "bound", "()I"⟩
def dkwX6_bound_1 : List UInt8 := [46, 172]
abbrev dktX6_bound_1 : List UInt8 := dkwX6_bound_1 ++ []
def dkwX6_bound_0 : List UInt8 := [42, 180, 0, 242, 154, 0, 10, 42, 180, 1, 5, 167, 0, 14, 42, 180, 0, 105, 42, 180, 0, 242, 4, 100]
abbrev dktX6_bound_0 : List UInt8 := dkwX6_bound_0 ++ dktX6_bound_1
theorem dksX6_bound_0 : cX6_bound.data.toList.drop 0 = dktX6_bound_0 := by decide +kernel
theorem dksX6_bound_1 : cX6_bound.data.toList.drop 24 = dktX6_bound_1 := dk_seg dksX6_bound_0 24 rfl rfl
theorem dX6_bound_0 : decode cX6_bound 0 = .ok (.aload_n 0, 1) := dk_42 (dk_at dksX6_bound_0 0 rfl rfl)
theorem dX6_bound_1 : decode cX6_bound 1 = .ok (.getfield 242, 3) := dk_180 0 242 (dk_at dksX6_bound_0 1 rfl rfl)
theorem dX6_bound_4 : decode cX6_bound 4 = .ok (.ifCond .ne 10, 3) := dk_154 0 10 (dk_at dksX6_bound_0 4 rfl rfl)
theorem dX6_bound_7 : decode cX6_bound 7 = .ok (.aload_n 0, 1) := dk_42 (dk_at dksX6_bound_0 7 rfl rfl)
theorem dX6_bound_8 : decode cX6_bound 8 = .ok (.getfield 261, 3) := dk_180 1 5 (dk_at dksX6_bound_0 8 rfl rfl)
theorem dX6_bound_11 : decode cX6_bound 11 = .ok (.goto 14, 3) := dk_167 0 14 (dk_at dksX6_bound_0 11 rfl rfl)
theorem dX6_bound_14 : decode cX6_bound 14 = .ok (.aload_n 0, 1) := dk_42 (dk_at dksX6_bound_0 14 rfl rfl)
theorem dX6_bound_15 : decode cX6_bound 15 = .ok (.getfield 105, 3) := dk_180 0 105 (dk_at dksX6_bound_0 15 rfl rfl)
theorem dX6_bound_18 : decode cX6_bound 18 = .ok (.aload_n 0, 1) := dk_42 (dk_at dksX6_bound_0 18 rfl rfl)
theorem dX6_bound_19 : decode cX6_bound 19 = .ok (.getfield 242, 3) := dk_180 0 242 (dk_at dksX6_bound_0 19 rfl rfl)
theorem dX6_bound_22 : decode cX6_bound 22 = .ok (.iconst 1, 1) := dk_4 (dk_at dksX6_bound_0 22 rfl rfl)
theorem dX6_bound_23 : decode cX6_bound 23 = .ok (.isub, 1) := dk_100 (dk_at dksX6_bound_0 23 rfl rfl)
theorem dX6_bound_24 : decode cX6_bound 24 = .ok (.iaload, 1) := dk_46 (dk_at dksX6_bound_1 0 rfl rfl)
theorem dX6_bound_25 : decode cX6_bound 25 = .ok (.ireturn, 1) := dk_172 (dk_at dksX6_bound_1 1 rfl rfl)
abbrev cX6_enter : ByteArray := prog_18_method_35_code
def yX6_enter : MethodName := ⟨RX6, "enter", "(I)V"⟩
def dkwX6_enter_1 : List UInt8 := [96, 28, 156, 0, 7, 4, 167, 0, 4, 3, 182, 1, 27, 177]
abbrev dktX6_enter_1 : List UInt8 := dkwX6_enter_1 ++ []
def dkwX6_enter_0 : List UInt8 := [42, 4, 182, 1, 23, 61, 42, 27, 28, 156, 0, 10, 42, 182, 1, 17, 167, 0, 9, 42, 180, 0, 245, 28]
abbrev dktX6_enter_0 : List UInt8 := dkwX6_enter_0 ++ dktX6_enter_1
theorem dksX6_enter_0 : cX6_enter.data.toList.drop 0 = dktX6_enter_0 := by decide +kernel
theorem dksX6_enter_1 : cX6_enter.data.toList.drop 24 = dktX6_enter_1 := dk_seg dksX6_enter_0 24 rfl rfl
theorem dX6_enter_0 : decode cX6_enter 0 = .ok (.aload_n 0, 1) := dk_42 (dk_at dksX6_enter_0 0 rfl rfl)
theorem dX6_enter_1 : decode cX6_enter 1 = .ok (.iconst 1, 1) := dk_4 (dk_at dksX6_enter_0 1 rfl rfl)
theorem dX6_enter_2 : decode cX6_enter 2 = .ok (.invokevirtual 279, 3) := dk_182 1 23 (dk_at dksX6_enter_0 2 rfl rfl)
theorem dX6_enter_5 : decode cX6_enter 5 = .ok (.istore_n 2, 1) := dk_61 (dk_at dksX6_enter_0 5 rfl rfl)
theorem dX6_enter_6 : decode cX6_enter 6 = .ok (.aload_n 0, 1) := dk_42 (dk_at dksX6_enter_0 6 rfl rfl)
theorem dX6_enter_7 : decode cX6_enter 7 = .ok (.iload_n 1, 1) := dk_27 (dk_at dksX6_enter_0 7 rfl rfl)
theorem dX6_enter_8 : decode cX6_enter 8 = .ok (.iload_n 2, 1) := dk_28 (dk_at dksX6_enter_0 8 rfl rfl)
theorem dX6_enter_9 : decode cX6_enter 9 = .ok (.ifCond .ge 10, 3) := dk_156 0 10 (dk_at dksX6_enter_0 9 rfl rfl)
theorem dX6_enter_12 : decode cX6_enter 12 = .ok (.aload_n 0, 1) := dk_42 (dk_at dksX6_enter_0 12 rfl rfl)
theorem dX6_enter_13 : decode cX6_enter 13 = .ok (.invokevirtual 273, 3) := dk_182 1 17 (dk_at dksX6_enter_0 13 rfl rfl)
theorem dX6_enter_16 : decode cX6_enter 16 = .ok (.goto 9, 3) := dk_167 0 9 (dk_at dksX6_enter_0 16 rfl rfl)
theorem dX6_enter_19 : decode cX6_enter 19 = .ok (.aload_n 0, 1) := dk_42 (dk_at dksX6_enter_0 19 rfl rfl)
theorem dX6_enter_20 : decode cX6_enter 20 = .ok (.getfield 245, 3) := dk_180 0 245 (dk_at dksX6_enter_0 20 rfl rfl)
theorem dX6_enter_23 : decode cX6_enter 23 = .ok (.iload_n 2, 1) := dk_28 (dk_at dksX6_enter_0 23 rfl rfl)
theorem dX6_enter_24 : decode cX6_enter 24 = .ok (.iadd, 1) := dk_96 (dk_at dksX6_enter_1 0 rfl rfl)
theorem dX6_enter_25 : decode cX6_enter 25 = .ok (.iload_n 2, 1) := dk_28 (dk_at dksX6_enter_1 1 rfl rfl)
theorem dX6_enter_26 : decode cX6_enter 26 = .ok (.ifCond .ge 7, 3) := dk_156 0 7 (dk_at dksX6_enter_1 2 rfl rfl)
theorem dX6_enter_29 : decode cX6_enter 29 = .ok (.iconst 1, 1) := dk_4 (dk_at dksX6_enter_1 5 rfl rfl)
theorem dX6_enter_30 : decode cX6_enter 30 = .ok (.goto 4, 3) := dk_167 0 4 (dk_at dksX6_enter_1 6 rfl rfl)
theorem dX6_enter_33 : decode cX6_enter 33 = .ok (.iconst 0, 1) := dk_3 (dk_at dksX6_enter_1 9 rfl rfl)
theorem dX6_enter_34 : decode cX6_enter 34 = .ok (.invokevirtual 283, 3) := dk_182 1 27 (dk_at dksX6_enter_1 10 rfl rfl)
theorem dX6_enter_37 : decode cX6_enter 37 = .ok (.return_, 1) := dk_177 (dk_at dksX6_enter_1 13 rfl rfl)
abbrev cX6_length : ByteArray := prog_18_method_33_code
def yX6_length : MethodName := ⟨RX6, "length", "(Z)I"⟩
def dkwX6_length_4 : List UInt8 := [180, 0, 236, 153, 0, 7, 28, 167, 0, 4, 3, 172]
abbrev dktX6_length_4 : List UInt8 := dkwX6_length_4 ++ []
def dkwX6_length_3 : List UInt8 := [182, 1, 20, 96, 61, 42, 180, 0, 245, 28, 96, 42, 182, 1, 17, 164, 0, 8, 42, 3, 181, 0, 236, 42]
abbrev dktX6_length_3 : List UInt8 := dkwX6_length_3 ++ dktX6_length_4
def dkwX6_length_2 : List UInt8 := [182, 1, 20, 61, 167, 0, 24, 28, 17, 0, 130, 160, 0, 17, 17, 1, 0, 42, 182, 1, 20, 104, 42]
abbrev dktX6_length_2 : List UInt8 := dkwX6_length_2 ++ dktX6_length_3
def dkwX6_length_1 : List UInt8 := [163, 0, 10, 28, 17, 0, 128, 160, 0, 8, 42, 3, 181, 0, 236, 28, 17, 0, 129, 160, 0, 11, 42]
abbrev dktX6_length_1 : List UInt8 := dkwX6_length_1 ++ dktX6_length_2
def dkwX6_length_0 : List UInt8 := [42, 182, 1, 20, 61, 28, 17, 0, 128, 160, 0, 9, 27, 153, 0, 5, 2, 172, 28, 17, 0, 130]
abbrev dktX6_length_0 : List UInt8 := dkwX6_length_0 ++ dktX6_length_1
theorem dksX6_length_0 : cX6_length.data.toList.drop 0 = dktX6_length_0 := by decide +kernel
theorem dksX6_length_1 : cX6_length.data.toList.drop 22 = dktX6_length_1 := dk_seg dksX6_length_0 22 rfl rfl
theorem dksX6_length_2 : cX6_length.data.toList.drop 45 = dktX6_length_2 := dk_seg dksX6_length_1 23 rfl rfl
theorem dksX6_length_3 : cX6_length.data.toList.drop 68 = dktX6_length_3 := dk_seg dksX6_length_2 23 rfl rfl
theorem dksX6_length_4 : cX6_length.data.toList.drop 92 = dktX6_length_4 := dk_seg dksX6_length_3 24 rfl rfl
theorem dX6_length_0 : decode cX6_length 0 = .ok (.aload_n 0, 1) := dk_42 (dk_at dksX6_length_0 0 rfl rfl)
theorem dX6_length_1 : decode cX6_length 1 = .ok (.invokevirtual 276, 3) := dk_182 1 20 (dk_at dksX6_length_0 1 rfl rfl)
theorem dX6_length_4 : decode cX6_length 4 = .ok (.istore_n 2, 1) := dk_61 (dk_at dksX6_length_0 4 rfl rfl)
theorem dX6_length_5 : decode cX6_length 5 = .ok (.iload_n 2, 1) := dk_28 (dk_at dksX6_length_0 5 rfl rfl)
theorem dX6_length_6 : decode cX6_length 6 = .ok (.sipush 128, 3) := dk_17 0 128 (dk_at dksX6_length_0 6 rfl rfl)
theorem dX6_length_9 : decode cX6_length 9 = .ok (.if_icmp .ne 9, 3) := dk_160 0 9 (dk_at dksX6_length_0 9 rfl rfl)
theorem dX6_length_12 : decode cX6_length 12 = .ok (.iload_n 1, 1) := dk_27 (dk_at dksX6_length_0 12 rfl rfl)
theorem dX6_length_13 : decode cX6_length 13 = .ok (.ifCond .eq 5, 3) := dk_153 0 5 (dk_at dksX6_length_0 13 rfl rfl)
theorem dX6_length_16 : decode cX6_length 16 = .ok (.iconst (-1), 1) := dk_2 (dk_at dksX6_length_0 16 rfl rfl)
theorem dX6_length_17 : decode cX6_length 17 = .ok (.ireturn, 1) := dk_172 (dk_at dksX6_length_0 17 rfl rfl)
theorem dX6_length_18 : decode cX6_length 18 = .ok (.iload_n 2, 1) := dk_28 (dk_at dksX6_length_0 18 rfl rfl)
theorem dX6_length_19 : decode cX6_length 19 = .ok (.sipush 130, 3) := dk_17 0 130 (dk_at dksX6_length_0 19 rfl rfl)
theorem dX6_length_22 : decode cX6_length 22 = .ok (.if_icmp .gt 10, 3) := dk_163 0 10 (dk_at dksX6_length_1 0 rfl rfl)
theorem dX6_length_25 : decode cX6_length 25 = .ok (.iload_n 2, 1) := dk_28 (dk_at dksX6_length_1 3 rfl rfl)
theorem dX6_length_26 : decode cX6_length 26 = .ok (.sipush 128, 3) := dk_17 0 128 (dk_at dksX6_length_1 4 rfl rfl)
theorem dX6_length_29 : decode cX6_length 29 = .ok (.if_icmp .ne 8, 3) := dk_160 0 8 (dk_at dksX6_length_1 7 rfl rfl)
theorem dX6_length_32 : decode cX6_length 32 = .ok (.aload_n 0, 1) := dk_42 (dk_at dksX6_length_1 10 rfl rfl)
theorem dX6_length_33 : decode cX6_length 33 = .ok (.iconst 0, 1) := dk_3 (dk_at dksX6_length_1 11 rfl rfl)
theorem dX6_length_34 : decode cX6_length 34 = .ok (.putfield 236, 3) := dk_181 0 236 (dk_at dksX6_length_1 12 rfl rfl)
theorem dX6_length_37 : decode cX6_length 37 = .ok (.iload_n 2, 1) := dk_28 (dk_at dksX6_length_1 15 rfl rfl)
theorem dX6_length_38 : decode cX6_length 38 = .ok (.sipush 129, 3) := dk_17 0 129 (dk_at dksX6_length_1 16 rfl rfl)
theorem dX6_length_41 : decode cX6_length 41 = .ok (.if_icmp .ne 11, 3) := dk_160 0 11 (dk_at dksX6_length_1 19 rfl rfl)
theorem dX6_length_44 : decode cX6_length 44 = .ok (.aload_n 0, 1) := dk_42 (dk_at dksX6_length_1 22 rfl rfl)
theorem dX6_length_45 : decode cX6_length 45 = .ok (.invokevirtual 276, 3) := dk_182 1 20 (dk_at dksX6_length_2 0 rfl rfl)
theorem dX6_length_48 : decode cX6_length 48 = .ok (.istore_n 2, 1) := dk_61 (dk_at dksX6_length_2 3 rfl rfl)
theorem dX6_length_49 : decode cX6_length 49 = .ok (.goto 24, 3) := dk_167 0 24 (dk_at dksX6_length_2 4 rfl rfl)
theorem dX6_length_52 : decode cX6_length 52 = .ok (.iload_n 2, 1) := dk_28 (dk_at dksX6_length_2 7 rfl rfl)
theorem dX6_length_53 : decode cX6_length 53 = .ok (.sipush 130, 3) := dk_17 0 130 (dk_at dksX6_length_2 8 rfl rfl)
theorem dX6_length_56 : decode cX6_length 56 = .ok (.if_icmp .ne 17, 3) := dk_160 0 17 (dk_at dksX6_length_2 11 rfl rfl)
theorem dX6_length_59 : decode cX6_length 59 = .ok (.sipush 256, 3) := dk_17 1 0 (dk_at dksX6_length_2 14 rfl rfl)
theorem dX6_length_62 : decode cX6_length 62 = .ok (.aload_n 0, 1) := dk_42 (dk_at dksX6_length_2 17 rfl rfl)
theorem dX6_length_63 : decode cX6_length 63 = .ok (.invokevirtual 276, 3) := dk_182 1 20 (dk_at dksX6_length_2 18 rfl rfl)
theorem dX6_length_66 : decode cX6_length 66 = .ok (.imul, 1) := dk_104 (dk_at dksX6_length_2 21 rfl rfl)
theorem dX6_length_67 : decode cX6_length 67 = .ok (.aload_n 0, 1) := dk_42 (dk_at dksX6_length_2 22 rfl rfl)
theorem dX6_length_68 : decode cX6_length 68 = .ok (.invokevirtual 276, 3) := dk_182 1 20 (dk_at dksX6_length_3 0 rfl rfl)
theorem dX6_length_71 : decode cX6_length 71 = .ok (.iadd, 1) := dk_96 (dk_at dksX6_length_3 3 rfl rfl)
theorem dX6_length_72 : decode cX6_length 72 = .ok (.istore_n 2, 1) := dk_61 (dk_at dksX6_length_3 4 rfl rfl)
theorem dX6_length_73 : decode cX6_length 73 = .ok (.aload_n 0, 1) := dk_42 (dk_at dksX6_length_3 5 rfl rfl)
theorem dX6_length_74 : decode cX6_length 74 = .ok (.getfield 245, 3) := dk_180 0 245 (dk_at dksX6_length_3 6 rfl rfl)
theorem dX6_length_77 : decode cX6_length 77 = .ok (.iload_n 2, 1) := dk_28 (dk_at dksX6_length_3 9 rfl rfl)
theorem dX6_length_78 : decode cX6_length 78 = .ok (.iadd, 1) := dk_96 (dk_at dksX6_length_3 10 rfl rfl)
theorem dX6_length_79 : decode cX6_length 79 = .ok (.aload_n 0, 1) := dk_42 (dk_at dksX6_length_3 11 rfl rfl)
theorem dX6_length_80 : decode cX6_length 80 = .ok (.invokevirtual 273, 3) := dk_182 1 17 (dk_at dksX6_length_3 12 rfl rfl)
theorem dX6_length_83 : decode cX6_length 83 = .ok (.if_icmp .le 8, 3) := dk_164 0 8 (dk_at dksX6_length_3 15 rfl rfl)
theorem dX6_length_86 : decode cX6_length 86 = .ok (.aload_n 0, 1) := dk_42 (dk_at dksX6_length_3 18 rfl rfl)
theorem dX6_length_87 : decode cX6_length 87 = .ok (.iconst 0, 1) := dk_3 (dk_at dksX6_length_3 19 rfl rfl)
theorem dX6_length_88 : decode cX6_length 88 = .ok (.putfield 236, 3) := dk_181 0 236 (dk_at dksX6_length_3 20 rfl rfl)
theorem dX6_length_91 : decode cX6_length 91 = .ok (.aload_n 0, 1) := dk_42 (dk_at dksX6_length_3 23 rfl rfl)
theorem dX6_length_92 : decode cX6_length 92 = .ok (.getfield 236, 3) := dk_180 0 236 (dk_at dksX6_length_4 0 rfl rfl)
theorem dX6_length_95 : decode cX6_length 95 = .ok (.ifCond .eq 7, 3) := dk_153 0 7 (dk_at dksX6_length_4 3 rfl rfl)
theorem dX6_length_98 : decode cX6_length 98 = .ok (.iload_n 2, 1) := dk_28 (dk_at dksX6_length_4 6 rfl rfl)
theorem dX6_length_99 : decode cX6_length 99 = .ok (.goto 4, 3) := dk_167 0 4 (dk_at dksX6_length_4 7 rfl rfl)
theorem dX6_length_102 : decode cX6_length 102 = .ok (.iconst 0, 1) := dk_3 (dk_at dksX6_length_4 10 rfl rfl)
theorem dX6_length_103 : decode cX6_length 103 = .ok (.ireturn, 1) := dk_172 (dk_at dksX6_length_4 11 rfl rfl)
abbrev cX6_frame : ByteArray := prog_18_method_29_code
def yX6_frame : MethodName := ⟨RX6, "frame", "(IIZ)V"⟩
def dkwX6_frame_2 : List UInt8 := [3, 79, 42, 89, 180, 0, 242, 4, 96, 181, 0, 242, 177]
abbrev dktX6_frame_2 : List UInt8 := dkwX6_frame_2 ++ []
def dkwX6_frame_1 : List UInt8 := [42, 180, 0, 242, 29, 84, 42, 180, 0, 108, 42, 180, 0, 242, 3, 79, 42, 180, 0, 111, 42, 180, 0, 242]
abbrev dktX6_frame_1 : List UInt8 := dkwX6_frame_1 ++ dktX6_frame_2
def dkwX6_frame_0 : List UInt8 := [42, 180, 0, 102, 42, 180, 0, 242, 27, 79, 42, 180, 0, 105, 42, 180, 0, 242, 28, 79, 42, 180, 0, 114]
abbrev dktX6_frame_0 : List UInt8 := dkwX6_frame_0 ++ dktX6_frame_1
theorem dksX6_frame_0 : cX6_frame.data.toList.drop 0 = dktX6_frame_0 := by decide +kernel
theorem dksX6_frame_1 : cX6_frame.data.toList.drop 24 = dktX6_frame_1 := dk_seg dksX6_frame_0 24 rfl rfl
theorem dksX6_frame_2 : cX6_frame.data.toList.drop 48 = dktX6_frame_2 := dk_seg dksX6_frame_1 24 rfl rfl
theorem dX6_frame_0 : decode cX6_frame 0 = .ok (.aload_n 0, 1) := dk_42 (dk_at dksX6_frame_0 0 rfl rfl)
theorem dX6_frame_1 : decode cX6_frame 1 = .ok (.getfield 102, 3) := dk_180 0 102 (dk_at dksX6_frame_0 1 rfl rfl)
theorem dX6_frame_4 : decode cX6_frame 4 = .ok (.aload_n 0, 1) := dk_42 (dk_at dksX6_frame_0 4 rfl rfl)
theorem dX6_frame_5 : decode cX6_frame 5 = .ok (.getfield 242, 3) := dk_180 0 242 (dk_at dksX6_frame_0 5 rfl rfl)
theorem dX6_frame_8 : decode cX6_frame 8 = .ok (.iload_n 1, 1) := dk_27 (dk_at dksX6_frame_0 8 rfl rfl)
theorem dX6_frame_9 : decode cX6_frame 9 = .ok (.iastore, 1) := dk_79 (dk_at dksX6_frame_0 9 rfl rfl)
theorem dX6_frame_10 : decode cX6_frame 10 = .ok (.aload_n 0, 1) := dk_42 (dk_at dksX6_frame_0 10 rfl rfl)
theorem dX6_frame_11 : decode cX6_frame 11 = .ok (.getfield 105, 3) := dk_180 0 105 (dk_at dksX6_frame_0 11 rfl rfl)
theorem dX6_frame_14 : decode cX6_frame 14 = .ok (.aload_n 0, 1) := dk_42 (dk_at dksX6_frame_0 14 rfl rfl)
theorem dX6_frame_15 : decode cX6_frame 15 = .ok (.getfield 242, 3) := dk_180 0 242 (dk_at dksX6_frame_0 15 rfl rfl)
theorem dX6_frame_18 : decode cX6_frame 18 = .ok (.iload_n 2, 1) := dk_28 (dk_at dksX6_frame_0 18 rfl rfl)
theorem dX6_frame_19 : decode cX6_frame 19 = .ok (.iastore, 1) := dk_79 (dk_at dksX6_frame_0 19 rfl rfl)
theorem dX6_frame_20 : decode cX6_frame 20 = .ok (.aload_n 0, 1) := dk_42 (dk_at dksX6_frame_0 20 rfl rfl)
theorem dX6_frame_21 : decode cX6_frame 21 = .ok (.getfield 114, 3) := dk_180 0 114 (dk_at dksX6_frame_0 21 rfl rfl)
theorem dX6_frame_24 : decode cX6_frame 24 = .ok (.aload_n 0, 1) := dk_42 (dk_at dksX6_frame_1 0 rfl rfl)
theorem dX6_frame_25 : decode cX6_frame 25 = .ok (.getfield 242, 3) := dk_180 0 242 (dk_at dksX6_frame_1 1 rfl rfl)
theorem dX6_frame_28 : decode cX6_frame 28 = .ok (.iload_n 3, 1) := dk_29 (dk_at dksX6_frame_1 4 rfl rfl)
theorem dX6_frame_29 : decode cX6_frame 29 = .ok (.bastore, 1) := dk_84 (dk_at dksX6_frame_1 5 rfl rfl)
theorem dX6_frame_30 : decode cX6_frame 30 = .ok (.aload_n 0, 1) := dk_42 (dk_at dksX6_frame_1 6 rfl rfl)
theorem dX6_frame_31 : decode cX6_frame 31 = .ok (.getfield 108, 3) := dk_180 0 108 (dk_at dksX6_frame_1 7 rfl rfl)
theorem dX6_frame_34 : decode cX6_frame 34 = .ok (.aload_n 0, 1) := dk_42 (dk_at dksX6_frame_1 10 rfl rfl)
theorem dX6_frame_35 : decode cX6_frame 35 = .ok (.getfield 242, 3) := dk_180 0 242 (dk_at dksX6_frame_1 11 rfl rfl)
theorem dX6_frame_38 : decode cX6_frame 38 = .ok (.iconst 0, 1) := dk_3 (dk_at dksX6_frame_1 14 rfl rfl)
theorem dX6_frame_39 : decode cX6_frame 39 = .ok (.iastore, 1) := dk_79 (dk_at dksX6_frame_1 15 rfl rfl)
theorem dX6_frame_40 : decode cX6_frame 40 = .ok (.aload_n 0, 1) := dk_42 (dk_at dksX6_frame_1 16 rfl rfl)
theorem dX6_frame_41 : decode cX6_frame 41 = .ok (.getfield 111, 3) := dk_180 0 111 (dk_at dksX6_frame_1 17 rfl rfl)
theorem dX6_frame_44 : decode cX6_frame 44 = .ok (.aload_n 0, 1) := dk_42 (dk_at dksX6_frame_1 20 rfl rfl)
theorem dX6_frame_45 : decode cX6_frame 45 = .ok (.getfield 242, 3) := dk_180 0 242 (dk_at dksX6_frame_1 21 rfl rfl)
theorem dX6_frame_48 : decode cX6_frame 48 = .ok (.iconst 0, 1) := dk_3 (dk_at dksX6_frame_2 0 rfl rfl)
theorem dX6_frame_49 : decode cX6_frame 49 = .ok (.iastore, 1) := dk_79 (dk_at dksX6_frame_2 1 rfl rfl)
theorem dX6_frame_50 : decode cX6_frame 50 = .ok (.aload_n 0, 1) := dk_42 (dk_at dksX6_frame_2 2 rfl rfl)
theorem dX6_frame_51 : decode cX6_frame 51 = .ok (.dup, 1) := dk_89 (dk_at dksX6_frame_2 3 rfl rfl)
theorem dX6_frame_52 : decode cX6_frame 52 = .ok (.getfield 242, 3) := dk_180 0 242 (dk_at dksX6_frame_2 4 rfl rfl)
theorem dX6_frame_55 : decode cX6_frame 55 = .ok (.iconst 1, 1) := dk_4 (dk_at dksX6_frame_2 7 rfl rfl)
theorem dX6_frame_56 : decode cX6_frame 56 = .ok (.iadd, 1) := dk_96 (dk_at dksX6_frame_2 8 rfl rfl)
theorem dX6_frame_57 : decode cX6_frame 57 = .ok (.putfield 242, 3) := dk_181 0 242 (dk_at dksX6_frame_2 9 rfl rfl)
theorem dX6_frame_60 : decode cX6_frame 60 = .ok (.return_, 1) := dk_177 (dk_at dksX6_frame_2 12 rfl rfl)
abbrev cX6_bitOf : ByteArray := prog_18_method_34_code
def yX6_bitOf : MethodName := ⟨RX6, "bitOf", "(I)I"⟩
def dkwX6_bitOf_3 : List UInt8 := [167, 0, 4, 3, 172]
abbrev dktX6_bitOf_3 : List UInt8 := dkwX6_bitOf_3 ++ []
def dkwX6_bitOf_2 : List UInt8 := [7, 159, 0, 8, 26, 8, 160, 0, 9, 4, 26, 120, 167, 0, 15, 26, 16, 48, 160, 0, 8, 18, 210]
abbrev dktX6_bitOf_2 : List UInt8 := dkwX6_bitOf_2 ++ dktX6_bitOf_3
def dkwX6_bitOf_1 : List UInt8 := [153, 0, 13, 4, 16, 20, 26, 16, 32, 112, 96, 120, 172, 26, 4, 159, 0, 18, 26, 5, 159, 0, 13, 26]
abbrev dktX6_bitOf_1 : List UInt8 := dkwX6_bitOf_1 ++ dktX6_bitOf_2
def dkwX6_bitOf_0 : List UInt8 := [26, 17, 0, 128, 17, 0, 137, 184, 0, 166, 154, 0, 16, 26, 17, 0, 160, 17, 0, 169, 184, 0, 166]
abbrev dktX6_bitOf_0 : List UInt8 := dkwX6_bitOf_0 ++ dktX6_bitOf_1
theorem dksX6_bitOf_0 : cX6_bitOf.data.toList.drop 0 = dktX6_bitOf_0 := by decide +kernel
theorem dksX6_bitOf_1 : cX6_bitOf.data.toList.drop 23 = dktX6_bitOf_1 := dk_seg dksX6_bitOf_0 23 rfl rfl
theorem dksX6_bitOf_2 : cX6_bitOf.data.toList.drop 47 = dktX6_bitOf_2 := dk_seg dksX6_bitOf_1 24 rfl rfl
theorem dksX6_bitOf_3 : cX6_bitOf.data.toList.drop 70 = dktX6_bitOf_3 := dk_seg dksX6_bitOf_2 23 rfl rfl
theorem dX6_bitOf_0 : decode cX6_bitOf 0 = .ok (.iload_n 0, 1) := dk_26 (dk_at dksX6_bitOf_0 0 rfl rfl)
theorem dX6_bitOf_1 : decode cX6_bitOf 1 = .ok (.sipush 128, 3) := dk_17 0 128 (dk_at dksX6_bitOf_0 1 rfl rfl)
theorem dX6_bitOf_4 : decode cX6_bitOf 4 = .ok (.sipush 137, 3) := dk_17 0 137 (dk_at dksX6_bitOf_0 4 rfl rfl)
theorem dX6_bitOf_7 : decode cX6_bitOf 7 = .ok (.invokestatic 166, 3) := dk_184 0 166 (dk_at dksX6_bitOf_0 7 rfl rfl)
theorem dX6_bitOf_10 : decode cX6_bitOf 10 = .ok (.ifCond .ne 16, 3) := dk_154 0 16 (dk_at dksX6_bitOf_0 10 rfl rfl)
theorem dX6_bitOf_13 : decode cX6_bitOf 13 = .ok (.iload_n 0, 1) := dk_26 (dk_at dksX6_bitOf_0 13 rfl rfl)
theorem dX6_bitOf_14 : decode cX6_bitOf 14 = .ok (.sipush 160, 3) := dk_17 0 160 (dk_at dksX6_bitOf_0 14 rfl rfl)
theorem dX6_bitOf_17 : decode cX6_bitOf 17 = .ok (.sipush 169, 3) := dk_17 0 169 (dk_at dksX6_bitOf_0 17 rfl rfl)
theorem dX6_bitOf_20 : decode cX6_bitOf 20 = .ok (.invokestatic 166, 3) := dk_184 0 166 (dk_at dksX6_bitOf_0 20 rfl rfl)
theorem dX6_bitOf_23 : decode cX6_bitOf 23 = .ok (.ifCond .eq 13, 3) := dk_153 0 13 (dk_at dksX6_bitOf_1 0 rfl rfl)
theorem dX6_bitOf_26 : decode cX6_bitOf 26 = .ok (.iconst 1, 1) := dk_4 (dk_at dksX6_bitOf_1 3 rfl rfl)
theorem dX6_bitOf_27 : decode cX6_bitOf 27 = .ok (.bipush 20, 2) := dk_16 20 (dk_at dksX6_bitOf_1 4 rfl rfl)
theorem dX6_bitOf_29 : decode cX6_bitOf 29 = .ok (.iload_n 0, 1) := dk_26 (dk_at dksX6_bitOf_1 6 rfl rfl)
theorem dX6_bitOf_30 : decode cX6_bitOf 30 = .ok (.bipush 32, 2) := dk_16 32 (dk_at dksX6_bitOf_1 7 rfl rfl)
theorem dX6_bitOf_32 : decode cX6_bitOf 32 = .ok (.irem, 1) := dk_112 (dk_at dksX6_bitOf_1 9 rfl rfl)
theorem dX6_bitOf_33 : decode cX6_bitOf 33 = .ok (.iadd, 1) := dk_96 (dk_at dksX6_bitOf_1 10 rfl rfl)
theorem dX6_bitOf_34 : decode cX6_bitOf 34 = .ok (.ishl, 1) := dk_120 (dk_at dksX6_bitOf_1 11 rfl rfl)
theorem dX6_bitOf_35 : decode cX6_bitOf 35 = .ok (.ireturn, 1) := dk_172 (dk_at dksX6_bitOf_1 12 rfl rfl)
theorem dX6_bitOf_36 : decode cX6_bitOf 36 = .ok (.iload_n 0, 1) := dk_26 (dk_at dksX6_bitOf_1 13 rfl rfl)
theorem dX6_bitOf_37 : decode cX6_bitOf 37 = .ok (.iconst 1, 1) := dk_4 (dk_at dksX6_bitOf_1 14 rfl rfl)
theorem dX6_bitOf_38 : decode cX6_bitOf 38 = .ok (.if_icmp .eq 18, 3) := dk_159 0 18 (dk_at dksX6_bitOf_1 15 rfl rfl)
theorem dX6_bitOf_41 : decode cX6_bitOf 41 = .ok (.iload_n 0, 1) := dk_26 (dk_at dksX6_bitOf_1 18 rfl rfl)
theorem dX6_bitOf_42 : decode cX6_bitOf 42 = .ok (.iconst 2, 1) := dk_5 (dk_at dksX6_bitOf_1 19 rfl rfl)
theorem dX6_bitOf_43 : decode cX6_bitOf 43 = .ok (.if_icmp .eq 13, 3) := dk_159 0 13 (dk_at dksX6_bitOf_1 20 rfl rfl)
theorem dX6_bitOf_46 : decode cX6_bitOf 46 = .ok (.iload_n 0, 1) := dk_26 (dk_at dksX6_bitOf_1 23 rfl rfl)
theorem dX6_bitOf_47 : decode cX6_bitOf 47 = .ok (.iconst 4, 1) := dk_7 (dk_at dksX6_bitOf_2 0 rfl rfl)
theorem dX6_bitOf_48 : decode cX6_bitOf 48 = .ok (.if_icmp .eq 8, 3) := dk_159 0 8 (dk_at dksX6_bitOf_2 1 rfl rfl)
theorem dX6_bitOf_51 : decode cX6_bitOf 51 = .ok (.iload_n 0, 1) := dk_26 (dk_at dksX6_bitOf_2 4 rfl rfl)
theorem dX6_bitOf_52 : decode cX6_bitOf 52 = .ok (.iconst 5, 1) := dk_8 (dk_at dksX6_bitOf_2 5 rfl rfl)
theorem dX6_bitOf_53 : decode cX6_bitOf 53 = .ok (.if_icmp .ne 9, 3) := dk_160 0 9 (dk_at dksX6_bitOf_2 6 rfl rfl)
theorem dX6_bitOf_56 : decode cX6_bitOf 56 = .ok (.iconst 1, 1) := dk_4 (dk_at dksX6_bitOf_2 9 rfl rfl)
theorem dX6_bitOf_57 : decode cX6_bitOf 57 = .ok (.iload_n 0, 1) := dk_26 (dk_at dksX6_bitOf_2 10 rfl rfl)
theorem dX6_bitOf_58 : decode cX6_bitOf 58 = .ok (.ishl, 1) := dk_120 (dk_at dksX6_bitOf_2 11 rfl rfl)
theorem dX6_bitOf_59 : decode cX6_bitOf 59 = .ok (.goto 15, 3) := dk_167 0 15 (dk_at dksX6_bitOf_2 12 rfl rfl)
theorem dX6_bitOf_62 : decode cX6_bitOf 62 = .ok (.iload_n 0, 1) := dk_26 (dk_at dksX6_bitOf_2 15 rfl rfl)
theorem dX6_bitOf_63 : decode cX6_bitOf 63 = .ok (.bipush 48, 2) := dk_16 48 (dk_at dksX6_bitOf_2 16 rfl rfl)
theorem dX6_bitOf_65 : decode cX6_bitOf 65 = .ok (.if_icmp .ne 8, 3) := dk_160 0 8 (dk_at dksX6_bitOf_2 18 rfl rfl)
theorem dX6_bitOf_68 : decode cX6_bitOf 68 = .ok (.ldc 210, 2) := dk_18 210 (dk_at dksX6_bitOf_2 21 rfl rfl)
theorem dX6_bitOf_70 : decode cX6_bitOf 70 = .ok (.goto 4, 3) := dk_167 0 4 (dk_at dksX6_bitOf_3 0 rfl rfl)
theorem dX6_bitOf_73 : decode cX6_bitOf 73 = .ok (.iconst 0, 1) := dk_3 (dk_at dksX6_bitOf_3 3 rfl rfl)
theorem dX6_bitOf_74 : decode cX6_bitOf 74 = .ok (.ireturn, 1) := dk_172 (dk_at dksX6_bitOf_3 4 rfl rfl)
abbrev cX6_adds : ByteArray := prog_18_method_28_code
def yX6_adds : MethodName := ⟨RX6, "adds", "(IIII)I"⟩
def dkwX6_adds_4 : List UInt8 := [172]
abbrev dktX6_adds_4 : List UInt8 := dkwX6_adds_4 ++ []
def dkwX6_adds_3 : List UInt8 := [180, 0, 233, 42, 180, 0, 239, 79, 42, 89, 180, 0, 233, 4, 96, 181, 0, 233, 42, 180, 0, 233, 4, 100]
abbrev dktX6_adds_3 : List UInt8 := dkwX6_adds_3 ++ dktX6_adds_4
def dkwX6_adds_2 : List UInt8 := [42, 180, 0, 233, 29, 79, 42, 180, 0, 75, 42, 180, 0, 233, 21, 4, 79, 42, 180, 0, 84, 42]
abbrev dktX6_adds_2 : List UInt8 := dkwX6_adds_2 ++ dktX6_adds_3
def dkwX6_adds_1 : List UInt8 := [42, 180, 0, 72, 42, 180, 0, 233, 27, 79, 42, 180, 0, 81, 42, 180, 0, 233, 28, 79, 42, 180, 0, 78]
abbrev dktX6_adds_1 : List UInt8 := dkwX6_adds_1 ++ dktX6_adds_2
def dkwX6_adds_0 : List UInt8 := [42, 180, 0, 233, 16, 100, 160, 0, 8, 42, 3, 181, 0, 236, 42, 180, 0, 236, 154, 0, 6, 16, 99, 172]
abbrev dktX6_adds_0 : List UInt8 := dkwX6_adds_0 ++ dktX6_adds_1
theorem dksX6_adds_0 : cX6_adds.data.toList.drop 0 = dktX6_adds_0 := by decide +kernel
theorem dksX6_adds_1 : cX6_adds.data.toList.drop 24 = dktX6_adds_1 := dk_seg dksX6_adds_0 24 rfl rfl
theorem dksX6_adds_2 : cX6_adds.data.toList.drop 48 = dktX6_adds_2 := dk_seg dksX6_adds_1 24 rfl rfl
theorem dksX6_adds_3 : cX6_adds.data.toList.drop 70 = dktX6_adds_3 := dk_seg dksX6_adds_2 22 rfl rfl
theorem dksX6_adds_4 : cX6_adds.data.toList.drop 94 = dktX6_adds_4 := dk_seg dksX6_adds_3 24 rfl rfl
theorem dX6_adds_0 : decode cX6_adds 0 = .ok (.aload_n 0, 1) := dk_42 (dk_at dksX6_adds_0 0 rfl rfl)
theorem dX6_adds_1 : decode cX6_adds 1 = .ok (.getfield 233, 3) := dk_180 0 233 (dk_at dksX6_adds_0 1 rfl rfl)
theorem dX6_adds_4 : decode cX6_adds 4 = .ok (.bipush 100, 2) := dk_16 100 (dk_at dksX6_adds_0 4 rfl rfl)
theorem dX6_adds_6 : decode cX6_adds 6 = .ok (.if_icmp .ne 8, 3) := dk_160 0 8 (dk_at dksX6_adds_0 6 rfl rfl)
theorem dX6_adds_9 : decode cX6_adds 9 = .ok (.aload_n 0, 1) := dk_42 (dk_at dksX6_adds_0 9 rfl rfl)
theorem dX6_adds_10 : decode cX6_adds 10 = .ok (.iconst 0, 1) := dk_3 (dk_at dksX6_adds_0 10 rfl rfl)
theorem dX6_adds_11 : decode cX6_adds 11 = .ok (.putfield 236, 3) := dk_181 0 236 (dk_at dksX6_adds_0 11 rfl rfl)
theorem dX6_adds_14 : decode cX6_adds 14 = .ok (.aload_n 0, 1) := dk_42 (dk_at dksX6_adds_0 14 rfl rfl)
theorem dX6_adds_15 : decode cX6_adds 15 = .ok (.getfield 236, 3) := dk_180 0 236 (dk_at dksX6_adds_0 15 rfl rfl)
theorem dX6_adds_18 : decode cX6_adds 18 = .ok (.ifCond .ne 6, 3) := dk_154 0 6 (dk_at dksX6_adds_0 18 rfl rfl)
theorem dX6_adds_21 : decode cX6_adds 21 = .ok (.bipush 99, 2) := dk_16 99 (dk_at dksX6_adds_0 21 rfl rfl)
theorem dX6_adds_23 : decode cX6_adds 23 = .ok (.ireturn, 1) := dk_172 (dk_at dksX6_adds_0 23 rfl rfl)
theorem dX6_adds_24 : decode cX6_adds 24 = .ok (.aload_n 0, 1) := dk_42 (dk_at dksX6_adds_1 0 rfl rfl)
theorem dX6_adds_25 : decode cX6_adds 25 = .ok (.getfield 72, 3) := dk_180 0 72 (dk_at dksX6_adds_1 1 rfl rfl)
theorem dX6_adds_28 : decode cX6_adds 28 = .ok (.aload_n 0, 1) := dk_42 (dk_at dksX6_adds_1 4 rfl rfl)
theorem dX6_adds_29 : decode cX6_adds 29 = .ok (.getfield 233, 3) := dk_180 0 233 (dk_at dksX6_adds_1 5 rfl rfl)
theorem dX6_adds_32 : decode cX6_adds 32 = .ok (.iload_n 1, 1) := dk_27 (dk_at dksX6_adds_1 8 rfl rfl)
theorem dX6_adds_33 : decode cX6_adds 33 = .ok (.iastore, 1) := dk_79 (dk_at dksX6_adds_1 9 rfl rfl)
theorem dX6_adds_34 : decode cX6_adds 34 = .ok (.aload_n 0, 1) := dk_42 (dk_at dksX6_adds_1 10 rfl rfl)
theorem dX6_adds_35 : decode cX6_adds 35 = .ok (.getfield 81, 3) := dk_180 0 81 (dk_at dksX6_adds_1 11 rfl rfl)
theorem dX6_adds_38 : decode cX6_adds 38 = .ok (.aload_n 0, 1) := dk_42 (dk_at dksX6_adds_1 14 rfl rfl)
theorem dX6_adds_39 : decode cX6_adds 39 = .ok (.getfield 233, 3) := dk_180 0 233 (dk_at dksX6_adds_1 15 rfl rfl)
theorem dX6_adds_42 : decode cX6_adds 42 = .ok (.iload_n 2, 1) := dk_28 (dk_at dksX6_adds_1 18 rfl rfl)
theorem dX6_adds_43 : decode cX6_adds 43 = .ok (.iastore, 1) := dk_79 (dk_at dksX6_adds_1 19 rfl rfl)
theorem dX6_adds_44 : decode cX6_adds 44 = .ok (.aload_n 0, 1) := dk_42 (dk_at dksX6_adds_1 20 rfl rfl)
theorem dX6_adds_45 : decode cX6_adds 45 = .ok (.getfield 78, 3) := dk_180 0 78 (dk_at dksX6_adds_1 21 rfl rfl)
theorem dX6_adds_48 : decode cX6_adds 48 = .ok (.aload_n 0, 1) := dk_42 (dk_at dksX6_adds_2 0 rfl rfl)
theorem dX6_adds_49 : decode cX6_adds 49 = .ok (.getfield 233, 3) := dk_180 0 233 (dk_at dksX6_adds_2 1 rfl rfl)
theorem dX6_adds_52 : decode cX6_adds 52 = .ok (.iload_n 3, 1) := dk_29 (dk_at dksX6_adds_2 4 rfl rfl)
theorem dX6_adds_53 : decode cX6_adds 53 = .ok (.iastore, 1) := dk_79 (dk_at dksX6_adds_2 5 rfl rfl)
theorem dX6_adds_54 : decode cX6_adds 54 = .ok (.aload_n 0, 1) := dk_42 (dk_at dksX6_adds_2 6 rfl rfl)
theorem dX6_adds_55 : decode cX6_adds 55 = .ok (.getfield 75, 3) := dk_180 0 75 (dk_at dksX6_adds_2 7 rfl rfl)
theorem dX6_adds_58 : decode cX6_adds 58 = .ok (.aload_n 0, 1) := dk_42 (dk_at dksX6_adds_2 10 rfl rfl)
theorem dX6_adds_59 : decode cX6_adds 59 = .ok (.getfield 233, 3) := dk_180 0 233 (dk_at dksX6_adds_2 11 rfl rfl)
theorem dX6_adds_62 : decode cX6_adds 62 = .ok (.iload 4, 2) := dk_21 4 (dk_at dksX6_adds_2 14 rfl rfl)
theorem dX6_adds_64 : decode cX6_adds 64 = .ok (.iastore, 1) := dk_79 (dk_at dksX6_adds_2 16 rfl rfl)
theorem dX6_adds_65 : decode cX6_adds 65 = .ok (.aload_n 0, 1) := dk_42 (dk_at dksX6_adds_2 17 rfl rfl)
theorem dX6_adds_66 : decode cX6_adds 66 = .ok (.getfield 84, 3) := dk_180 0 84 (dk_at dksX6_adds_2 18 rfl rfl)
theorem dX6_adds_69 : decode cX6_adds 69 = .ok (.aload_n 0, 1) := dk_42 (dk_at dksX6_adds_2 21 rfl rfl)
theorem dX6_adds_70 : decode cX6_adds 70 = .ok (.getfield 233, 3) := dk_180 0 233 (dk_at dksX6_adds_3 0 rfl rfl)
theorem dX6_adds_73 : decode cX6_adds 73 = .ok (.aload_n 0, 1) := dk_42 (dk_at dksX6_adds_3 3 rfl rfl)
theorem dX6_adds_74 : decode cX6_adds 74 = .ok (.getfield 239, 3) := dk_180 0 239 (dk_at dksX6_adds_3 4 rfl rfl)
theorem dX6_adds_77 : decode cX6_adds 77 = .ok (.iastore, 1) := dk_79 (dk_at dksX6_adds_3 7 rfl rfl)
theorem dX6_adds_78 : decode cX6_adds 78 = .ok (.aload_n 0, 1) := dk_42 (dk_at dksX6_adds_3 8 rfl rfl)
theorem dX6_adds_79 : decode cX6_adds 79 = .ok (.dup, 1) := dk_89 (dk_at dksX6_adds_3 9 rfl rfl)
theorem dX6_adds_80 : decode cX6_adds 80 = .ok (.getfield 233, 3) := dk_180 0 233 (dk_at dksX6_adds_3 10 rfl rfl)
theorem dX6_adds_83 : decode cX6_adds 83 = .ok (.iconst 1, 1) := dk_4 (dk_at dksX6_adds_3 13 rfl rfl)
theorem dX6_adds_84 : decode cX6_adds 84 = .ok (.iadd, 1) := dk_96 (dk_at dksX6_adds_3 14 rfl rfl)
theorem dX6_adds_85 : decode cX6_adds 85 = .ok (.putfield 233, 3) := dk_181 0 233 (dk_at dksX6_adds_3 15 rfl rfl)
theorem dX6_adds_88 : decode cX6_adds 88 = .ok (.aload_n 0, 1) := dk_42 (dk_at dksX6_adds_3 18 rfl rfl)
theorem dX6_adds_89 : decode cX6_adds 89 = .ok (.getfield 233, 3) := dk_180 0 233 (dk_at dksX6_adds_3 19 rfl rfl)
theorem dX6_adds_92 : decode cX6_adds 92 = .ok (.iconst 1, 1) := dk_4 (dk_at dksX6_adds_3 22 rfl rfl)
theorem dX6_adds_93 : decode cX6_adds 93 = .ok (.isub, 1) := dk_100 (dk_at dksX6_adds_3 23 rfl rfl)
theorem dX6_adds_94 : decode cX6_adds 94 = .ok (.ireturn, 1) := dk_172 (dk_at dksX6_adds_4 0 rfl rfl)
abbrev cX6_inner : ByteArray := prog_18_method_37_code
def yX6_inner : MethodName := ⟨RX6, "inner", "(III)V"⟩
def dkwX6_inner_16 : List UInt8 := [153, 0, 7, 4, 167, 0, 4, 3, 181, 0, 236, 177]
abbrev dktX6_inner_16 : List UInt8 := dkwX6_inner_16 ++ []
def dkwX6_inner_15 : List UInt8 := [21, 5, 46, 42, 180, 0, 23, 42, 180, 0, 222, 46, 42, 180, 0, 26, 42, 180, 0, 222, 46, 184, 0, 166]
abbrev dktX6_inner_15 : List UInt8 := dkwX6_inner_15 ++ dktX6_inner_16
def dkwX6_inner_14 : List UInt8 := [21, 8, 184, 1, 44, 160, 0, 50, 42, 180, 0, 41, 42, 180, 0, 222, 51, 153, 0, 34, 42, 180, 0, 75]
abbrev dktX6_inner_14 : List UInt8 := dkwX6_inner_14 ++ dktX6_inner_15
def dkwX6_inner_13 : List UInt8 := [167, 0, 13, 21, 8, 158, 0, 7, 4, 167, 0, 4, 3, 79, 42, 21, 4, 5, 160, 0, 13, 21, 7]
abbrev dktX6_inner_13 : List UInt8 := dkwX6_inner_13 ++ dktX6_inner_14
def dkwX6_inner_12 : List UInt8 := [180, 0, 75, 21, 5, 21, 4, 5, 160, 0, 8, 21, 8, 167, 0, 24, 21, 4, 7, 160, 0, 8, 21, 7]
abbrev dktX6_inner_12 : List UInt8 := dkwX6_inner_12 ++ dktX6_inner_13
def dkwX6_inner_11 : List UInt8 := [3, 96, 181, 0, 239, 42, 89, 180, 0, 245, 4, 96, 181, 0, 245, 132, 9, 1, 167, 255, 181, 42]
abbrev dktX6_inner_11 : List UInt8 := dkwX6_inner_11 ++ dktX6_inner_12
def dkwX6_inner_10 : List UInt8 := [180, 0, 66, 42, 180, 0, 245, 46, 79, 42, 89, 180, 0, 239, 21, 4, 7, 160, 0, 7, 4, 167, 0, 4]
abbrev dktX6_inner_10 : List UInt8 := dkwX6_inner_10 ++ dktX6_inner_11
def dkwX6_inner_9 : List UInt8 := [120, 42, 180, 0, 66, 42, 180, 0, 245, 46, 128, 54, 8, 42, 180, 0, 93, 42, 180, 0, 239, 42]
abbrev dktX6_inner_9 : List UInt8 := dkwX6_inner_9 ++ dktX6_inner_10
def dkwX6_inner_8 : List UInt8 := [164, 0, 7, 2, 167, 0, 4, 3, 54, 8, 3, 54, 9, 21, 9, 21, 7, 162, 0, 74, 21, 8, 16, 8]
abbrev dktX6_inner_8 : List UInt8 := dkwX6_inner_8 ++ dktX6_inner_9
def dkwX6_inner_7 : List UInt8 := [21, 4, 8, 160, 0, 4, 177, 21, 4, 5, 160, 0, 21, 42, 180, 0, 66, 42, 180, 0, 245, 46, 16, 127]
abbrev dktX6_inner_7 : List UInt8 := dkwX6_inner_7 ++ dktX6_inner_8
def dkwX6_inner_6 : List UInt8 := [7, 184, 0, 166, 154, 0, 8, 42, 3, 181, 0, 236, 42, 180, 0, 236, 153, 0, 14, 21, 6, 154, 0, 9]
abbrev dktX6_inner_6 : List UInt8 := dkwX6_inner_6 ++ dktX6_inner_7
def dkwX6_inner_5 : List UInt8 := [154, 0, 31, 21, 4, 4, 160, 0, 9, 21, 7, 4, 160, 0, 19, 21, 4, 5, 160, 0, 18, 21, 7, 4]
abbrev dktX6_inner_5 : List UInt8 := dkwX6_inner_5 ++ dktX6_inner_6
def dkwX6_inner_4 : List UInt8 := [21, 6, 154, 0, 11, 42, 3, 182, 1, 23, 167, 0, 4, 3, 54, 7, 21, 4, 8, 160, 0, 8, 21, 7]
abbrev dktX6_inner_4 : List UInt8 := dkwX6_inner_4 ++ dktX6_inner_5
def dkwX6_inner_3 : List UInt8 := [180, 0, 236, 153, 0, 14, 21, 6, 153, 0, 9, 42, 21, 5, 182, 1, 31, 42, 180, 0, 236, 153, 0, 16]
abbrev dktX6_inner_3 : List UInt8 := dkwX6_inner_3 ++ dktX6_inner_4
def dkwX6_inner_2 : List UInt8 := [54, 5, 21, 4, 16, 6, 159, 0, 10, 21, 4, 16, 7, 160, 0, 7, 4, 167, 0, 4, 3, 54, 6, 42]
abbrev dktX6_inner_2 : List UInt8 := dkwX6_inner_2 ++ dktX6_inner_3
def dkwX6_inner_1 : List UInt8 := [42, 3, 181, 0, 236, 42, 180, 0, 236, 153, 0, 14, 42, 27, 28, 29, 3, 182, 1, 37, 167, 0, 4, 3]
abbrev dktX6_inner_1 : List UInt8 := dkwX6_inner_1 ++ dktX6_inner_2
def dkwX6_inner_0 : List UInt8 := [42, 180, 0, 20, 42, 180, 0, 222, 46, 54, 4, 42, 182, 1, 20, 42, 180, 0, 57, 3, 46, 159, 0, 8]
abbrev dktX6_inner_0 : List UInt8 := dkwX6_inner_0 ++ dktX6_inner_1
theorem dksX6_inner_0 : cX6_inner.data.toList.drop 0 = dktX6_inner_0 := by decide +kernel
theorem dksX6_inner_1 : cX6_inner.data.toList.drop 24 = dktX6_inner_1 := dk_seg dksX6_inner_0 24 rfl rfl
theorem dksX6_inner_2 : cX6_inner.data.toList.drop 48 = dktX6_inner_2 := dk_seg dksX6_inner_1 24 rfl rfl
theorem dksX6_inner_3 : cX6_inner.data.toList.drop 72 = dktX6_inner_3 := dk_seg dksX6_inner_2 24 rfl rfl
theorem dksX6_inner_4 : cX6_inner.data.toList.drop 96 = dktX6_inner_4 := dk_seg dksX6_inner_3 24 rfl rfl
theorem dksX6_inner_5 : cX6_inner.data.toList.drop 120 = dktX6_inner_5 := dk_seg dksX6_inner_4 24 rfl rfl
theorem dksX6_inner_6 : cX6_inner.data.toList.drop 144 = dktX6_inner_6 := dk_seg dksX6_inner_5 24 rfl rfl
theorem dksX6_inner_7 : cX6_inner.data.toList.drop 168 = dktX6_inner_7 := dk_seg dksX6_inner_6 24 rfl rfl
theorem dksX6_inner_8 : cX6_inner.data.toList.drop 192 = dktX6_inner_8 := dk_seg dksX6_inner_7 24 rfl rfl
theorem dksX6_inner_9 : cX6_inner.data.toList.drop 216 = dktX6_inner_9 := dk_seg dksX6_inner_8 24 rfl rfl
theorem dksX6_inner_10 : cX6_inner.data.toList.drop 238 = dktX6_inner_10 := dk_seg dksX6_inner_9 22 rfl rfl
theorem dksX6_inner_11 : cX6_inner.data.toList.drop 262 = dktX6_inner_11 := dk_seg dksX6_inner_10 24 rfl rfl
theorem dksX6_inner_12 : cX6_inner.data.toList.drop 284 = dktX6_inner_12 := dk_seg dksX6_inner_11 22 rfl rfl
theorem dksX6_inner_13 : cX6_inner.data.toList.drop 308 = dktX6_inner_13 := dk_seg dksX6_inner_12 24 rfl rfl
theorem dksX6_inner_14 : cX6_inner.data.toList.drop 331 = dktX6_inner_14 := dk_seg dksX6_inner_13 23 rfl rfl
theorem dksX6_inner_15 : cX6_inner.data.toList.drop 355 = dktX6_inner_15 := dk_seg dksX6_inner_14 24 rfl rfl
theorem dksX6_inner_16 : cX6_inner.data.toList.drop 379 = dktX6_inner_16 := dk_seg dksX6_inner_15 24 rfl rfl
theorem dX6_inner_0 : decode cX6_inner 0 = .ok (.aload_n 0, 1) := dk_42 (dk_at dksX6_inner_0 0 rfl rfl)
theorem dX6_inner_1 : decode cX6_inner 1 = .ok (.getfield 20, 3) := dk_180 0 20 (dk_at dksX6_inner_0 1 rfl rfl)
theorem dX6_inner_4 : decode cX6_inner 4 = .ok (.aload_n 0, 1) := dk_42 (dk_at dksX6_inner_0 4 rfl rfl)
theorem dX6_inner_5 : decode cX6_inner 5 = .ok (.getfield 222, 3) := dk_180 0 222 (dk_at dksX6_inner_0 5 rfl rfl)
theorem dX6_inner_8 : decode cX6_inner 8 = .ok (.iaload, 1) := dk_46 (dk_at dksX6_inner_0 8 rfl rfl)
theorem dX6_inner_9 : decode cX6_inner 9 = .ok (.istore 4, 2) := dk_54 4 (dk_at dksX6_inner_0 9 rfl rfl)
theorem dX6_inner_11 : decode cX6_inner 11 = .ok (.aload_n 0, 1) := dk_42 (dk_at dksX6_inner_0 11 rfl rfl)
theorem dX6_inner_12 : decode cX6_inner 12 = .ok (.invokevirtual 276, 3) := dk_182 1 20 (dk_at dksX6_inner_0 12 rfl rfl)
theorem dX6_inner_15 : decode cX6_inner 15 = .ok (.aload_n 0, 1) := dk_42 (dk_at dksX6_inner_0 15 rfl rfl)
theorem dX6_inner_16 : decode cX6_inner 16 = .ok (.getfield 57, 3) := dk_180 0 57 (dk_at dksX6_inner_0 16 rfl rfl)
theorem dX6_inner_19 : decode cX6_inner 19 = .ok (.iconst 0, 1) := dk_3 (dk_at dksX6_inner_0 19 rfl rfl)
theorem dX6_inner_20 : decode cX6_inner 20 = .ok (.iaload, 1) := dk_46 (dk_at dksX6_inner_0 20 rfl rfl)
theorem dX6_inner_21 : decode cX6_inner 21 = .ok (.if_icmp .eq 8, 3) := dk_159 0 8 (dk_at dksX6_inner_0 21 rfl rfl)
theorem dX6_inner_24 : decode cX6_inner 24 = .ok (.aload_n 0, 1) := dk_42 (dk_at dksX6_inner_1 0 rfl rfl)
theorem dX6_inner_25 : decode cX6_inner 25 = .ok (.iconst 0, 1) := dk_3 (dk_at dksX6_inner_1 1 rfl rfl)
theorem dX6_inner_26 : decode cX6_inner 26 = .ok (.putfield 236, 3) := dk_181 0 236 (dk_at dksX6_inner_1 2 rfl rfl)
theorem dX6_inner_29 : decode cX6_inner 29 = .ok (.aload_n 0, 1) := dk_42 (dk_at dksX6_inner_1 5 rfl rfl)
theorem dX6_inner_30 : decode cX6_inner 30 = .ok (.getfield 236, 3) := dk_180 0 236 (dk_at dksX6_inner_1 6 rfl rfl)
theorem dX6_inner_33 : decode cX6_inner 33 = .ok (.ifCond .eq 14, 3) := dk_153 0 14 (dk_at dksX6_inner_1 9 rfl rfl)
theorem dX6_inner_36 : decode cX6_inner 36 = .ok (.aload_n 0, 1) := dk_42 (dk_at dksX6_inner_1 12 rfl rfl)
theorem dX6_inner_37 : decode cX6_inner 37 = .ok (.iload_n 1, 1) := dk_27 (dk_at dksX6_inner_1 13 rfl rfl)
theorem dX6_inner_38 : decode cX6_inner 38 = .ok (.iload_n 2, 1) := dk_28 (dk_at dksX6_inner_1 14 rfl rfl)
theorem dX6_inner_39 : decode cX6_inner 39 = .ok (.iload_n 3, 1) := dk_29 (dk_at dksX6_inner_1 15 rfl rfl)
theorem dX6_inner_40 : decode cX6_inner 40 = .ok (.iconst 0, 1) := dk_3 (dk_at dksX6_inner_1 16 rfl rfl)
theorem dX6_inner_41 : decode cX6_inner 41 = .ok (.invokevirtual 293, 3) := dk_182 1 37 (dk_at dksX6_inner_1 17 rfl rfl)
theorem dX6_inner_44 : decode cX6_inner 44 = .ok (.goto 4, 3) := dk_167 0 4 (dk_at dksX6_inner_1 20 rfl rfl)
theorem dX6_inner_47 : decode cX6_inner 47 = .ok (.iconst 0, 1) := dk_3 (dk_at dksX6_inner_1 23 rfl rfl)
theorem dX6_inner_48 : decode cX6_inner 48 = .ok (.istore 5, 2) := dk_54 5 (dk_at dksX6_inner_2 0 rfl rfl)
theorem dX6_inner_50 : decode cX6_inner 50 = .ok (.iload 4, 2) := dk_21 4 (dk_at dksX6_inner_2 2 rfl rfl)
theorem dX6_inner_52 : decode cX6_inner 52 = .ok (.bipush 6, 2) := dk_16 6 (dk_at dksX6_inner_2 4 rfl rfl)
theorem dX6_inner_54 : decode cX6_inner 54 = .ok (.if_icmp .eq 10, 3) := dk_159 0 10 (dk_at dksX6_inner_2 6 rfl rfl)
theorem dX6_inner_57 : decode cX6_inner 57 = .ok (.iload 4, 2) := dk_21 4 (dk_at dksX6_inner_2 9 rfl rfl)
theorem dX6_inner_59 : decode cX6_inner 59 = .ok (.bipush 7, 2) := dk_16 7 (dk_at dksX6_inner_2 11 rfl rfl)
theorem dX6_inner_61 : decode cX6_inner 61 = .ok (.if_icmp .ne 7, 3) := dk_160 0 7 (dk_at dksX6_inner_2 13 rfl rfl)
theorem dX6_inner_64 : decode cX6_inner 64 = .ok (.iconst 1, 1) := dk_4 (dk_at dksX6_inner_2 16 rfl rfl)
theorem dX6_inner_65 : decode cX6_inner 65 = .ok (.goto 4, 3) := dk_167 0 4 (dk_at dksX6_inner_2 17 rfl rfl)
theorem dX6_inner_68 : decode cX6_inner 68 = .ok (.iconst 0, 1) := dk_3 (dk_at dksX6_inner_2 20 rfl rfl)
theorem dX6_inner_69 : decode cX6_inner 69 = .ok (.istore 6, 2) := dk_54 6 (dk_at dksX6_inner_2 21 rfl rfl)
theorem dX6_inner_71 : decode cX6_inner 71 = .ok (.aload_n 0, 1) := dk_42 (dk_at dksX6_inner_2 23 rfl rfl)
theorem dX6_inner_72 : decode cX6_inner 72 = .ok (.getfield 236, 3) := dk_180 0 236 (dk_at dksX6_inner_3 0 rfl rfl)
theorem dX6_inner_75 : decode cX6_inner 75 = .ok (.ifCond .eq 14, 3) := dk_153 0 14 (dk_at dksX6_inner_3 3 rfl rfl)
theorem dX6_inner_78 : decode cX6_inner 78 = .ok (.iload 6, 2) := dk_21 6 (dk_at dksX6_inner_3 6 rfl rfl)
theorem dX6_inner_80 : decode cX6_inner 80 = .ok (.ifCond .eq 9, 3) := dk_153 0 9 (dk_at dksX6_inner_3 8 rfl rfl)
theorem dX6_inner_83 : decode cX6_inner 83 = .ok (.aload_n 0, 1) := dk_42 (dk_at dksX6_inner_3 11 rfl rfl)
theorem dX6_inner_84 : decode cX6_inner 84 = .ok (.iload 5, 2) := dk_21 5 (dk_at dksX6_inner_3 12 rfl rfl)
theorem dX6_inner_86 : decode cX6_inner 86 = .ok (.invokevirtual 287, 3) := dk_182 1 31 (dk_at dksX6_inner_3 14 rfl rfl)
theorem dX6_inner_89 : decode cX6_inner 89 = .ok (.aload_n 0, 1) := dk_42 (dk_at dksX6_inner_3 17 rfl rfl)
theorem dX6_inner_90 : decode cX6_inner 90 = .ok (.getfield 236, 3) := dk_180 0 236 (dk_at dksX6_inner_3 18 rfl rfl)
theorem dX6_inner_93 : decode cX6_inner 93 = .ok (.ifCond .eq 16, 3) := dk_153 0 16 (dk_at dksX6_inner_3 21 rfl rfl)
theorem dX6_inner_96 : decode cX6_inner 96 = .ok (.iload 6, 2) := dk_21 6 (dk_at dksX6_inner_4 0 rfl rfl)
theorem dX6_inner_98 : decode cX6_inner 98 = .ok (.ifCond .ne 11, 3) := dk_154 0 11 (dk_at dksX6_inner_4 2 rfl rfl)
theorem dX6_inner_101 : decode cX6_inner 101 = .ok (.aload_n 0, 1) := dk_42 (dk_at dksX6_inner_4 5 rfl rfl)
theorem dX6_inner_102 : decode cX6_inner 102 = .ok (.iconst 0, 1) := dk_3 (dk_at dksX6_inner_4 6 rfl rfl)
theorem dX6_inner_103 : decode cX6_inner 103 = .ok (.invokevirtual 279, 3) := dk_182 1 23 (dk_at dksX6_inner_4 7 rfl rfl)
theorem dX6_inner_106 : decode cX6_inner 106 = .ok (.goto 4, 3) := dk_167 0 4 (dk_at dksX6_inner_4 10 rfl rfl)
theorem dX6_inner_109 : decode cX6_inner 109 = .ok (.iconst 0, 1) := dk_3 (dk_at dksX6_inner_4 13 rfl rfl)
theorem dX6_inner_110 : decode cX6_inner 110 = .ok (.istore 7, 2) := dk_54 7 (dk_at dksX6_inner_4 14 rfl rfl)
theorem dX6_inner_112 : decode cX6_inner 112 = .ok (.iload 4, 2) := dk_21 4 (dk_at dksX6_inner_4 16 rfl rfl)
theorem dX6_inner_114 : decode cX6_inner 114 = .ok (.iconst 5, 1) := dk_8 (dk_at dksX6_inner_4 18 rfl rfl)
theorem dX6_inner_115 : decode cX6_inner 115 = .ok (.if_icmp .ne 8, 3) := dk_160 0 8 (dk_at dksX6_inner_4 19 rfl rfl)
theorem dX6_inner_118 : decode cX6_inner 118 = .ok (.iload 7, 2) := dk_21 7 (dk_at dksX6_inner_4 22 rfl rfl)
theorem dX6_inner_120 : decode cX6_inner 120 = .ok (.ifCond .ne 31, 3) := dk_154 0 31 (dk_at dksX6_inner_5 0 rfl rfl)
theorem dX6_inner_123 : decode cX6_inner 123 = .ok (.iload 4, 2) := dk_21 4 (dk_at dksX6_inner_5 3 rfl rfl)
theorem dX6_inner_125 : decode cX6_inner 125 = .ok (.iconst 1, 1) := dk_4 (dk_at dksX6_inner_5 5 rfl rfl)
theorem dX6_inner_126 : decode cX6_inner 126 = .ok (.if_icmp .ne 9, 3) := dk_160 0 9 (dk_at dksX6_inner_5 6 rfl rfl)
theorem dX6_inner_129 : decode cX6_inner 129 = .ok (.iload 7, 2) := dk_21 7 (dk_at dksX6_inner_5 9 rfl rfl)
theorem dX6_inner_131 : decode cX6_inner 131 = .ok (.iconst 1, 1) := dk_4 (dk_at dksX6_inner_5 11 rfl rfl)
theorem dX6_inner_132 : decode cX6_inner 132 = .ok (.if_icmp .ne 19, 3) := dk_160 0 19 (dk_at dksX6_inner_5 12 rfl rfl)
theorem dX6_inner_135 : decode cX6_inner 135 = .ok (.iload 4, 2) := dk_21 4 (dk_at dksX6_inner_5 15 rfl rfl)
theorem dX6_inner_137 : decode cX6_inner 137 = .ok (.iconst 2, 1) := dk_5 (dk_at dksX6_inner_5 17 rfl rfl)
theorem dX6_inner_138 : decode cX6_inner 138 = .ok (.if_icmp .ne 18, 3) := dk_160 0 18 (dk_at dksX6_inner_5 18 rfl rfl)
theorem dX6_inner_141 : decode cX6_inner 141 = .ok (.iload 7, 2) := dk_21 7 (dk_at dksX6_inner_5 21 rfl rfl)
theorem dX6_inner_143 : decode cX6_inner 143 = .ok (.iconst 1, 1) := dk_4 (dk_at dksX6_inner_5 23 rfl rfl)
theorem dX6_inner_144 : decode cX6_inner 144 = .ok (.iconst 4, 1) := dk_7 (dk_at dksX6_inner_6 0 rfl rfl)
theorem dX6_inner_145 : decode cX6_inner 145 = .ok (.invokestatic 166, 3) := dk_184 0 166 (dk_at dksX6_inner_6 1 rfl rfl)
theorem dX6_inner_148 : decode cX6_inner 148 = .ok (.ifCond .ne 8, 3) := dk_154 0 8 (dk_at dksX6_inner_6 4 rfl rfl)
theorem dX6_inner_151 : decode cX6_inner 151 = .ok (.aload_n 0, 1) := dk_42 (dk_at dksX6_inner_6 7 rfl rfl)
theorem dX6_inner_152 : decode cX6_inner 152 = .ok (.iconst 0, 1) := dk_3 (dk_at dksX6_inner_6 8 rfl rfl)
theorem dX6_inner_153 : decode cX6_inner 153 = .ok (.putfield 236, 3) := dk_181 0 236 (dk_at dksX6_inner_6 9 rfl rfl)
theorem dX6_inner_156 : decode cX6_inner 156 = .ok (.aload_n 0, 1) := dk_42 (dk_at dksX6_inner_6 12 rfl rfl)
theorem dX6_inner_157 : decode cX6_inner 157 = .ok (.getfield 236, 3) := dk_180 0 236 (dk_at dksX6_inner_6 13 rfl rfl)
theorem dX6_inner_160 : decode cX6_inner 160 = .ok (.ifCond .eq 14, 3) := dk_153 0 14 (dk_at dksX6_inner_6 16 rfl rfl)
theorem dX6_inner_163 : decode cX6_inner 163 = .ok (.iload 6, 2) := dk_21 6 (dk_at dksX6_inner_6 19 rfl rfl)
theorem dX6_inner_165 : decode cX6_inner 165 = .ok (.ifCond .ne 9, 3) := dk_154 0 9 (dk_at dksX6_inner_6 21 rfl rfl)
theorem dX6_inner_168 : decode cX6_inner 168 = .ok (.iload 4, 2) := dk_21 4 (dk_at dksX6_inner_7 0 rfl rfl)
theorem dX6_inner_170 : decode cX6_inner 170 = .ok (.iconst 5, 1) := dk_8 (dk_at dksX6_inner_7 2 rfl rfl)
theorem dX6_inner_171 : decode cX6_inner 171 = .ok (.if_icmp .ne 4, 3) := dk_160 0 4 (dk_at dksX6_inner_7 3 rfl rfl)
theorem dX6_inner_174 : decode cX6_inner 174 = .ok (.return_, 1) := dk_177 (dk_at dksX6_inner_7 6 rfl rfl)
theorem dX6_inner_175 : decode cX6_inner 175 = .ok (.iload 4, 2) := dk_21 4 (dk_at dksX6_inner_7 7 rfl rfl)
theorem dX6_inner_177 : decode cX6_inner 177 = .ok (.iconst 2, 1) := dk_5 (dk_at dksX6_inner_7 9 rfl rfl)
theorem dX6_inner_178 : decode cX6_inner 178 = .ok (.if_icmp .ne 21, 3) := dk_160 0 21 (dk_at dksX6_inner_7 10 rfl rfl)
theorem dX6_inner_181 : decode cX6_inner 181 = .ok (.aload_n 0, 1) := dk_42 (dk_at dksX6_inner_7 13 rfl rfl)
theorem dX6_inner_182 : decode cX6_inner 182 = .ok (.getfield 66, 3) := dk_180 0 66 (dk_at dksX6_inner_7 14 rfl rfl)
theorem dX6_inner_185 : decode cX6_inner 185 = .ok (.aload_n 0, 1) := dk_42 (dk_at dksX6_inner_7 17 rfl rfl)
theorem dX6_inner_186 : decode cX6_inner 186 = .ok (.getfield 245, 3) := dk_180 0 245 (dk_at dksX6_inner_7 18 rfl rfl)
theorem dX6_inner_189 : decode cX6_inner 189 = .ok (.iaload, 1) := dk_46 (dk_at dksX6_inner_7 21 rfl rfl)
theorem dX6_inner_190 : decode cX6_inner 190 = .ok (.bipush 127, 2) := dk_16 127 (dk_at dksX6_inner_7 22 rfl rfl)
theorem dX6_inner_192 : decode cX6_inner 192 = .ok (.if_icmp .le 7, 3) := dk_164 0 7 (dk_at dksX6_inner_8 0 rfl rfl)
theorem dX6_inner_195 : decode cX6_inner 195 = .ok (.iconst (-1), 1) := dk_2 (dk_at dksX6_inner_8 3 rfl rfl)
theorem dX6_inner_196 : decode cX6_inner 196 = .ok (.goto 4, 3) := dk_167 0 4 (dk_at dksX6_inner_8 4 rfl rfl)
theorem dX6_inner_199 : decode cX6_inner 199 = .ok (.iconst 0, 1) := dk_3 (dk_at dksX6_inner_8 7 rfl rfl)
theorem dX6_inner_200 : decode cX6_inner 200 = .ok (.istore 8, 2) := dk_54 8 (dk_at dksX6_inner_8 8 rfl rfl)
theorem dX6_inner_202 : decode cX6_inner 202 = .ok (.iconst 0, 1) := dk_3 (dk_at dksX6_inner_8 10 rfl rfl)
theorem dX6_inner_203 : decode cX6_inner 203 = .ok (.istore 9, 2) := dk_54 9 (dk_at dksX6_inner_8 11 rfl rfl)
theorem dX6_inner_205 : decode cX6_inner 205 = .ok (.iload 9, 2) := dk_21 9 (dk_at dksX6_inner_8 13 rfl rfl)
theorem dX6_inner_207 : decode cX6_inner 207 = .ok (.iload 7, 2) := dk_21 7 (dk_at dksX6_inner_8 15 rfl rfl)
theorem dX6_inner_209 : decode cX6_inner 209 = .ok (.if_icmp .ge 74, 3) := dk_162 0 74 (dk_at dksX6_inner_8 17 rfl rfl)
theorem dX6_inner_212 : decode cX6_inner 212 = .ok (.iload 8, 2) := dk_21 8 (dk_at dksX6_inner_8 20 rfl rfl)
theorem dX6_inner_214 : decode cX6_inner 214 = .ok (.bipush 8, 2) := dk_16 8 (dk_at dksX6_inner_8 22 rfl rfl)
theorem dX6_inner_216 : decode cX6_inner 216 = .ok (.ishl, 1) := dk_120 (dk_at dksX6_inner_9 0 rfl rfl)
theorem dX6_inner_217 : decode cX6_inner 217 = .ok (.aload_n 0, 1) := dk_42 (dk_at dksX6_inner_9 1 rfl rfl)
theorem dX6_inner_218 : decode cX6_inner 218 = .ok (.getfield 66, 3) := dk_180 0 66 (dk_at dksX6_inner_9 2 rfl rfl)
theorem dX6_inner_221 : decode cX6_inner 221 = .ok (.aload_n 0, 1) := dk_42 (dk_at dksX6_inner_9 5 rfl rfl)
theorem dX6_inner_222 : decode cX6_inner 222 = .ok (.getfield 245, 3) := dk_180 0 245 (dk_at dksX6_inner_9 6 rfl rfl)
theorem dX6_inner_225 : decode cX6_inner 225 = .ok (.iaload, 1) := dk_46 (dk_at dksX6_inner_9 9 rfl rfl)
theorem dX6_inner_226 : decode cX6_inner 226 = .ok (.ior, 1) := dk_128 (dk_at dksX6_inner_9 10 rfl rfl)
theorem dX6_inner_227 : decode cX6_inner 227 = .ok (.istore 8, 2) := dk_54 8 (dk_at dksX6_inner_9 11 rfl rfl)
theorem dX6_inner_229 : decode cX6_inner 229 = .ok (.aload_n 0, 1) := dk_42 (dk_at dksX6_inner_9 13 rfl rfl)
theorem dX6_inner_230 : decode cX6_inner 230 = .ok (.getfield 93, 3) := dk_180 0 93 (dk_at dksX6_inner_9 14 rfl rfl)
theorem dX6_inner_233 : decode cX6_inner 233 = .ok (.aload_n 0, 1) := dk_42 (dk_at dksX6_inner_9 17 rfl rfl)
theorem dX6_inner_234 : decode cX6_inner 234 = .ok (.getfield 239, 3) := dk_180 0 239 (dk_at dksX6_inner_9 18 rfl rfl)
theorem dX6_inner_237 : decode cX6_inner 237 = .ok (.aload_n 0, 1) := dk_42 (dk_at dksX6_inner_9 21 rfl rfl)
theorem dX6_inner_238 : decode cX6_inner 238 = .ok (.getfield 66, 3) := dk_180 0 66 (dk_at dksX6_inner_10 0 rfl rfl)
theorem dX6_inner_241 : decode cX6_inner 241 = .ok (.aload_n 0, 1) := dk_42 (dk_at dksX6_inner_10 3 rfl rfl)
theorem dX6_inner_242 : decode cX6_inner 242 = .ok (.getfield 245, 3) := dk_180 0 245 (dk_at dksX6_inner_10 4 rfl rfl)
theorem dX6_inner_245 : decode cX6_inner 245 = .ok (.iaload, 1) := dk_46 (dk_at dksX6_inner_10 7 rfl rfl)
theorem dX6_inner_246 : decode cX6_inner 246 = .ok (.iastore, 1) := dk_79 (dk_at dksX6_inner_10 8 rfl rfl)
theorem dX6_inner_247 : decode cX6_inner 247 = .ok (.aload_n 0, 1) := dk_42 (dk_at dksX6_inner_10 9 rfl rfl)
theorem dX6_inner_248 : decode cX6_inner 248 = .ok (.dup, 1) := dk_89 (dk_at dksX6_inner_10 10 rfl rfl)
theorem dX6_inner_249 : decode cX6_inner 249 = .ok (.getfield 239, 3) := dk_180 0 239 (dk_at dksX6_inner_10 11 rfl rfl)
theorem dX6_inner_252 : decode cX6_inner 252 = .ok (.iload 4, 2) := dk_21 4 (dk_at dksX6_inner_10 14 rfl rfl)
theorem dX6_inner_254 : decode cX6_inner 254 = .ok (.iconst 4, 1) := dk_7 (dk_at dksX6_inner_10 16 rfl rfl)
theorem dX6_inner_255 : decode cX6_inner 255 = .ok (.if_icmp .ne 7, 3) := dk_160 0 7 (dk_at dksX6_inner_10 17 rfl rfl)
theorem dX6_inner_258 : decode cX6_inner 258 = .ok (.iconst 1, 1) := dk_4 (dk_at dksX6_inner_10 20 rfl rfl)
theorem dX6_inner_259 : decode cX6_inner 259 = .ok (.goto 4, 3) := dk_167 0 4 (dk_at dksX6_inner_10 21 rfl rfl)
theorem dX6_inner_262 : decode cX6_inner 262 = .ok (.iconst 0, 1) := dk_3 (dk_at dksX6_inner_11 0 rfl rfl)
theorem dX6_inner_263 : decode cX6_inner 263 = .ok (.iadd, 1) := dk_96 (dk_at dksX6_inner_11 1 rfl rfl)
theorem dX6_inner_264 : decode cX6_inner 264 = .ok (.putfield 239, 3) := dk_181 0 239 (dk_at dksX6_inner_11 2 rfl rfl)
theorem dX6_inner_267 : decode cX6_inner 267 = .ok (.aload_n 0, 1) := dk_42 (dk_at dksX6_inner_11 5 rfl rfl)
theorem dX6_inner_268 : decode cX6_inner 268 = .ok (.dup, 1) := dk_89 (dk_at dksX6_inner_11 6 rfl rfl)
theorem dX6_inner_269 : decode cX6_inner 269 = .ok (.getfield 245, 3) := dk_180 0 245 (dk_at dksX6_inner_11 7 rfl rfl)
theorem dX6_inner_272 : decode cX6_inner 272 = .ok (.iconst 1, 1) := dk_4 (dk_at dksX6_inner_11 10 rfl rfl)
theorem dX6_inner_273 : decode cX6_inner 273 = .ok (.iadd, 1) := dk_96 (dk_at dksX6_inner_11 11 rfl rfl)
theorem dX6_inner_274 : decode cX6_inner 274 = .ok (.putfield 245, 3) := dk_181 0 245 (dk_at dksX6_inner_11 12 rfl rfl)
theorem dX6_inner_277 : decode cX6_inner 277 = .ok (.iinc 9 1, 3) := dk_132 9 1 (dk_at dksX6_inner_11 15 rfl rfl)
theorem dX6_inner_280 : decode cX6_inner 280 = .ok (.goto (-75), 3) := dk_167 255 181 (dk_at dksX6_inner_11 18 rfl rfl)
theorem dX6_inner_283 : decode cX6_inner 283 = .ok (.aload_n 0, 1) := dk_42 (dk_at dksX6_inner_11 21 rfl rfl)
theorem dX6_inner_284 : decode cX6_inner 284 = .ok (.getfield 75, 3) := dk_180 0 75 (dk_at dksX6_inner_12 0 rfl rfl)
theorem dX6_inner_287 : decode cX6_inner 287 = .ok (.iload 5, 2) := dk_21 5 (dk_at dksX6_inner_12 3 rfl rfl)
theorem dX6_inner_289 : decode cX6_inner 289 = .ok (.iload 4, 2) := dk_21 4 (dk_at dksX6_inner_12 5 rfl rfl)
theorem dX6_inner_291 : decode cX6_inner 291 = .ok (.iconst 2, 1) := dk_5 (dk_at dksX6_inner_12 7 rfl rfl)
theorem dX6_inner_292 : decode cX6_inner 292 = .ok (.if_icmp .ne 8, 3) := dk_160 0 8 (dk_at dksX6_inner_12 8 rfl rfl)
theorem dX6_inner_295 : decode cX6_inner 295 = .ok (.iload 8, 2) := dk_21 8 (dk_at dksX6_inner_12 11 rfl rfl)
theorem dX6_inner_297 : decode cX6_inner 297 = .ok (.goto 24, 3) := dk_167 0 24 (dk_at dksX6_inner_12 13 rfl rfl)
theorem dX6_inner_300 : decode cX6_inner 300 = .ok (.iload 4, 2) := dk_21 4 (dk_at dksX6_inner_12 16 rfl rfl)
theorem dX6_inner_302 : decode cX6_inner 302 = .ok (.iconst 4, 1) := dk_7 (dk_at dksX6_inner_12 18 rfl rfl)
theorem dX6_inner_303 : decode cX6_inner 303 = .ok (.if_icmp .ne 8, 3) := dk_160 0 8 (dk_at dksX6_inner_12 19 rfl rfl)
theorem dX6_inner_306 : decode cX6_inner 306 = .ok (.iload 7, 2) := dk_21 7 (dk_at dksX6_inner_12 22 rfl rfl)
theorem dX6_inner_308 : decode cX6_inner 308 = .ok (.goto 13, 3) := dk_167 0 13 (dk_at dksX6_inner_13 0 rfl rfl)
theorem dX6_inner_311 : decode cX6_inner 311 = .ok (.iload 8, 2) := dk_21 8 (dk_at dksX6_inner_13 3 rfl rfl)
theorem dX6_inner_313 : decode cX6_inner 313 = .ok (.ifCond .le 7, 3) := dk_158 0 7 (dk_at dksX6_inner_13 5 rfl rfl)
theorem dX6_inner_316 : decode cX6_inner 316 = .ok (.iconst 1, 1) := dk_4 (dk_at dksX6_inner_13 8 rfl rfl)
theorem dX6_inner_317 : decode cX6_inner 317 = .ok (.goto 4, 3) := dk_167 0 4 (dk_at dksX6_inner_13 9 rfl rfl)
theorem dX6_inner_320 : decode cX6_inner 320 = .ok (.iconst 0, 1) := dk_3 (dk_at dksX6_inner_13 12 rfl rfl)
theorem dX6_inner_321 : decode cX6_inner 321 = .ok (.iastore, 1) := dk_79 (dk_at dksX6_inner_13 13 rfl rfl)
theorem dX6_inner_322 : decode cX6_inner 322 = .ok (.aload_n 0, 1) := dk_42 (dk_at dksX6_inner_13 14 rfl rfl)
theorem dX6_inner_323 : decode cX6_inner 323 = .ok (.iload 4, 2) := dk_21 4 (dk_at dksX6_inner_13 15 rfl rfl)
theorem dX6_inner_325 : decode cX6_inner 325 = .ok (.iconst 2, 1) := dk_5 (dk_at dksX6_inner_13 17 rfl rfl)
theorem dX6_inner_326 : decode cX6_inner 326 = .ok (.if_icmp .ne 13, 3) := dk_160 0 13 (dk_at dksX6_inner_13 18 rfl rfl)
theorem dX6_inner_329 : decode cX6_inner 329 = .ok (.iload 7, 2) := dk_21 7 (dk_at dksX6_inner_13 21 rfl rfl)
theorem dX6_inner_331 : decode cX6_inner 331 = .ok (.iload 8, 2) := dk_21 8 (dk_at dksX6_inner_14 0 rfl rfl)
theorem dX6_inner_333 : decode cX6_inner 333 = .ok (.invokestatic 300, 3) := dk_184 1 44 (dk_at dksX6_inner_14 2 rfl rfl)
theorem dX6_inner_336 : decode cX6_inner 336 = .ok (.if_icmp .ne 50, 3) := dk_160 0 50 (dk_at dksX6_inner_14 5 rfl rfl)
theorem dX6_inner_339 : decode cX6_inner 339 = .ok (.aload_n 0, 1) := dk_42 (dk_at dksX6_inner_14 8 rfl rfl)
theorem dX6_inner_340 : decode cX6_inner 340 = .ok (.getfield 41, 3) := dk_180 0 41 (dk_at dksX6_inner_14 9 rfl rfl)
theorem dX6_inner_343 : decode cX6_inner 343 = .ok (.aload_n 0, 1) := dk_42 (dk_at dksX6_inner_14 12 rfl rfl)
theorem dX6_inner_344 : decode cX6_inner 344 = .ok (.getfield 222, 3) := dk_180 0 222 (dk_at dksX6_inner_14 13 rfl rfl)
theorem dX6_inner_347 : decode cX6_inner 347 = .ok (.baload, 1) := dk_51 (dk_at dksX6_inner_14 16 rfl rfl)
theorem dX6_inner_348 : decode cX6_inner 348 = .ok (.ifCond .eq 34, 3) := dk_153 0 34 (dk_at dksX6_inner_14 17 rfl rfl)
theorem dX6_inner_351 : decode cX6_inner 351 = .ok (.aload_n 0, 1) := dk_42 (dk_at dksX6_inner_14 20 rfl rfl)
theorem dX6_inner_352 : decode cX6_inner 352 = .ok (.getfield 75, 3) := dk_180 0 75 (dk_at dksX6_inner_14 21 rfl rfl)
theorem dX6_inner_355 : decode cX6_inner 355 = .ok (.iload 5, 2) := dk_21 5 (dk_at dksX6_inner_15 0 rfl rfl)
theorem dX6_inner_357 : decode cX6_inner 357 = .ok (.iaload, 1) := dk_46 (dk_at dksX6_inner_15 2 rfl rfl)
theorem dX6_inner_358 : decode cX6_inner 358 = .ok (.aload_n 0, 1) := dk_42 (dk_at dksX6_inner_15 3 rfl rfl)
theorem dX6_inner_359 : decode cX6_inner 359 = .ok (.getfield 23, 3) := dk_180 0 23 (dk_at dksX6_inner_15 4 rfl rfl)
theorem dX6_inner_362 : decode cX6_inner 362 = .ok (.aload_n 0, 1) := dk_42 (dk_at dksX6_inner_15 7 rfl rfl)
theorem dX6_inner_363 : decode cX6_inner 363 = .ok (.getfield 222, 3) := dk_180 0 222 (dk_at dksX6_inner_15 8 rfl rfl)
theorem dX6_inner_366 : decode cX6_inner 366 = .ok (.iaload, 1) := dk_46 (dk_at dksX6_inner_15 11 rfl rfl)
theorem dX6_inner_367 : decode cX6_inner 367 = .ok (.aload_n 0, 1) := dk_42 (dk_at dksX6_inner_15 12 rfl rfl)
theorem dX6_inner_368 : decode cX6_inner 368 = .ok (.getfield 26, 3) := dk_180 0 26 (dk_at dksX6_inner_15 13 rfl rfl)
theorem dX6_inner_371 : decode cX6_inner 371 = .ok (.aload_n 0, 1) := dk_42 (dk_at dksX6_inner_15 16 rfl rfl)
theorem dX6_inner_372 : decode cX6_inner 372 = .ok (.getfield 222, 3) := dk_180 0 222 (dk_at dksX6_inner_15 17 rfl rfl)
theorem dX6_inner_375 : decode cX6_inner 375 = .ok (.iaload, 1) := dk_46 (dk_at dksX6_inner_15 20 rfl rfl)
theorem dX6_inner_376 : decode cX6_inner 376 = .ok (.invokestatic 166, 3) := dk_184 0 166 (dk_at dksX6_inner_15 21 rfl rfl)
theorem dX6_inner_379 : decode cX6_inner 379 = .ok (.ifCond .eq 7, 3) := dk_153 0 7 (dk_at dksX6_inner_16 0 rfl rfl)
theorem dX6_inner_382 : decode cX6_inner 382 = .ok (.iconst 1, 1) := dk_4 (dk_at dksX6_inner_16 3 rfl rfl)
theorem dX6_inner_383 : decode cX6_inner 383 = .ok (.goto 4, 3) := dk_167 0 4 (dk_at dksX6_inner_16 4 rfl rfl)
theorem dX6_inner_386 : decode cX6_inner 386 = .ok (.iconst 0, 1) := dk_3 (dk_at dksX6_inner_16 7 rfl rfl)
theorem dX6_inner_387 : decode cX6_inner 387 = .ok (.putfield 236, 3) := dk_181 0 236 (dk_at dksX6_inner_16 8 rfl rfl)
theorem dX6_inner_390 : decode cX6_inner 390 = .ok (.return_, 1) := dk_177 (dk_at dksX6_inner_16 11 rfl rfl)
abbrev cX6_bytesOf : ByteArray := prog_18_method_38_code
def yX6_bytesOf : MethodName := ⟨RX6, "bytesOf", "(I)I"⟩
def dkwX6_bytesOf_2 : List UInt8 := [167, 0, 4, 7, 172]
abbrev dktX6_bytesOf_2 : List UInt8 := dkwX6_bytesOf_2 ++ []
def dkwX6_bytesOf_1 : List UInt8 := [184, 0, 166, 153, 0, 7, 5, 167, 0, 21, 26, 19, 1, 47, 19, 1, 48, 184, 0, 166, 153, 0, 7, 6]
abbrev dktX6_bytesOf_1 : List UInt8 := dkwX6_bytesOf_1 ++ dktX6_bytesOf_2
def dkwX6_bytesOf_0 : List UInt8 := [26, 16, 128, 16, 127, 184, 0, 166, 153, 0, 7, 4, 167, 0, 38, 26, 17, 128, 0, 17, 127, 255]
abbrev dktX6_bytesOf_0 : List UInt8 := dkwX6_bytesOf_0 ++ dktX6_bytesOf_1
theorem dksX6_bytesOf_0 : cX6_bytesOf.data.toList.drop 0 = dktX6_bytesOf_0 := by decide +kernel
theorem dksX6_bytesOf_1 : cX6_bytesOf.data.toList.drop 22 = dktX6_bytesOf_1 := dk_seg dksX6_bytesOf_0 22 rfl rfl
theorem dksX6_bytesOf_2 : cX6_bytesOf.data.toList.drop 46 = dktX6_bytesOf_2 := dk_seg dksX6_bytesOf_1 24 rfl rfl
theorem dX6_bytesOf_0 : decode cX6_bytesOf 0 = .ok (.iload_n 0, 1) := dk_26 (dk_at dksX6_bytesOf_0 0 rfl rfl)
theorem dX6_bytesOf_1 : decode cX6_bytesOf 1 = .ok (.bipush (-128), 2) := dk_16 128 (dk_at dksX6_bytesOf_0 1 rfl rfl)
theorem dX6_bytesOf_3 : decode cX6_bytesOf 3 = .ok (.bipush 127, 2) := dk_16 127 (dk_at dksX6_bytesOf_0 3 rfl rfl)
theorem dX6_bytesOf_5 : decode cX6_bytesOf 5 = .ok (.invokestatic 166, 3) := dk_184 0 166 (dk_at dksX6_bytesOf_0 5 rfl rfl)
theorem dX6_bytesOf_8 : decode cX6_bytesOf 8 = .ok (.ifCond .eq 7, 3) := dk_153 0 7 (dk_at dksX6_bytesOf_0 8 rfl rfl)
theorem dX6_bytesOf_11 : decode cX6_bytesOf 11 = .ok (.iconst 1, 1) := dk_4 (dk_at dksX6_bytesOf_0 11 rfl rfl)
theorem dX6_bytesOf_12 : decode cX6_bytesOf 12 = .ok (.goto 38, 3) := dk_167 0 38 (dk_at dksX6_bytesOf_0 12 rfl rfl)
theorem dX6_bytesOf_15 : decode cX6_bytesOf 15 = .ok (.iload_n 0, 1) := dk_26 (dk_at dksX6_bytesOf_0 15 rfl rfl)
theorem dX6_bytesOf_16 : decode cX6_bytesOf 16 = .ok (.sipush (-32768), 3) := dk_17 128 0 (dk_at dksX6_bytesOf_0 16 rfl rfl)
theorem dX6_bytesOf_19 : decode cX6_bytesOf 19 = .ok (.sipush 32767, 3) := dk_17 127 255 (dk_at dksX6_bytesOf_0 19 rfl rfl)
theorem dX6_bytesOf_22 : decode cX6_bytesOf 22 = .ok (.invokestatic 166, 3) := dk_184 0 166 (dk_at dksX6_bytesOf_1 0 rfl rfl)
theorem dX6_bytesOf_25 : decode cX6_bytesOf 25 = .ok (.ifCond .eq 7, 3) := dk_153 0 7 (dk_at dksX6_bytesOf_1 3 rfl rfl)
theorem dX6_bytesOf_28 : decode cX6_bytesOf 28 = .ok (.iconst 2, 1) := dk_5 (dk_at dksX6_bytesOf_1 6 rfl rfl)
theorem dX6_bytesOf_29 : decode cX6_bytesOf 29 = .ok (.goto 21, 3) := dk_167 0 21 (dk_at dksX6_bytesOf_1 7 rfl rfl)
theorem dX6_bytesOf_32 : decode cX6_bytesOf 32 = .ok (.iload_n 0, 1) := dk_26 (dk_at dksX6_bytesOf_1 10 rfl rfl)
theorem dX6_bytesOf_33 : decode cX6_bytesOf 33 = .ok (.ldc_w 303, 3) := dk_19 1 47 (dk_at dksX6_bytesOf_1 11 rfl rfl)
theorem dX6_bytesOf_36 : decode cX6_bytesOf 36 = .ok (.ldc_w 304, 3) := dk_19 1 48 (dk_at dksX6_bytesOf_1 14 rfl rfl)
theorem dX6_bytesOf_39 : decode cX6_bytesOf 39 = .ok (.invokestatic 166, 3) := dk_184 0 166 (dk_at dksX6_bytesOf_1 17 rfl rfl)
theorem dX6_bytesOf_42 : decode cX6_bytesOf 42 = .ok (.ifCond .eq 7, 3) := dk_153 0 7 (dk_at dksX6_bytesOf_1 20 rfl rfl)
theorem dX6_bytesOf_45 : decode cX6_bytesOf 45 = .ok (.iconst 3, 1) := dk_6 (dk_at dksX6_bytesOf_1 23 rfl rfl)
theorem dX6_bytesOf_46 : decode cX6_bytesOf 46 = .ok (.goto 4, 3) := dk_167 0 4 (dk_at dksX6_bytesOf_2 0 rfl rfl)
theorem dX6_bytesOf_49 : decode cX6_bytesOf 49 = .ok (.iconst 4, 1) := dk_7 (dk_at dksX6_bytesOf_2 3 rfl rfl)
theorem dX6_bytesOf_50 : decode cX6_bytesOf 50 = .ok (.ireturn, 1) := dk_172 (dk_at dksX6_bytesOf_2 4 rfl rfl)
abbrev cX6_want : ByteArray := prog_18_method_50_code
def yX6_want : MethodName := ⟨RX6, "want", "(III)V"⟩
def dkwX6_want_26 : List UInt8 := [16, 32, 16, 8, 21, 9, 104, 100, 122, 167, 0, 4, 3, 79, 177]
abbrev dktX6_want_26 : List UInt8 := dkwX6_want_26 ++ []
def dkwX6_want_25 : List UInt8 := [180, 0, 236, 153, 0, 33, 42, 16, 8, 21, 9, 104, 182, 1, 70, 16, 32, 16, 8, 21, 9, 104, 100, 120]
abbrev dktX6_want_25 : List UInt8 := dkwX6_want_25 ++ dktX6_want_26
def dkwX6_want_24 : List UInt8 := [96, 16, 8, 42, 180, 1, 5, 104, 164, 0, 8, 42, 3, 181, 0, 236, 42, 180, 0, 75, 21, 7, 42]
abbrev dktX6_want_24 : List UInt8 := dkwX6_want_24 ++ dktX6_want_25
def dkwX6_want_23 : List UInt8 := [182, 1, 70, 54, 9, 21, 9, 4, 7, 184, 0, 166, 153, 0, 23, 42, 180, 0, 245, 16, 8, 21, 9, 104]
abbrev dktX6_want_23 : List UInt8 := dkwX6_want_23 ++ dktX6_want_24
def dkwX6_want_22 : List UInt8 := [21, 8, 46, 42, 180, 0, 26, 21, 8, 46, 182, 1, 73, 79, 167, 0, 95, 42, 182, 1, 64, 42, 16, 8]
abbrev dktX6_want_22 : List UInt8 := dkwX6_want_22 ++ dktX6_want_23
def dkwX6_want_21 : List UInt8 := [167, 0, 133, 42, 180, 0, 41, 21, 8, 51, 153, 0, 31, 42, 180, 0, 75, 21, 7, 42, 42, 180, 0, 23]
abbrev dktX6_want_21 : List UInt8 := dkwX6_want_21 ++ dktX6_want_22
def dkwX6_want_20 : List UInt8 := [180, 0, 20, 21, 8, 46, 16, 7, 160, 0, 12, 42, 21, 8, 182, 1, 79, 167, 0, 4, 3, 79]
abbrev dktX6_want_20 : List UInt8 := dkwX6_want_20 ++ dktX6_want_21
def dkwX6_want_19 : List UInt8 := [167, 0, 7, 42, 182, 1, 61, 96, 79, 132, 9, 1, 167, 255, 180, 42, 180, 0, 75, 21, 7, 42]
abbrev dktX6_want_19 : List UInt8 := dkwX6_want_19 ++ dktX6_want_20
def dkwX6_want_18 : List UInt8 := [180, 0, 111, 42, 180, 0, 242, 4, 100, 46, 104, 42, 180, 0, 51, 21, 9, 46, 154, 0, 7, 4]
abbrev dktX6_want_18 : List UInt8 := dkwX6_want_18 ++ dktX6_want_19
def dkwX6_want_17 : List UInt8 := [180, 0, 20, 21, 8, 46, 16, 6, 160, 0, 52, 42, 180, 0, 111, 42, 180, 0, 242, 4, 100, 5, 42]
abbrev dktX6_want_17 : List UInt8 := dkwX6_want_17 ++ dktX6_want_18
def dkwX6_want_16 : List UInt8 := [104, 54, 9, 21, 9, 16, 6, 21, 8, 104, 42, 180, 0, 32, 21, 8, 46, 96, 162, 0, 64, 42]
abbrev dktX6_want_16 : List UInt8 := dkwX6_want_16 ++ dktX6_want_17
def dkwX6_want_15 : List UInt8 := [42, 180, 0, 20, 21, 8, 46, 16, 7, 160, 0, 129, 42, 21, 7, 3, 3, 182, 1, 27, 16, 6, 21, 8]
abbrev dktX6_want_15 : List UInt8 := dkwX6_want_15 ++ dktX6_want_16
def dkwX6_want_14 : List UInt8 := [46, 167, 0, 4, 3, 96, 181, 0, 239, 167, 1, 27, 42, 180, 0, 20, 21, 8, 46, 16, 6, 159, 0, 15]
abbrev dktX6_want_14 : List UInt8 := dkwX6_want_14 ++ dktX6_want_15
def dkwX6_want_13 : List UInt8 := [132, 9, 1, 167, 255, 216, 42, 89, 180, 0, 239, 42, 180, 0, 236, 153, 0, 13, 42, 180, 0, 75, 21, 7]
abbrev dktX6_want_13 : List UInt8 := dkwX6_want_13 ++ dktX6_want_14
def dkwX6_want_12 : List UInt8 := [180, 0, 236, 153, 0, 27, 42, 180, 0, 93, 42, 180, 0, 239, 21, 9, 96, 42, 16, 8, 182, 1, 70, 79]
abbrev dktX6_want_12 : List UInt8 := dkwX6_want_12 ++ dktX6_want_13
def dkwX6_want_11 : List UInt8 := [5, 164, 0, 7, 42, 182, 1, 64, 3, 54, 9, 21, 9, 42, 180, 0, 75, 21, 7, 46, 162, 0, 34, 42]
abbrev dktX6_want_11 : List UInt8 := dkwX6_want_11 ++ dktX6_want_12
def dkwX6_want_10 : List UInt8 := [42, 180, 0, 23, 21, 8, 46, 42, 180, 0, 26, 21, 8, 46, 160, 0, 14, 42, 180, 0, 26, 21, 8, 46]
abbrev dktX6_want_10 : List UInt8 := dkwX6_want_10 ++ dktX6_want_11
def dkwX6_want_9 : List UInt8 := [182, 1, 79, 79, 42, 180, 0, 41, 21, 8, 51, 153, 0, 45, 42, 180, 0, 75, 21, 7, 46, 158, 0, 35]
abbrev dktX6_want_9 : List UInt8 := dkwX6_want_9 ++ dktX6_want_10
def dkwX6_want_8 : List UInt8 := [167, 1, 179, 42, 180, 0, 20, 21, 8, 46, 7, 160, 0, 144, 42, 180, 0, 75, 21, 7, 42, 21, 8]
abbrev dktX6_want_8 : List UInt8 := dkwX6_want_8 ++ dktX6_want_9
def dkwX6_want_7 : List UInt8 := [177, 42, 180, 0, 20, 21, 8, 46, 4, 160, 0, 17, 42, 180, 0, 75, 21, 7, 42, 182, 1, 61, 79]
abbrev dktX6_want_7 : List UInt8 := dkwX6_want_7 ++ dktX6_want_8
def dkwX6_want_6 : List UInt8 := [42, 180, 0, 222, 54, 8, 42, 180, 0, 236, 153, 0, 14, 42, 180, 0, 20, 21, 8, 46, 8, 160, 0, 4]
abbrev dktX6_want_6 : List UInt8 := dkwX6_want_6 ++ dktX6_want_7
def dkwX6_want_5 : List UInt8 := [54, 4, 42, 21, 4, 182, 0, 218, 167, 255, 146, 42, 21, 4, 21, 5, 21, 6, 3, 182, 1, 37, 54, 7]
abbrev dktX6_want_5 : List UInt8 := dkwX6_want_5 ++ dktX6_want_6
def dkwX6_want_4 : List UInt8 := [182, 1, 37, 54, 5, 3, 54, 6, 42, 180, 0, 48, 16, 6, 42, 180, 0, 222, 104, 21, 8, 96, 46]
abbrev dktX6_want_4 : List UInt8 := dkwX6_want_4 ++ dktX6_want_5
def dkwX6_want_3 : List UInt8 := [182, 1, 76, 21, 7, 159, 0, 9, 132, 8, 1, 167, 255, 231, 42, 21, 4, 21, 5, 21, 6, 21, 8]
abbrev dktX6_want_3 : List UInt8 := dkwX6_want_3 ++ dktX6_want_4
def dkwX6_want_2 : List UInt8 := [4, 100, 182, 1, 73, 54, 7, 3, 54, 8, 42, 180, 0, 236, 153, 0, 24, 42, 42, 180, 0, 222, 21, 8]
abbrev dktX6_want_2 : List UInt8 := dkwX6_want_2 ++ dktX6_want_3
def dkwX6_want_1 : List UInt8 := [180, 0, 20, 42, 180, 0, 222, 46, 16, 9, 160, 0, 95, 42, 3, 42, 180, 0, 32, 42, 180, 0, 222, 46]
abbrev dktX6_want_1 : List UInt8 := dkwX6_want_1 ++ dktX6_want_2
def dkwX6_want_0 : List UInt8 := [27, 54, 4, 28, 54, 5, 29, 54, 6, 42, 21, 4, 182, 0, 218, 42, 180, 0, 236, 153, 0, 109, 42]
abbrev dktX6_want_0 : List UInt8 := dkwX6_want_0 ++ dktX6_want_1
theorem dksX6_want_0 : cX6_want.data.toList.drop 0 = dktX6_want_0 := by decide +kernel
theorem dksX6_want_1 : cX6_want.data.toList.drop 23 = dktX6_want_1 := dk_seg dksX6_want_0 23 rfl rfl
theorem dksX6_want_2 : cX6_want.data.toList.drop 47 = dktX6_want_2 := dk_seg dksX6_want_1 24 rfl rfl
theorem dksX6_want_3 : cX6_want.data.toList.drop 71 = dktX6_want_3 := dk_seg dksX6_want_2 24 rfl rfl
theorem dksX6_want_4 : cX6_want.data.toList.drop 94 = dktX6_want_4 := dk_seg dksX6_want_3 23 rfl rfl
theorem dksX6_want_5 : cX6_want.data.toList.drop 117 = dktX6_want_5 := dk_seg dksX6_want_4 23 rfl rfl
theorem dksX6_want_6 : cX6_want.data.toList.drop 141 = dktX6_want_6 := dk_seg dksX6_want_5 24 rfl rfl
theorem dksX6_want_7 : cX6_want.data.toList.drop 165 = dktX6_want_7 := dk_seg dksX6_want_6 24 rfl rfl
theorem dksX6_want_8 : cX6_want.data.toList.drop 188 = dktX6_want_8 := dk_seg dksX6_want_7 23 rfl rfl
theorem dksX6_want_9 : cX6_want.data.toList.drop 211 = dktX6_want_9 := dk_seg dksX6_want_8 23 rfl rfl
theorem dksX6_want_10 : cX6_want.data.toList.drop 235 = dktX6_want_10 := dk_seg dksX6_want_9 24 rfl rfl
theorem dksX6_want_11 : cX6_want.data.toList.drop 259 = dktX6_want_11 := dk_seg dksX6_want_10 24 rfl rfl
theorem dksX6_want_12 : cX6_want.data.toList.drop 283 = dktX6_want_12 := dk_seg dksX6_want_11 24 rfl rfl
theorem dksX6_want_13 : cX6_want.data.toList.drop 307 = dktX6_want_13 := dk_seg dksX6_want_12 24 rfl rfl
theorem dksX6_want_14 : cX6_want.data.toList.drop 331 = dktX6_want_14 := dk_seg dksX6_want_13 24 rfl rfl
theorem dksX6_want_15 : cX6_want.data.toList.drop 355 = dktX6_want_15 := dk_seg dksX6_want_14 24 rfl rfl
theorem dksX6_want_16 : cX6_want.data.toList.drop 379 = dktX6_want_16 := dk_seg dksX6_want_15 24 rfl rfl
theorem dksX6_want_17 : cX6_want.data.toList.drop 401 = dktX6_want_17 := dk_seg dksX6_want_16 22 rfl rfl
theorem dksX6_want_18 : cX6_want.data.toList.drop 424 = dktX6_want_18 := dk_seg dksX6_want_17 23 rfl rfl
theorem dksX6_want_19 : cX6_want.data.toList.drop 446 = dktX6_want_19 := dk_seg dksX6_want_18 22 rfl rfl
theorem dksX6_want_20 : cX6_want.data.toList.drop 468 = dktX6_want_20 := dk_seg dksX6_want_19 22 rfl rfl
theorem dksX6_want_21 : cX6_want.data.toList.drop 490 = dktX6_want_21 := dk_seg dksX6_want_20 22 rfl rfl
theorem dksX6_want_22 : cX6_want.data.toList.drop 514 = dktX6_want_22 := dk_seg dksX6_want_21 24 rfl rfl
theorem dksX6_want_23 : cX6_want.data.toList.drop 538 = dktX6_want_23 := dk_seg dksX6_want_22 24 rfl rfl
theorem dksX6_want_24 : cX6_want.data.toList.drop 562 = dktX6_want_24 := dk_seg dksX6_want_23 24 rfl rfl
theorem dksX6_want_25 : cX6_want.data.toList.drop 585 = dktX6_want_25 := dk_seg dksX6_want_24 23 rfl rfl
theorem dksX6_want_26 : cX6_want.data.toList.drop 609 = dktX6_want_26 := dk_seg dksX6_want_25 24 rfl rfl
theorem dX6_want_0 : decode cX6_want 0 = .ok (.iload_n 1, 1) := dk_27 (dk_at dksX6_want_0 0 rfl rfl)
theorem dX6_want_1 : decode cX6_want 1 = .ok (.istore 4, 2) := dk_54 4 (dk_at dksX6_want_0 1 rfl rfl)
theorem dX6_want_3 : decode cX6_want 3 = .ok (.iload_n 2, 1) := dk_28 (dk_at dksX6_want_0 3 rfl rfl)
theorem dX6_want_4 : decode cX6_want 4 = .ok (.istore 5, 2) := dk_54 5 (dk_at dksX6_want_0 4 rfl rfl)
theorem dX6_want_6 : decode cX6_want 6 = .ok (.iload_n 3, 1) := dk_29 (dk_at dksX6_want_0 6 rfl rfl)
theorem dX6_want_7 : decode cX6_want 7 = .ok (.istore 6, 2) := dk_54 6 (dk_at dksX6_want_0 7 rfl rfl)
theorem dX6_want_9 : decode cX6_want 9 = .ok (.aload_n 0, 1) := dk_42 (dk_at dksX6_want_0 9 rfl rfl)
theorem dX6_want_10 : decode cX6_want 10 = .ok (.iload 4, 2) := dk_21 4 (dk_at dksX6_want_0 10 rfl rfl)
theorem dX6_want_12 : decode cX6_want 12 = .ok (.invokevirtual 218, 3) := dk_182 0 218 (dk_at dksX6_want_0 12 rfl rfl)
theorem dX6_want_15 : decode cX6_want 15 = .ok (.aload_n 0, 1) := dk_42 (dk_at dksX6_want_0 15 rfl rfl)
theorem dX6_want_16 : decode cX6_want 16 = .ok (.getfield 236, 3) := dk_180 0 236 (dk_at dksX6_want_0 16 rfl rfl)
theorem dX6_want_19 : decode cX6_want 19 = .ok (.ifCond .eq 109, 3) := dk_153 0 109 (dk_at dksX6_want_0 19 rfl rfl)
theorem dX6_want_22 : decode cX6_want 22 = .ok (.aload_n 0, 1) := dk_42 (dk_at dksX6_want_0 22 rfl rfl)
theorem dX6_want_23 : decode cX6_want 23 = .ok (.getfield 20, 3) := dk_180 0 20 (dk_at dksX6_want_1 0 rfl rfl)
theorem dX6_want_26 : decode cX6_want 26 = .ok (.aload_n 0, 1) := dk_42 (dk_at dksX6_want_1 3 rfl rfl)
theorem dX6_want_27 : decode cX6_want 27 = .ok (.getfield 222, 3) := dk_180 0 222 (dk_at dksX6_want_1 4 rfl rfl)
theorem dX6_want_30 : decode cX6_want 30 = .ok (.iaload, 1) := dk_46 (dk_at dksX6_want_1 7 rfl rfl)
theorem dX6_want_31 : decode cX6_want 31 = .ok (.bipush 9, 2) := dk_16 9 (dk_at dksX6_want_1 8 rfl rfl)
theorem dX6_want_33 : decode cX6_want 33 = .ok (.if_icmp .ne 95, 3) := dk_160 0 95 (dk_at dksX6_want_1 10 rfl rfl)
theorem dX6_want_36 : decode cX6_want 36 = .ok (.aload_n 0, 1) := dk_42 (dk_at dksX6_want_1 13 rfl rfl)
theorem dX6_want_37 : decode cX6_want 37 = .ok (.iconst 0, 1) := dk_3 (dk_at dksX6_want_1 14 rfl rfl)
theorem dX6_want_38 : decode cX6_want 38 = .ok (.aload_n 0, 1) := dk_42 (dk_at dksX6_want_1 15 rfl rfl)
theorem dX6_want_39 : decode cX6_want 39 = .ok (.getfield 32, 3) := dk_180 0 32 (dk_at dksX6_want_1 16 rfl rfl)
theorem dX6_want_42 : decode cX6_want 42 = .ok (.aload_n 0, 1) := dk_42 (dk_at dksX6_want_1 19 rfl rfl)
theorem dX6_want_43 : decode cX6_want 43 = .ok (.getfield 222, 3) := dk_180 0 222 (dk_at dksX6_want_1 20 rfl rfl)
theorem dX6_want_46 : decode cX6_want 46 = .ok (.iaload, 1) := dk_46 (dk_at dksX6_want_1 23 rfl rfl)
theorem dX6_want_47 : decode cX6_want 47 = .ok (.iconst 1, 1) := dk_4 (dk_at dksX6_want_2 0 rfl rfl)
theorem dX6_want_48 : decode cX6_want 48 = .ok (.isub, 1) := dk_100 (dk_at dksX6_want_2 1 rfl rfl)
theorem dX6_want_49 : decode cX6_want 49 = .ok (.invokevirtual 329, 3) := dk_182 1 73 (dk_at dksX6_want_2 2 rfl rfl)
theorem dX6_want_52 : decode cX6_want 52 = .ok (.istore 7, 2) := dk_54 7 (dk_at dksX6_want_2 5 rfl rfl)
theorem dX6_want_54 : decode cX6_want 54 = .ok (.iconst 0, 1) := dk_3 (dk_at dksX6_want_2 7 rfl rfl)
theorem dX6_want_55 : decode cX6_want 55 = .ok (.istore 8, 2) := dk_54 8 (dk_at dksX6_want_2 8 rfl rfl)
theorem dX6_want_57 : decode cX6_want 57 = .ok (.aload_n 0, 1) := dk_42 (dk_at dksX6_want_2 10 rfl rfl)
theorem dX6_want_58 : decode cX6_want 58 = .ok (.getfield 236, 3) := dk_180 0 236 (dk_at dksX6_want_2 11 rfl rfl)
theorem dX6_want_61 : decode cX6_want 61 = .ok (.ifCond .eq 24, 3) := dk_153 0 24 (dk_at dksX6_want_2 14 rfl rfl)
theorem dX6_want_64 : decode cX6_want 64 = .ok (.aload_n 0, 1) := dk_42 (dk_at dksX6_want_2 17 rfl rfl)
theorem dX6_want_65 : decode cX6_want 65 = .ok (.aload_n 0, 1) := dk_42 (dk_at dksX6_want_2 18 rfl rfl)
theorem dX6_want_66 : decode cX6_want 66 = .ok (.getfield 222, 3) := dk_180 0 222 (dk_at dksX6_want_2 19 rfl rfl)
theorem dX6_want_69 : decode cX6_want 69 = .ok (.iload 8, 2) := dk_21 8 (dk_at dksX6_want_2 22 rfl rfl)
theorem dX6_want_71 : decode cX6_want 71 = .ok (.invokevirtual 332, 3) := dk_182 1 76 (dk_at dksX6_want_3 0 rfl rfl)
theorem dX6_want_74 : decode cX6_want 74 = .ok (.iload 7, 2) := dk_21 7 (dk_at dksX6_want_3 3 rfl rfl)
theorem dX6_want_76 : decode cX6_want 76 = .ok (.if_icmp .eq 9, 3) := dk_159 0 9 (dk_at dksX6_want_3 5 rfl rfl)
theorem dX6_want_79 : decode cX6_want 79 = .ok (.iinc 8 1, 3) := dk_132 8 1 (dk_at dksX6_want_3 8 rfl rfl)
theorem dX6_want_82 : decode cX6_want 82 = .ok (.goto (-25), 3) := dk_167 255 231 (dk_at dksX6_want_3 11 rfl rfl)
theorem dX6_want_85 : decode cX6_want 85 = .ok (.aload_n 0, 1) := dk_42 (dk_at dksX6_want_3 14 rfl rfl)
theorem dX6_want_86 : decode cX6_want 86 = .ok (.iload 4, 2) := dk_21 4 (dk_at dksX6_want_3 15 rfl rfl)
theorem dX6_want_88 : decode cX6_want 88 = .ok (.iload 5, 2) := dk_21 5 (dk_at dksX6_want_3 17 rfl rfl)
theorem dX6_want_90 : decode cX6_want 90 = .ok (.iload 6, 2) := dk_21 6 (dk_at dksX6_want_3 19 rfl rfl)
theorem dX6_want_92 : decode cX6_want 92 = .ok (.iload 8, 2) := dk_21 8 (dk_at dksX6_want_3 21 rfl rfl)
theorem dX6_want_94 : decode cX6_want 94 = .ok (.invokevirtual 293, 3) := dk_182 1 37 (dk_at dksX6_want_4 0 rfl rfl)
theorem dX6_want_97 : decode cX6_want 97 = .ok (.istore 5, 2) := dk_54 5 (dk_at dksX6_want_4 3 rfl rfl)
theorem dX6_want_99 : decode cX6_want 99 = .ok (.iconst 0, 1) := dk_3 (dk_at dksX6_want_4 5 rfl rfl)
theorem dX6_want_100 : decode cX6_want 100 = .ok (.istore 6, 2) := dk_54 6 (dk_at dksX6_want_4 6 rfl rfl)
theorem dX6_want_102 : decode cX6_want 102 = .ok (.aload_n 0, 1) := dk_42 (dk_at dksX6_want_4 8 rfl rfl)
theorem dX6_want_103 : decode cX6_want 103 = .ok (.getfield 48, 3) := dk_180 0 48 (dk_at dksX6_want_4 9 rfl rfl)
theorem dX6_want_106 : decode cX6_want 106 = .ok (.bipush 6, 2) := dk_16 6 (dk_at dksX6_want_4 12 rfl rfl)
theorem dX6_want_108 : decode cX6_want 108 = .ok (.aload_n 0, 1) := dk_42 (dk_at dksX6_want_4 14 rfl rfl)
theorem dX6_want_109 : decode cX6_want 109 = .ok (.getfield 222, 3) := dk_180 0 222 (dk_at dksX6_want_4 15 rfl rfl)
theorem dX6_want_112 : decode cX6_want 112 = .ok (.imul, 1) := dk_104 (dk_at dksX6_want_4 18 rfl rfl)
theorem dX6_want_113 : decode cX6_want 113 = .ok (.iload 8, 2) := dk_21 8 (dk_at dksX6_want_4 19 rfl rfl)
theorem dX6_want_115 : decode cX6_want 115 = .ok (.iadd, 1) := dk_96 (dk_at dksX6_want_4 21 rfl rfl)
theorem dX6_want_116 : decode cX6_want 116 = .ok (.iaload, 1) := dk_46 (dk_at dksX6_want_4 22 rfl rfl)
theorem dX6_want_117 : decode cX6_want 117 = .ok (.istore 4, 2) := dk_54 4 (dk_at dksX6_want_5 0 rfl rfl)
theorem dX6_want_119 : decode cX6_want 119 = .ok (.aload_n 0, 1) := dk_42 (dk_at dksX6_want_5 2 rfl rfl)
theorem dX6_want_120 : decode cX6_want 120 = .ok (.iload 4, 2) := dk_21 4 (dk_at dksX6_want_5 3 rfl rfl)
theorem dX6_want_122 : decode cX6_want 122 = .ok (.invokevirtual 218, 3) := dk_182 0 218 (dk_at dksX6_want_5 5 rfl rfl)
theorem dX6_want_125 : decode cX6_want 125 = .ok (.goto (-110), 3) := dk_167 255 146 (dk_at dksX6_want_5 8 rfl rfl)
theorem dX6_want_128 : decode cX6_want 128 = .ok (.aload_n 0, 1) := dk_42 (dk_at dksX6_want_5 11 rfl rfl)
theorem dX6_want_129 : decode cX6_want 129 = .ok (.iload 4, 2) := dk_21 4 (dk_at dksX6_want_5 12 rfl rfl)
theorem dX6_want_131 : decode cX6_want 131 = .ok (.iload 5, 2) := dk_21 5 (dk_at dksX6_want_5 14 rfl rfl)
theorem dX6_want_133 : decode cX6_want 133 = .ok (.iload 6, 2) := dk_21 6 (dk_at dksX6_want_5 16 rfl rfl)
theorem dX6_want_135 : decode cX6_want 135 = .ok (.iconst 0, 1) := dk_3 (dk_at dksX6_want_5 18 rfl rfl)
theorem dX6_want_136 : decode cX6_want 136 = .ok (.invokevirtual 293, 3) := dk_182 1 37 (dk_at dksX6_want_5 19 rfl rfl)
theorem dX6_want_139 : decode cX6_want 139 = .ok (.istore 7, 2) := dk_54 7 (dk_at dksX6_want_5 22 rfl rfl)
theorem dX6_want_141 : decode cX6_want 141 = .ok (.aload_n 0, 1) := dk_42 (dk_at dksX6_want_6 0 rfl rfl)
theorem dX6_want_142 : decode cX6_want 142 = .ok (.getfield 222, 3) := dk_180 0 222 (dk_at dksX6_want_6 1 rfl rfl)
theorem dX6_want_145 : decode cX6_want 145 = .ok (.istore 8, 2) := dk_54 8 (dk_at dksX6_want_6 4 rfl rfl)
theorem dX6_want_147 : decode cX6_want 147 = .ok (.aload_n 0, 1) := dk_42 (dk_at dksX6_want_6 6 rfl rfl)
theorem dX6_want_148 : decode cX6_want 148 = .ok (.getfield 236, 3) := dk_180 0 236 (dk_at dksX6_want_6 7 rfl rfl)
theorem dX6_want_151 : decode cX6_want 151 = .ok (.ifCond .eq 14, 3) := dk_153 0 14 (dk_at dksX6_want_6 10 rfl rfl)
theorem dX6_want_154 : decode cX6_want 154 = .ok (.aload_n 0, 1) := dk_42 (dk_at dksX6_want_6 13 rfl rfl)
theorem dX6_want_155 : decode cX6_want 155 = .ok (.getfield 20, 3) := dk_180 0 20 (dk_at dksX6_want_6 14 rfl rfl)
theorem dX6_want_158 : decode cX6_want 158 = .ok (.iload 8, 2) := dk_21 8 (dk_at dksX6_want_6 17 rfl rfl)
theorem dX6_want_160 : decode cX6_want 160 = .ok (.iaload, 1) := dk_46 (dk_at dksX6_want_6 19 rfl rfl)
theorem dX6_want_161 : decode cX6_want 161 = .ok (.iconst 5, 1) := dk_8 (dk_at dksX6_want_6 20 rfl rfl)
theorem dX6_want_162 : decode cX6_want 162 = .ok (.if_icmp .ne 4, 3) := dk_160 0 4 (dk_at dksX6_want_6 21 rfl rfl)
theorem dX6_want_165 : decode cX6_want 165 = .ok (.return_, 1) := dk_177 (dk_at dksX6_want_7 0 rfl rfl)
theorem dX6_want_166 : decode cX6_want 166 = .ok (.aload_n 0, 1) := dk_42 (dk_at dksX6_want_7 1 rfl rfl)
theorem dX6_want_167 : decode cX6_want 167 = .ok (.getfield 20, 3) := dk_180 0 20 (dk_at dksX6_want_7 2 rfl rfl)
theorem dX6_want_170 : decode cX6_want 170 = .ok (.iload 8, 2) := dk_21 8 (dk_at dksX6_want_7 5 rfl rfl)
theorem dX6_want_172 : decode cX6_want 172 = .ok (.iaload, 1) := dk_46 (dk_at dksX6_want_7 7 rfl rfl)
theorem dX6_want_173 : decode cX6_want 173 = .ok (.iconst 1, 1) := dk_4 (dk_at dksX6_want_7 8 rfl rfl)
theorem dX6_want_174 : decode cX6_want 174 = .ok (.if_icmp .ne 17, 3) := dk_160 0 17 (dk_at dksX6_want_7 9 rfl rfl)
theorem dX6_want_177 : decode cX6_want 177 = .ok (.aload_n 0, 1) := dk_42 (dk_at dksX6_want_7 12 rfl rfl)
theorem dX6_want_178 : decode cX6_want 178 = .ok (.getfield 75, 3) := dk_180 0 75 (dk_at dksX6_want_7 13 rfl rfl)
theorem dX6_want_181 : decode cX6_want 181 = .ok (.iload 7, 2) := dk_21 7 (dk_at dksX6_want_7 16 rfl rfl)
theorem dX6_want_183 : decode cX6_want 183 = .ok (.aload_n 0, 1) := dk_42 (dk_at dksX6_want_7 18 rfl rfl)
theorem dX6_want_184 : decode cX6_want 184 = .ok (.invokevirtual 317, 3) := dk_182 1 61 (dk_at dksX6_want_7 19 rfl rfl)
theorem dX6_want_187 : decode cX6_want 187 = .ok (.iastore, 1) := dk_79 (dk_at dksX6_want_7 22 rfl rfl)
theorem dX6_want_188 : decode cX6_want 188 = .ok (.goto 435, 3) := dk_167 1 179 (dk_at dksX6_want_8 0 rfl rfl)
theorem dX6_want_191 : decode cX6_want 191 = .ok (.aload_n 0, 1) := dk_42 (dk_at dksX6_want_8 3 rfl rfl)
theorem dX6_want_192 : decode cX6_want 192 = .ok (.getfield 20, 3) := dk_180 0 20 (dk_at dksX6_want_8 4 rfl rfl)
theorem dX6_want_195 : decode cX6_want 195 = .ok (.iload 8, 2) := dk_21 8 (dk_at dksX6_want_8 7 rfl rfl)
theorem dX6_want_197 : decode cX6_want 197 = .ok (.iaload, 1) := dk_46 (dk_at dksX6_want_8 9 rfl rfl)
theorem dX6_want_198 : decode cX6_want 198 = .ok (.iconst 4, 1) := dk_7 (dk_at dksX6_want_8 10 rfl rfl)
theorem dX6_want_199 : decode cX6_want 199 = .ok (.if_icmp .ne 144, 3) := dk_160 0 144 (dk_at dksX6_want_8 11 rfl rfl)
theorem dX6_want_202 : decode cX6_want 202 = .ok (.aload_n 0, 1) := dk_42 (dk_at dksX6_want_8 14 rfl rfl)
theorem dX6_want_203 : decode cX6_want 203 = .ok (.getfield 75, 3) := dk_180 0 75 (dk_at dksX6_want_8 15 rfl rfl)
theorem dX6_want_206 : decode cX6_want 206 = .ok (.iload 7, 2) := dk_21 7 (dk_at dksX6_want_8 18 rfl rfl)
theorem dX6_want_208 : decode cX6_want 208 = .ok (.aload_n 0, 1) := dk_42 (dk_at dksX6_want_8 20 rfl rfl)
theorem dX6_want_209 : decode cX6_want 209 = .ok (.iload 8, 2) := dk_21 8 (dk_at dksX6_want_8 21 rfl rfl)
theorem dX6_want_211 : decode cX6_want 211 = .ok (.invokevirtual 335, 3) := dk_182 1 79 (dk_at dksX6_want_9 0 rfl rfl)
theorem dX6_want_214 : decode cX6_want 214 = .ok (.iastore, 1) := dk_79 (dk_at dksX6_want_9 3 rfl rfl)
theorem dX6_want_215 : decode cX6_want 215 = .ok (.aload_n 0, 1) := dk_42 (dk_at dksX6_want_9 4 rfl rfl)
theorem dX6_want_216 : decode cX6_want 216 = .ok (.getfield 41, 3) := dk_180 0 41 (dk_at dksX6_want_9 5 rfl rfl)
theorem dX6_want_219 : decode cX6_want 219 = .ok (.iload 8, 2) := dk_21 8 (dk_at dksX6_want_9 8 rfl rfl)
theorem dX6_want_221 : decode cX6_want 221 = .ok (.baload, 1) := dk_51 (dk_at dksX6_want_9 10 rfl rfl)
theorem dX6_want_222 : decode cX6_want 222 = .ok (.ifCond .eq 45, 3) := dk_153 0 45 (dk_at dksX6_want_9 11 rfl rfl)
theorem dX6_want_225 : decode cX6_want 225 = .ok (.aload_n 0, 1) := dk_42 (dk_at dksX6_want_9 14 rfl rfl)
theorem dX6_want_226 : decode cX6_want 226 = .ok (.getfield 75, 3) := dk_180 0 75 (dk_at dksX6_want_9 15 rfl rfl)
theorem dX6_want_229 : decode cX6_want 229 = .ok (.iload 7, 2) := dk_21 7 (dk_at dksX6_want_9 18 rfl rfl)
theorem dX6_want_231 : decode cX6_want 231 = .ok (.iaload, 1) := dk_46 (dk_at dksX6_want_9 20 rfl rfl)
theorem dX6_want_232 : decode cX6_want 232 = .ok (.ifCond .le 35, 3) := dk_158 0 35 (dk_at dksX6_want_9 21 rfl rfl)
theorem dX6_want_235 : decode cX6_want 235 = .ok (.aload_n 0, 1) := dk_42 (dk_at dksX6_want_10 0 rfl rfl)
theorem dX6_want_236 : decode cX6_want 236 = .ok (.getfield 23, 3) := dk_180 0 23 (dk_at dksX6_want_10 1 rfl rfl)
theorem dX6_want_239 : decode cX6_want 239 = .ok (.iload 8, 2) := dk_21 8 (dk_at dksX6_want_10 4 rfl rfl)
theorem dX6_want_241 : decode cX6_want 241 = .ok (.iaload, 1) := dk_46 (dk_at dksX6_want_10 6 rfl rfl)
theorem dX6_want_242 : decode cX6_want 242 = .ok (.aload_n 0, 1) := dk_42 (dk_at dksX6_want_10 7 rfl rfl)
theorem dX6_want_243 : decode cX6_want 243 = .ok (.getfield 26, 3) := dk_180 0 26 (dk_at dksX6_want_10 8 rfl rfl)
theorem dX6_want_246 : decode cX6_want 246 = .ok (.iload 8, 2) := dk_21 8 (dk_at dksX6_want_10 11 rfl rfl)
theorem dX6_want_248 : decode cX6_want 248 = .ok (.iaload, 1) := dk_46 (dk_at dksX6_want_10 13 rfl rfl)
theorem dX6_want_249 : decode cX6_want 249 = .ok (.if_icmp .ne 14, 3) := dk_160 0 14 (dk_at dksX6_want_10 14 rfl rfl)
theorem dX6_want_252 : decode cX6_want 252 = .ok (.aload_n 0, 1) := dk_42 (dk_at dksX6_want_10 17 rfl rfl)
theorem dX6_want_253 : decode cX6_want 253 = .ok (.getfield 26, 3) := dk_180 0 26 (dk_at dksX6_want_10 18 rfl rfl)
theorem dX6_want_256 : decode cX6_want 256 = .ok (.iload 8, 2) := dk_21 8 (dk_at dksX6_want_10 21 rfl rfl)
theorem dX6_want_258 : decode cX6_want 258 = .ok (.iaload, 1) := dk_46 (dk_at dksX6_want_10 23 rfl rfl)
theorem dX6_want_259 : decode cX6_want 259 = .ok (.iconst 2, 1) := dk_5 (dk_at dksX6_want_11 0 rfl rfl)
theorem dX6_want_260 : decode cX6_want 260 = .ok (.if_icmp .le 7, 3) := dk_164 0 7 (dk_at dksX6_want_11 1 rfl rfl)
theorem dX6_want_263 : decode cX6_want 263 = .ok (.aload_n 0, 1) := dk_42 (dk_at dksX6_want_11 4 rfl rfl)
theorem dX6_want_264 : decode cX6_want 264 = .ok (.invokevirtual 320, 3) := dk_182 1 64 (dk_at dksX6_want_11 5 rfl rfl)
theorem dX6_want_267 : decode cX6_want 267 = .ok (.iconst 0, 1) := dk_3 (dk_at dksX6_want_11 8 rfl rfl)
theorem dX6_want_268 : decode cX6_want 268 = .ok (.istore 9, 2) := dk_54 9 (dk_at dksX6_want_11 9 rfl rfl)
theorem dX6_want_270 : decode cX6_want 270 = .ok (.iload 9, 2) := dk_21 9 (dk_at dksX6_want_11 11 rfl rfl)
theorem dX6_want_272 : decode cX6_want 272 = .ok (.aload_n 0, 1) := dk_42 (dk_at dksX6_want_11 13 rfl rfl)
theorem dX6_want_273 : decode cX6_want 273 = .ok (.getfield 75, 3) := dk_180 0 75 (dk_at dksX6_want_11 14 rfl rfl)
theorem dX6_want_276 : decode cX6_want 276 = .ok (.iload 7, 2) := dk_21 7 (dk_at dksX6_want_11 17 rfl rfl)
theorem dX6_want_278 : decode cX6_want 278 = .ok (.iaload, 1) := dk_46 (dk_at dksX6_want_11 19 rfl rfl)
theorem dX6_want_279 : decode cX6_want 279 = .ok (.if_icmp .ge 34, 3) := dk_162 0 34 (dk_at dksX6_want_11 20 rfl rfl)
theorem dX6_want_282 : decode cX6_want 282 = .ok (.aload_n 0, 1) := dk_42 (dk_at dksX6_want_11 23 rfl rfl)
theorem dX6_want_283 : decode cX6_want 283 = .ok (.getfield 236, 3) := dk_180 0 236 (dk_at dksX6_want_12 0 rfl rfl)
theorem dX6_want_286 : decode cX6_want 286 = .ok (.ifCond .eq 27, 3) := dk_153 0 27 (dk_at dksX6_want_12 3 rfl rfl)
theorem dX6_want_289 : decode cX6_want 289 = .ok (.aload_n 0, 1) := dk_42 (dk_at dksX6_want_12 6 rfl rfl)
theorem dX6_want_290 : decode cX6_want 290 = .ok (.getfield 93, 3) := dk_180 0 93 (dk_at dksX6_want_12 7 rfl rfl)
theorem dX6_want_293 : decode cX6_want 293 = .ok (.aload_n 0, 1) := dk_42 (dk_at dksX6_want_12 10 rfl rfl)
theorem dX6_want_294 : decode cX6_want 294 = .ok (.getfield 239, 3) := dk_180 0 239 (dk_at dksX6_want_12 11 rfl rfl)
theorem dX6_want_297 : decode cX6_want 297 = .ok (.iload 9, 2) := dk_21 9 (dk_at dksX6_want_12 14 rfl rfl)
theorem dX6_want_299 : decode cX6_want 299 = .ok (.iadd, 1) := dk_96 (dk_at dksX6_want_12 16 rfl rfl)
theorem dX6_want_300 : decode cX6_want 300 = .ok (.aload_n 0, 1) := dk_42 (dk_at dksX6_want_12 17 rfl rfl)
theorem dX6_want_301 : decode cX6_want 301 = .ok (.bipush 8, 2) := dk_16 8 (dk_at dksX6_want_12 18 rfl rfl)
theorem dX6_want_303 : decode cX6_want 303 = .ok (.invokevirtual 326, 3) := dk_182 1 70 (dk_at dksX6_want_12 20 rfl rfl)
theorem dX6_want_306 : decode cX6_want 306 = .ok (.iastore, 1) := dk_79 (dk_at dksX6_want_12 23 rfl rfl)
theorem dX6_want_307 : decode cX6_want 307 = .ok (.iinc 9 1, 3) := dk_132 9 1 (dk_at dksX6_want_13 0 rfl rfl)
theorem dX6_want_310 : decode cX6_want 310 = .ok (.goto (-40), 3) := dk_167 255 216 (dk_at dksX6_want_13 3 rfl rfl)
theorem dX6_want_313 : decode cX6_want 313 = .ok (.aload_n 0, 1) := dk_42 (dk_at dksX6_want_13 6 rfl rfl)
theorem dX6_want_314 : decode cX6_want 314 = .ok (.dup, 1) := dk_89 (dk_at dksX6_want_13 7 rfl rfl)
theorem dX6_want_315 : decode cX6_want 315 = .ok (.getfield 239, 3) := dk_180 0 239 (dk_at dksX6_want_13 8 rfl rfl)
theorem dX6_want_318 : decode cX6_want 318 = .ok (.aload_n 0, 1) := dk_42 (dk_at dksX6_want_13 11 rfl rfl)
theorem dX6_want_319 : decode cX6_want 319 = .ok (.getfield 236, 3) := dk_180 0 236 (dk_at dksX6_want_13 12 rfl rfl)
theorem dX6_want_322 : decode cX6_want 322 = .ok (.ifCond .eq 13, 3) := dk_153 0 13 (dk_at dksX6_want_13 15 rfl rfl)
theorem dX6_want_325 : decode cX6_want 325 = .ok (.aload_n 0, 1) := dk_42 (dk_at dksX6_want_13 18 rfl rfl)
theorem dX6_want_326 : decode cX6_want 326 = .ok (.getfield 75, 3) := dk_180 0 75 (dk_at dksX6_want_13 19 rfl rfl)
theorem dX6_want_329 : decode cX6_want 329 = .ok (.iload 7, 2) := dk_21 7 (dk_at dksX6_want_13 22 rfl rfl)
theorem dX6_want_331 : decode cX6_want 331 = .ok (.iaload, 1) := dk_46 (dk_at dksX6_want_14 0 rfl rfl)
theorem dX6_want_332 : decode cX6_want 332 = .ok (.goto 4, 3) := dk_167 0 4 (dk_at dksX6_want_14 1 rfl rfl)
theorem dX6_want_335 : decode cX6_want 335 = .ok (.iconst 0, 1) := dk_3 (dk_at dksX6_want_14 4 rfl rfl)
theorem dX6_want_336 : decode cX6_want 336 = .ok (.iadd, 1) := dk_96 (dk_at dksX6_want_14 5 rfl rfl)
theorem dX6_want_337 : decode cX6_want 337 = .ok (.putfield 239, 3) := dk_181 0 239 (dk_at dksX6_want_14 6 rfl rfl)
theorem dX6_want_340 : decode cX6_want 340 = .ok (.goto 283, 3) := dk_167 1 27 (dk_at dksX6_want_14 9 rfl rfl)
theorem dX6_want_343 : decode cX6_want 343 = .ok (.aload_n 0, 1) := dk_42 (dk_at dksX6_want_14 12 rfl rfl)
theorem dX6_want_344 : decode cX6_want 344 = .ok (.getfield 20, 3) := dk_180 0 20 (dk_at dksX6_want_14 13 rfl rfl)
theorem dX6_want_347 : decode cX6_want 347 = .ok (.iload 8, 2) := dk_21 8 (dk_at dksX6_want_14 16 rfl rfl)
theorem dX6_want_349 : decode cX6_want 349 = .ok (.iaload, 1) := dk_46 (dk_at dksX6_want_14 18 rfl rfl)
theorem dX6_want_350 : decode cX6_want 350 = .ok (.bipush 6, 2) := dk_16 6 (dk_at dksX6_want_14 19 rfl rfl)
theorem dX6_want_352 : decode cX6_want 352 = .ok (.if_icmp .eq 15, 3) := dk_159 0 15 (dk_at dksX6_want_14 21 rfl rfl)
theorem dX6_want_355 : decode cX6_want 355 = .ok (.aload_n 0, 1) := dk_42 (dk_at dksX6_want_15 0 rfl rfl)
theorem dX6_want_356 : decode cX6_want 356 = .ok (.getfield 20, 3) := dk_180 0 20 (dk_at dksX6_want_15 1 rfl rfl)
theorem dX6_want_359 : decode cX6_want 359 = .ok (.iload 8, 2) := dk_21 8 (dk_at dksX6_want_15 4 rfl rfl)
theorem dX6_want_361 : decode cX6_want 361 = .ok (.iaload, 1) := dk_46 (dk_at dksX6_want_15 6 rfl rfl)
theorem dX6_want_362 : decode cX6_want 362 = .ok (.bipush 7, 2) := dk_16 7 (dk_at dksX6_want_15 7 rfl rfl)
theorem dX6_want_364 : decode cX6_want 364 = .ok (.if_icmp .ne 129, 3) := dk_160 0 129 (dk_at dksX6_want_15 9 rfl rfl)
theorem dX6_want_367 : decode cX6_want 367 = .ok (.aload_n 0, 1) := dk_42 (dk_at dksX6_want_15 12 rfl rfl)
theorem dX6_want_368 : decode cX6_want 368 = .ok (.iload 7, 2) := dk_21 7 (dk_at dksX6_want_15 13 rfl rfl)
theorem dX6_want_370 : decode cX6_want 370 = .ok (.iconst 0, 1) := dk_3 (dk_at dksX6_want_15 15 rfl rfl)
theorem dX6_want_371 : decode cX6_want 371 = .ok (.iconst 0, 1) := dk_3 (dk_at dksX6_want_15 16 rfl rfl)
theorem dX6_want_372 : decode cX6_want 372 = .ok (.invokevirtual 283, 3) := dk_182 1 27 (dk_at dksX6_want_15 17 rfl rfl)
theorem dX6_want_375 : decode cX6_want 375 = .ok (.bipush 6, 2) := dk_16 6 (dk_at dksX6_want_15 20 rfl rfl)
theorem dX6_want_377 : decode cX6_want 377 = .ok (.iload 8, 2) := dk_21 8 (dk_at dksX6_want_15 22 rfl rfl)
theorem dX6_want_379 : decode cX6_want 379 = .ok (.imul, 1) := dk_104 (dk_at dksX6_want_16 0 rfl rfl)
theorem dX6_want_380 : decode cX6_want 380 = .ok (.istore 9, 2) := dk_54 9 (dk_at dksX6_want_16 1 rfl rfl)
theorem dX6_want_382 : decode cX6_want 382 = .ok (.iload 9, 2) := dk_21 9 (dk_at dksX6_want_16 3 rfl rfl)
theorem dX6_want_384 : decode cX6_want 384 = .ok (.bipush 6, 2) := dk_16 6 (dk_at dksX6_want_16 5 rfl rfl)
theorem dX6_want_386 : decode cX6_want 386 = .ok (.iload 8, 2) := dk_21 8 (dk_at dksX6_want_16 7 rfl rfl)
theorem dX6_want_388 : decode cX6_want 388 = .ok (.imul, 1) := dk_104 (dk_at dksX6_want_16 9 rfl rfl)
theorem dX6_want_389 : decode cX6_want 389 = .ok (.aload_n 0, 1) := dk_42 (dk_at dksX6_want_16 10 rfl rfl)
theorem dX6_want_390 : decode cX6_want 390 = .ok (.getfield 32, 3) := dk_180 0 32 (dk_at dksX6_want_16 11 rfl rfl)
theorem dX6_want_393 : decode cX6_want 393 = .ok (.iload 8, 2) := dk_21 8 (dk_at dksX6_want_16 14 rfl rfl)
theorem dX6_want_395 : decode cX6_want 395 = .ok (.iaload, 1) := dk_46 (dk_at dksX6_want_16 16 rfl rfl)
theorem dX6_want_396 : decode cX6_want 396 = .ok (.iadd, 1) := dk_96 (dk_at dksX6_want_16 17 rfl rfl)
theorem dX6_want_397 : decode cX6_want 397 = .ok (.if_icmp .ge 64, 3) := dk_162 0 64 (dk_at dksX6_want_16 18 rfl rfl)
theorem dX6_want_400 : decode cX6_want 400 = .ok (.aload_n 0, 1) := dk_42 (dk_at dksX6_want_16 21 rfl rfl)
theorem dX6_want_401 : decode cX6_want 401 = .ok (.getfield 20, 3) := dk_180 0 20 (dk_at dksX6_want_17 0 rfl rfl)
theorem dX6_want_404 : decode cX6_want 404 = .ok (.iload 8, 2) := dk_21 8 (dk_at dksX6_want_17 3 rfl rfl)
theorem dX6_want_406 : decode cX6_want 406 = .ok (.iaload, 1) := dk_46 (dk_at dksX6_want_17 5 rfl rfl)
theorem dX6_want_407 : decode cX6_want 407 = .ok (.bipush 6, 2) := dk_16 6 (dk_at dksX6_want_17 6 rfl rfl)
theorem dX6_want_409 : decode cX6_want 409 = .ok (.if_icmp .ne 52, 3) := dk_160 0 52 (dk_at dksX6_want_17 8 rfl rfl)
theorem dX6_want_412 : decode cX6_want 412 = .ok (.aload_n 0, 1) := dk_42 (dk_at dksX6_want_17 11 rfl rfl)
theorem dX6_want_413 : decode cX6_want 413 = .ok (.getfield 111, 3) := dk_180 0 111 (dk_at dksX6_want_17 12 rfl rfl)
theorem dX6_want_416 : decode cX6_want 416 = .ok (.aload_n 0, 1) := dk_42 (dk_at dksX6_want_17 15 rfl rfl)
theorem dX6_want_417 : decode cX6_want 417 = .ok (.getfield 242, 3) := dk_180 0 242 (dk_at dksX6_want_17 16 rfl rfl)
theorem dX6_want_420 : decode cX6_want 420 = .ok (.iconst 1, 1) := dk_4 (dk_at dksX6_want_17 19 rfl rfl)
theorem dX6_want_421 : decode cX6_want 421 = .ok (.isub, 1) := dk_100 (dk_at dksX6_want_17 20 rfl rfl)
theorem dX6_want_422 : decode cX6_want 422 = .ok (.iconst 2, 1) := dk_5 (dk_at dksX6_want_17 21 rfl rfl)
theorem dX6_want_423 : decode cX6_want 423 = .ok (.aload_n 0, 1) := dk_42 (dk_at dksX6_want_17 22 rfl rfl)
theorem dX6_want_424 : decode cX6_want 424 = .ok (.getfield 111, 3) := dk_180 0 111 (dk_at dksX6_want_18 0 rfl rfl)
theorem dX6_want_427 : decode cX6_want 427 = .ok (.aload_n 0, 1) := dk_42 (dk_at dksX6_want_18 3 rfl rfl)
theorem dX6_want_428 : decode cX6_want 428 = .ok (.getfield 242, 3) := dk_180 0 242 (dk_at dksX6_want_18 4 rfl rfl)
theorem dX6_want_431 : decode cX6_want 431 = .ok (.iconst 1, 1) := dk_4 (dk_at dksX6_want_18 7 rfl rfl)
theorem dX6_want_432 : decode cX6_want 432 = .ok (.isub, 1) := dk_100 (dk_at dksX6_want_18 8 rfl rfl)
theorem dX6_want_433 : decode cX6_want 433 = .ok (.iaload, 1) := dk_46 (dk_at dksX6_want_18 9 rfl rfl)
theorem dX6_want_434 : decode cX6_want 434 = .ok (.imul, 1) := dk_104 (dk_at dksX6_want_18 10 rfl rfl)
theorem dX6_want_435 : decode cX6_want 435 = .ok (.aload_n 0, 1) := dk_42 (dk_at dksX6_want_18 11 rfl rfl)
theorem dX6_want_436 : decode cX6_want 436 = .ok (.getfield 51, 3) := dk_180 0 51 (dk_at dksX6_want_18 12 rfl rfl)
theorem dX6_want_439 : decode cX6_want 439 = .ok (.iload 9, 2) := dk_21 9 (dk_at dksX6_want_18 15 rfl rfl)
theorem dX6_want_441 : decode cX6_want 441 = .ok (.iaload, 1) := dk_46 (dk_at dksX6_want_18 17 rfl rfl)
theorem dX6_want_442 : decode cX6_want 442 = .ok (.ifCond .ne 7, 3) := dk_154 0 7 (dk_at dksX6_want_18 18 rfl rfl)
theorem dX6_want_445 : decode cX6_want 445 = .ok (.iconst 1, 1) := dk_4 (dk_at dksX6_want_18 21 rfl rfl)
theorem dX6_want_446 : decode cX6_want 446 = .ok (.goto 7, 3) := dk_167 0 7 (dk_at dksX6_want_19 0 rfl rfl)
theorem dX6_want_449 : decode cX6_want 449 = .ok (.aload_n 0, 1) := dk_42 (dk_at dksX6_want_19 3 rfl rfl)
theorem dX6_want_450 : decode cX6_want 450 = .ok (.invokevirtual 317, 3) := dk_182 1 61 (dk_at dksX6_want_19 4 rfl rfl)
theorem dX6_want_453 : decode cX6_want 453 = .ok (.iadd, 1) := dk_96 (dk_at dksX6_want_19 7 rfl rfl)
theorem dX6_want_454 : decode cX6_want 454 = .ok (.iastore, 1) := dk_79 (dk_at dksX6_want_19 8 rfl rfl)
theorem dX6_want_455 : decode cX6_want 455 = .ok (.iinc 9 1, 3) := dk_132 9 1 (dk_at dksX6_want_19 9 rfl rfl)
theorem dX6_want_458 : decode cX6_want 458 = .ok (.goto (-76), 3) := dk_167 255 180 (dk_at dksX6_want_19 12 rfl rfl)
theorem dX6_want_461 : decode cX6_want 461 = .ok (.aload_n 0, 1) := dk_42 (dk_at dksX6_want_19 15 rfl rfl)
theorem dX6_want_462 : decode cX6_want 462 = .ok (.getfield 75, 3) := dk_180 0 75 (dk_at dksX6_want_19 16 rfl rfl)
theorem dX6_want_465 : decode cX6_want 465 = .ok (.iload 7, 2) := dk_21 7 (dk_at dksX6_want_19 19 rfl rfl)
theorem dX6_want_467 : decode cX6_want 467 = .ok (.aload_n 0, 1) := dk_42 (dk_at dksX6_want_19 21 rfl rfl)
theorem dX6_want_468 : decode cX6_want 468 = .ok (.getfield 20, 3) := dk_180 0 20 (dk_at dksX6_want_20 0 rfl rfl)
theorem dX6_want_471 : decode cX6_want 471 = .ok (.iload 8, 2) := dk_21 8 (dk_at dksX6_want_20 3 rfl rfl)
theorem dX6_want_473 : decode cX6_want 473 = .ok (.iaload, 1) := dk_46 (dk_at dksX6_want_20 5 rfl rfl)
theorem dX6_want_474 : decode cX6_want 474 = .ok (.bipush 7, 2) := dk_16 7 (dk_at dksX6_want_20 6 rfl rfl)
theorem dX6_want_476 : decode cX6_want 476 = .ok (.if_icmp .ne 12, 3) := dk_160 0 12 (dk_at dksX6_want_20 8 rfl rfl)
theorem dX6_want_479 : decode cX6_want 479 = .ok (.aload_n 0, 1) := dk_42 (dk_at dksX6_want_20 11 rfl rfl)
theorem dX6_want_480 : decode cX6_want 480 = .ok (.iload 8, 2) := dk_21 8 (dk_at dksX6_want_20 12 rfl rfl)
theorem dX6_want_482 : decode cX6_want 482 = .ok (.invokevirtual 335, 3) := dk_182 1 79 (dk_at dksX6_want_20 14 rfl rfl)
theorem dX6_want_485 : decode cX6_want 485 = .ok (.goto 4, 3) := dk_167 0 4 (dk_at dksX6_want_20 17 rfl rfl)
theorem dX6_want_488 : decode cX6_want 488 = .ok (.iconst 0, 1) := dk_3 (dk_at dksX6_want_20 20 rfl rfl)
theorem dX6_want_489 : decode cX6_want 489 = .ok (.iastore, 1) := dk_79 (dk_at dksX6_want_20 21 rfl rfl)
theorem dX6_want_490 : decode cX6_want 490 = .ok (.goto 133, 3) := dk_167 0 133 (dk_at dksX6_want_21 0 rfl rfl)
theorem dX6_want_493 : decode cX6_want 493 = .ok (.aload_n 0, 1) := dk_42 (dk_at dksX6_want_21 3 rfl rfl)
theorem dX6_want_494 : decode cX6_want 494 = .ok (.getfield 41, 3) := dk_180 0 41 (dk_at dksX6_want_21 4 rfl rfl)
theorem dX6_want_497 : decode cX6_want 497 = .ok (.iload 8, 2) := dk_21 8 (dk_at dksX6_want_21 7 rfl rfl)
theorem dX6_want_499 : decode cX6_want 499 = .ok (.baload, 1) := dk_51 (dk_at dksX6_want_21 9 rfl rfl)
theorem dX6_want_500 : decode cX6_want 500 = .ok (.ifCond .eq 31, 3) := dk_153 0 31 (dk_at dksX6_want_21 10 rfl rfl)
theorem dX6_want_503 : decode cX6_want 503 = .ok (.aload_n 0, 1) := dk_42 (dk_at dksX6_want_21 13 rfl rfl)
theorem dX6_want_504 : decode cX6_want 504 = .ok (.getfield 75, 3) := dk_180 0 75 (dk_at dksX6_want_21 14 rfl rfl)
theorem dX6_want_507 : decode cX6_want 507 = .ok (.iload 7, 2) := dk_21 7 (dk_at dksX6_want_21 17 rfl rfl)
theorem dX6_want_509 : decode cX6_want 509 = .ok (.aload_n 0, 1) := dk_42 (dk_at dksX6_want_21 19 rfl rfl)
theorem dX6_want_510 : decode cX6_want 510 = .ok (.aload_n 0, 1) := dk_42 (dk_at dksX6_want_21 20 rfl rfl)
theorem dX6_want_511 : decode cX6_want 511 = .ok (.getfield 23, 3) := dk_180 0 23 (dk_at dksX6_want_21 21 rfl rfl)
theorem dX6_want_514 : decode cX6_want 514 = .ok (.iload 8, 2) := dk_21 8 (dk_at dksX6_want_22 0 rfl rfl)
theorem dX6_want_516 : decode cX6_want 516 = .ok (.iaload, 1) := dk_46 (dk_at dksX6_want_22 2 rfl rfl)
theorem dX6_want_517 : decode cX6_want 517 = .ok (.aload_n 0, 1) := dk_42 (dk_at dksX6_want_22 3 rfl rfl)
theorem dX6_want_518 : decode cX6_want 518 = .ok (.getfield 26, 3) := dk_180 0 26 (dk_at dksX6_want_22 4 rfl rfl)
theorem dX6_want_521 : decode cX6_want 521 = .ok (.iload 8, 2) := dk_21 8 (dk_at dksX6_want_22 7 rfl rfl)
theorem dX6_want_523 : decode cX6_want 523 = .ok (.iaload, 1) := dk_46 (dk_at dksX6_want_22 9 rfl rfl)
theorem dX6_want_524 : decode cX6_want 524 = .ok (.invokevirtual 329, 3) := dk_182 1 73 (dk_at dksX6_want_22 10 rfl rfl)
theorem dX6_want_527 : decode cX6_want 527 = .ok (.iastore, 1) := dk_79 (dk_at dksX6_want_22 13 rfl rfl)
theorem dX6_want_528 : decode cX6_want 528 = .ok (.goto 95, 3) := dk_167 0 95 (dk_at dksX6_want_22 14 rfl rfl)
theorem dX6_want_531 : decode cX6_want 531 = .ok (.aload_n 0, 1) := dk_42 (dk_at dksX6_want_22 17 rfl rfl)
theorem dX6_want_532 : decode cX6_want 532 = .ok (.invokevirtual 320, 3) := dk_182 1 64 (dk_at dksX6_want_22 18 rfl rfl)
theorem dX6_want_535 : decode cX6_want 535 = .ok (.aload_n 0, 1) := dk_42 (dk_at dksX6_want_22 21 rfl rfl)
theorem dX6_want_536 : decode cX6_want 536 = .ok (.bipush 8, 2) := dk_16 8 (dk_at dksX6_want_22 22 rfl rfl)
theorem dX6_want_538 : decode cX6_want 538 = .ok (.invokevirtual 326, 3) := dk_182 1 70 (dk_at dksX6_want_23 0 rfl rfl)
theorem dX6_want_541 : decode cX6_want 541 = .ok (.istore 9, 2) := dk_54 9 (dk_at dksX6_want_23 3 rfl rfl)
theorem dX6_want_543 : decode cX6_want 543 = .ok (.iload 9, 2) := dk_21 9 (dk_at dksX6_want_23 5 rfl rfl)
theorem dX6_want_545 : decode cX6_want 545 = .ok (.iconst 1, 1) := dk_4 (dk_at dksX6_want_23 7 rfl rfl)
theorem dX6_want_546 : decode cX6_want 546 = .ok (.iconst 4, 1) := dk_7 (dk_at dksX6_want_23 8 rfl rfl)
theorem dX6_want_547 : decode cX6_want 547 = .ok (.invokestatic 166, 3) := dk_184 0 166 (dk_at dksX6_want_23 9 rfl rfl)
theorem dX6_want_550 : decode cX6_want 550 = .ok (.ifCond .eq 23, 3) := dk_153 0 23 (dk_at dksX6_want_23 12 rfl rfl)
theorem dX6_want_553 : decode cX6_want 553 = .ok (.aload_n 0, 1) := dk_42 (dk_at dksX6_want_23 15 rfl rfl)
theorem dX6_want_554 : decode cX6_want 554 = .ok (.getfield 245, 3) := dk_180 0 245 (dk_at dksX6_want_23 16 rfl rfl)
theorem dX6_want_557 : decode cX6_want 557 = .ok (.bipush 8, 2) := dk_16 8 (dk_at dksX6_want_23 19 rfl rfl)
theorem dX6_want_559 : decode cX6_want 559 = .ok (.iload 9, 2) := dk_21 9 (dk_at dksX6_want_23 21 rfl rfl)
theorem dX6_want_561 : decode cX6_want 561 = .ok (.imul, 1) := dk_104 (dk_at dksX6_want_23 23 rfl rfl)
theorem dX6_want_562 : decode cX6_want 562 = .ok (.iadd, 1) := dk_96 (dk_at dksX6_want_24 0 rfl rfl)
theorem dX6_want_563 : decode cX6_want 563 = .ok (.bipush 8, 2) := dk_16 8 (dk_at dksX6_want_24 1 rfl rfl)
theorem dX6_want_565 : decode cX6_want 565 = .ok (.aload_n 0, 1) := dk_42 (dk_at dksX6_want_24 3 rfl rfl)
theorem dX6_want_566 : decode cX6_want 566 = .ok (.getfield 261, 3) := dk_180 1 5 (dk_at dksX6_want_24 4 rfl rfl)
theorem dX6_want_569 : decode cX6_want 569 = .ok (.imul, 1) := dk_104 (dk_at dksX6_want_24 7 rfl rfl)
theorem dX6_want_570 : decode cX6_want 570 = .ok (.if_icmp .le 8, 3) := dk_164 0 8 (dk_at dksX6_want_24 8 rfl rfl)
theorem dX6_want_573 : decode cX6_want 573 = .ok (.aload_n 0, 1) := dk_42 (dk_at dksX6_want_24 11 rfl rfl)
theorem dX6_want_574 : decode cX6_want 574 = .ok (.iconst 0, 1) := dk_3 (dk_at dksX6_want_24 12 rfl rfl)
theorem dX6_want_575 : decode cX6_want 575 = .ok (.putfield 236, 3) := dk_181 0 236 (dk_at dksX6_want_24 13 rfl rfl)
theorem dX6_want_578 : decode cX6_want 578 = .ok (.aload_n 0, 1) := dk_42 (dk_at dksX6_want_24 16 rfl rfl)
theorem dX6_want_579 : decode cX6_want 579 = .ok (.getfield 75, 3) := dk_180 0 75 (dk_at dksX6_want_24 17 rfl rfl)
theorem dX6_want_582 : decode cX6_want 582 = .ok (.iload 7, 2) := dk_21 7 (dk_at dksX6_want_24 20 rfl rfl)
theorem dX6_want_584 : decode cX6_want 584 = .ok (.aload_n 0, 1) := dk_42 (dk_at dksX6_want_24 22 rfl rfl)
theorem dX6_want_585 : decode cX6_want 585 = .ok (.getfield 236, 3) := dk_180 0 236 (dk_at dksX6_want_25 0 rfl rfl)
theorem dX6_want_588 : decode cX6_want 588 = .ok (.ifCond .eq 33, 3) := dk_153 0 33 (dk_at dksX6_want_25 3 rfl rfl)
theorem dX6_want_591 : decode cX6_want 591 = .ok (.aload_n 0, 1) := dk_42 (dk_at dksX6_want_25 6 rfl rfl)
theorem dX6_want_592 : decode cX6_want 592 = .ok (.bipush 8, 2) := dk_16 8 (dk_at dksX6_want_25 7 rfl rfl)
theorem dX6_want_594 : decode cX6_want 594 = .ok (.iload 9, 2) := dk_21 9 (dk_at dksX6_want_25 9 rfl rfl)
theorem dX6_want_596 : decode cX6_want 596 = .ok (.imul, 1) := dk_104 (dk_at dksX6_want_25 11 rfl rfl)
theorem dX6_want_597 : decode cX6_want 597 = .ok (.invokevirtual 326, 3) := dk_182 1 70 (dk_at dksX6_want_25 12 rfl rfl)
theorem dX6_want_600 : decode cX6_want 600 = .ok (.bipush 32, 2) := dk_16 32 (dk_at dksX6_want_25 15 rfl rfl)
theorem dX6_want_602 : decode cX6_want 602 = .ok (.bipush 8, 2) := dk_16 8 (dk_at dksX6_want_25 17 rfl rfl)
theorem dX6_want_604 : decode cX6_want 604 = .ok (.iload 9, 2) := dk_21 9 (dk_at dksX6_want_25 19 rfl rfl)
theorem dX6_want_606 : decode cX6_want 606 = .ok (.imul, 1) := dk_104 (dk_at dksX6_want_25 21 rfl rfl)
theorem dX6_want_607 : decode cX6_want 607 = .ok (.isub, 1) := dk_100 (dk_at dksX6_want_25 22 rfl rfl)
theorem dX6_want_608 : decode cX6_want 608 = .ok (.ishl, 1) := dk_120 (dk_at dksX6_want_25 23 rfl rfl)
theorem dX6_want_609 : decode cX6_want 609 = .ok (.bipush 32, 2) := dk_16 32 (dk_at dksX6_want_26 0 rfl rfl)
theorem dX6_want_611 : decode cX6_want 611 = .ok (.bipush 8, 2) := dk_16 8 (dk_at dksX6_want_26 2 rfl rfl)
theorem dX6_want_613 : decode cX6_want 613 = .ok (.iload 9, 2) := dk_21 9 (dk_at dksX6_want_26 4 rfl rfl)
theorem dX6_want_615 : decode cX6_want 615 = .ok (.imul, 1) := dk_104 (dk_at dksX6_want_26 6 rfl rfl)
theorem dX6_want_616 : decode cX6_want 616 = .ok (.isub, 1) := dk_100 (dk_at dksX6_want_26 7 rfl rfl)
theorem dX6_want_617 : decode cX6_want 617 = .ok (.ishr, 1) := dk_122 (dk_at dksX6_want_26 8 rfl rfl)
theorem dX6_want_618 : decode cX6_want 618 = .ok (.goto 4, 3) := dk_167 0 4 (dk_at dksX6_want_26 9 rfl rfl)
theorem dX6_want_621 : decode cX6_want 621 = .ok (.iconst 0, 1) := dk_3 (dk_at dksX6_want_26 12 rfl rfl)
theorem dX6_want_622 : decode cX6_want 622 = .ok (.iastore, 1) := dk_79 (dk_at dksX6_want_26 13 rfl rfl)
theorem dX6_want_623 : decode cX6_want 623 = .ok (.return_, 1) := dk_177 (dk_at dksX6_want_26 14 rfl rfl)
abbrev cX6_ranging : ByteArray := prog_18_method_47_code
def yX6_ranging : MethodName := ⟨RX6, "ranging", "(II)I"⟩
def dkwX6_ranging_2 : List UInt8 := [54, 4, 21, 4, 29, 164, 0, 8, 42, 3, 181, 0, 236, 27, 21, 4, 96, 172]
abbrev dktX6_ranging_2 : List UInt8 := dkwX6_ranging_2 ++ []
def dkwX6_ranging_1 : List UInt8 := [184, 1, 67, 167, 0, 17, 29, 17, 0, 255, 160, 0, 8, 16, 8, 167, 0, 5, 16, 16, 182, 1, 70]
abbrev dktX6_ranging_1 : List UInt8 := dkwX6_ranging_1 ++ dktX6_ranging_2
def dkwX6_ranging_0 : List UInt8 := [28, 27, 100, 62, 29, 17, 0, 254, 164, 0, 7, 42, 182, 1, 64, 42, 29, 17, 0, 255, 162, 0, 10, 29]
abbrev dktX6_ranging_0 : List UInt8 := dkwX6_ranging_0 ++ dktX6_ranging_1
theorem dksX6_ranging_0 : cX6_ranging.data.toList.drop 0 = dktX6_ranging_0 := by decide +kernel
theorem dksX6_ranging_1 : cX6_ranging.data.toList.drop 24 = dktX6_ranging_1 := dk_seg dksX6_ranging_0 24 rfl rfl
theorem dksX6_ranging_2 : cX6_ranging.data.toList.drop 47 = dktX6_ranging_2 := dk_seg dksX6_ranging_1 23 rfl rfl
theorem dX6_ranging_0 : decode cX6_ranging 0 = .ok (.iload_n 2, 1) := dk_28 (dk_at dksX6_ranging_0 0 rfl rfl)
theorem dX6_ranging_1 : decode cX6_ranging 1 = .ok (.iload_n 1, 1) := dk_27 (dk_at dksX6_ranging_0 1 rfl rfl)
theorem dX6_ranging_2 : decode cX6_ranging 2 = .ok (.isub, 1) := dk_100 (dk_at dksX6_ranging_0 2 rfl rfl)
theorem dX6_ranging_3 : decode cX6_ranging 3 = .ok (.istore_n 3, 1) := dk_62 (dk_at dksX6_ranging_0 3 rfl rfl)
theorem dX6_ranging_4 : decode cX6_ranging 4 = .ok (.iload_n 3, 1) := dk_29 (dk_at dksX6_ranging_0 4 rfl rfl)
theorem dX6_ranging_5 : decode cX6_ranging 5 = .ok (.sipush 254, 3) := dk_17 0 254 (dk_at dksX6_ranging_0 5 rfl rfl)
theorem dX6_ranging_8 : decode cX6_ranging 8 = .ok (.if_icmp .le 7, 3) := dk_164 0 7 (dk_at dksX6_ranging_0 8 rfl rfl)
theorem dX6_ranging_11 : decode cX6_ranging 11 = .ok (.aload_n 0, 1) := dk_42 (dk_at dksX6_ranging_0 11 rfl rfl)
theorem dX6_ranging_12 : decode cX6_ranging 12 = .ok (.invokevirtual 320, 3) := dk_182 1 64 (dk_at dksX6_ranging_0 12 rfl rfl)
theorem dX6_ranging_15 : decode cX6_ranging 15 = .ok (.aload_n 0, 1) := dk_42 (dk_at dksX6_ranging_0 15 rfl rfl)
theorem dX6_ranging_16 : decode cX6_ranging 16 = .ok (.iload_n 3, 1) := dk_29 (dk_at dksX6_ranging_0 16 rfl rfl)
theorem dX6_ranging_17 : decode cX6_ranging 17 = .ok (.sipush 255, 3) := dk_17 0 255 (dk_at dksX6_ranging_0 17 rfl rfl)
theorem dX6_ranging_20 : decode cX6_ranging 20 = .ok (.if_icmp .ge 10, 3) := dk_162 0 10 (dk_at dksX6_ranging_0 20 rfl rfl)
theorem dX6_ranging_23 : decode cX6_ranging 23 = .ok (.iload_n 3, 1) := dk_29 (dk_at dksX6_ranging_0 23 rfl rfl)
theorem dX6_ranging_24 : decode cX6_ranging 24 = .ok (.invokestatic 323, 3) := dk_184 1 67 (dk_at dksX6_ranging_1 0 rfl rfl)
theorem dX6_ranging_27 : decode cX6_ranging 27 = .ok (.goto 17, 3) := dk_167 0 17 (dk_at dksX6_ranging_1 3 rfl rfl)
theorem dX6_ranging_30 : decode cX6_ranging 30 = .ok (.iload_n 3, 1) := dk_29 (dk_at dksX6_ranging_1 6 rfl rfl)
theorem dX6_ranging_31 : decode cX6_ranging 31 = .ok (.sipush 255, 3) := dk_17 0 255 (dk_at dksX6_ranging_1 7 rfl rfl)
theorem dX6_ranging_34 : decode cX6_ranging 34 = .ok (.if_icmp .ne 8, 3) := dk_160 0 8 (dk_at dksX6_ranging_1 10 rfl rfl)
theorem dX6_ranging_37 : decode cX6_ranging 37 = .ok (.bipush 8, 2) := dk_16 8 (dk_at dksX6_ranging_1 13 rfl rfl)
theorem dX6_ranging_39 : decode cX6_ranging 39 = .ok (.goto 5, 3) := dk_167 0 5 (dk_at dksX6_ranging_1 15 rfl rfl)
theorem dX6_ranging_42 : decode cX6_ranging 42 = .ok (.bipush 16, 2) := dk_16 16 (dk_at dksX6_ranging_1 18 rfl rfl)
theorem dX6_ranging_44 : decode cX6_ranging 44 = .ok (.invokevirtual 326, 3) := dk_182 1 70 (dk_at dksX6_ranging_1 20 rfl rfl)
theorem dX6_ranging_47 : decode cX6_ranging 47 = .ok (.istore 4, 2) := dk_54 4 (dk_at dksX6_ranging_2 0 rfl rfl)
theorem dX6_ranging_49 : decode cX6_ranging 49 = .ok (.iload 4, 2) := dk_21 4 (dk_at dksX6_ranging_2 2 rfl rfl)
theorem dX6_ranging_51 : decode cX6_ranging 51 = .ok (.iload_n 3, 1) := dk_29 (dk_at dksX6_ranging_2 4 rfl rfl)
theorem dX6_ranging_52 : decode cX6_ranging 52 = .ok (.if_icmp .le 8, 3) := dk_164 0 8 (dk_at dksX6_ranging_2 5 rfl rfl)
theorem dX6_ranging_55 : decode cX6_ranging 55 = .ok (.aload_n 0, 1) := dk_42 (dk_at dksX6_ranging_2 8 rfl rfl)
theorem dX6_ranging_56 : decode cX6_ranging 56 = .ok (.iconst 0, 1) := dk_3 (dk_at dksX6_ranging_2 9 rfl rfl)
theorem dX6_ranging_57 : decode cX6_ranging 57 = .ok (.putfield 236, 3) := dk_181 0 236 (dk_at dksX6_ranging_2 10 rfl rfl)
theorem dX6_ranging_60 : decode cX6_ranging 60 = .ok (.iload_n 1, 1) := dk_27 (dk_at dksX6_ranging_2 13 rfl rfl)
theorem dX6_ranging_61 : decode cX6_ranging 61 = .ok (.iload 4, 2) := dk_21 4 (dk_at dksX6_ranging_2 14 rfl rfl)
theorem dX6_ranging_63 : decode cX6_ranging 63 = .ok (.iadd, 1) := dk_96 (dk_at dksX6_ranging_2 16 rfl rfl)
theorem dX6_ranging_64 : decode cX6_ranging 64 = .ok (.ireturn, 1) := dk_172 (dk_at dksX6_ranging_2 17 rfl rfl)
abbrev cX6_align : ByteArray := prog_18_method_45_code
def yX6_align : MethodName := ⟨RX6, "align", "()V"⟩
def dkwX6_align_0 : List UInt8 := [42, 42, 180, 0, 245, 16, 7, 96, 16, 8, 108, 16, 8, 104, 181, 0, 245, 177]
abbrev dktX6_align_0 : List UInt8 := dkwX6_align_0 ++ []
theorem dksX6_align_0 : cX6_align.data.toList.drop 0 = dktX6_align_0 := by decide +kernel
theorem dX6_align_0 : decode cX6_align 0 = .ok (.aload_n 0, 1) := dk_42 (dk_at dksX6_align_0 0 rfl rfl)
theorem dX6_align_1 : decode cX6_align 1 = .ok (.aload_n 0, 1) := dk_42 (dk_at dksX6_align_0 1 rfl rfl)
theorem dX6_align_2 : decode cX6_align 2 = .ok (.getfield 245, 3) := dk_180 0 245 (dk_at dksX6_align_0 2 rfl rfl)
theorem dX6_align_5 : decode cX6_align 5 = .ok (.bipush 7, 2) := dk_16 7 (dk_at dksX6_align_0 5 rfl rfl)
theorem dX6_align_7 : decode cX6_align 7 = .ok (.iadd, 1) := dk_96 (dk_at dksX6_align_0 7 rfl rfl)
theorem dX6_align_8 : decode cX6_align 8 = .ok (.bipush 8, 2) := dk_16 8 (dk_at dksX6_align_0 8 rfl rfl)
theorem dX6_align_10 : decode cX6_align 10 = .ok (.idiv, 1) := dk_108 (dk_at dksX6_align_0 10 rfl rfl)
theorem dX6_align_11 : decode cX6_align 11 = .ok (.bipush 8, 2) := dk_16 8 (dk_at dksX6_align_0 11 rfl rfl)
theorem dX6_align_13 : decode cX6_align 13 = .ok (.imul, 1) := dk_104 (dk_at dksX6_align_0 13 rfl rfl)
theorem dX6_align_14 : decode cX6_align 14 = .ok (.putfield 245, 3) := dk_181 0 245 (dk_at dksX6_align_0 14 rfl rfl)
theorem dX6_align_17 : decode cX6_align 17 = .ok (.return_, 1) := dk_177 (dk_at dksX6_align_0 17 rfl rfl)
abbrev cX6_width : ByteArray := prog_18_method_46_code
def yX6_width : MethodName := ⟨RX6, "width", "(I)I"⟩
def dkwX6_width_0 : List UInt8 := [3, 60, 26, 27, 122, 158, 0, 9, 132, 1, 1, 167, 255, 247, 27, 172]
abbrev dktX6_width_0 : List UInt8 := dkwX6_width_0 ++ []
theorem dksX6_width_0 : cX6_width.data.toList.drop 0 = dktX6_width_0 := by decide +kernel
theorem dX6_width_0 : decode cX6_width 0 = .ok (.iconst 0, 1) := dk_3 (dk_at dksX6_width_0 0 rfl rfl)
theorem dX6_width_1 : decode cX6_width 1 = .ok (.istore_n 1, 1) := dk_60 (dk_at dksX6_width_0 1 rfl rfl)
theorem dX6_width_2 : decode cX6_width 2 = .ok (.iload_n 0, 1) := dk_26 (dk_at dksX6_width_0 2 rfl rfl)
theorem dX6_width_3 : decode cX6_width 3 = .ok (.iload_n 1, 1) := dk_27 (dk_at dksX6_width_0 3 rfl rfl)
theorem dX6_width_4 : decode cX6_width 4 = .ok (.ishr, 1) := dk_122 (dk_at dksX6_width_0 4 rfl rfl)
theorem dX6_width_5 : decode cX6_width 5 = .ok (.ifCond .le 9, 3) := dk_158 0 9 (dk_at dksX6_width_0 5 rfl rfl)
theorem dX6_width_8 : decode cX6_width 8 = .ok (.iinc 1 1, 3) := dk_132 1 1 (dk_at dksX6_width_0 8 rfl rfl)
theorem dX6_width_11 : decode cX6_width 11 = .ok (.goto (-9), 3) := dk_167 255 247 (dk_at dksX6_width_0 11 rfl rfl)
theorem dX6_width_14 : decode cX6_width 14 = .ok (.iload_n 1, 1) := dk_27 (dk_at dksX6_width_0 14 rfl rfl)
theorem dX6_width_15 : decode cX6_width 15 = .ok (.ireturn, 1) := dk_172 (dk_at dksX6_width_0 15 rfl rfl)
abbrev cX6_some : ByteArray := prog_18_method_44_code
def yX6_some : MethodName := ⟨RX6, "some", "(I)I"⟩
def dkwX6_some_1 : List UInt8 := [61, 132, 3, 1, 167, 255, 232, 28, 172]
abbrev dktX6_some_1 : List UInt8 := dkwX6_some_1 ++ []
def dkwX6_some_0 : List UInt8 := [3, 61, 3, 62, 29, 27, 162, 0, 25, 42, 180, 0, 236, 153, 0, 18, 5, 28, 104, 42, 182, 1, 61, 96]
abbrev dktX6_some_0 : List UInt8 := dkwX6_some_0 ++ dktX6_some_1
theorem dksX6_some_0 : cX6_some.data.toList.drop 0 = dktX6_some_0 := by decide +kernel
theorem dksX6_some_1 : cX6_some.data.toList.drop 24 = dktX6_some_1 := dk_seg dksX6_some_0 24 rfl rfl
theorem dX6_some_0 : decode cX6_some 0 = .ok (.iconst 0, 1) := dk_3 (dk_at dksX6_some_0 0 rfl rfl)
theorem dX6_some_1 : decode cX6_some 1 = .ok (.istore_n 2, 1) := dk_61 (dk_at dksX6_some_0 1 rfl rfl)
theorem dX6_some_2 : decode cX6_some 2 = .ok (.iconst 0, 1) := dk_3 (dk_at dksX6_some_0 2 rfl rfl)
theorem dX6_some_3 : decode cX6_some 3 = .ok (.istore_n 3, 1) := dk_62 (dk_at dksX6_some_0 3 rfl rfl)
theorem dX6_some_4 : decode cX6_some 4 = .ok (.iload_n 3, 1) := dk_29 (dk_at dksX6_some_0 4 rfl rfl)
theorem dX6_some_5 : decode cX6_some 5 = .ok (.iload_n 1, 1) := dk_27 (dk_at dksX6_some_0 5 rfl rfl)
theorem dX6_some_6 : decode cX6_some 6 = .ok (.if_icmp .ge 25, 3) := dk_162 0 25 (dk_at dksX6_some_0 6 rfl rfl)
theorem dX6_some_9 : decode cX6_some 9 = .ok (.aload_n 0, 1) := dk_42 (dk_at dksX6_some_0 9 rfl rfl)
theorem dX6_some_10 : decode cX6_some 10 = .ok (.getfield 236, 3) := dk_180 0 236 (dk_at dksX6_some_0 10 rfl rfl)
theorem dX6_some_13 : decode cX6_some 13 = .ok (.ifCond .eq 18, 3) := dk_153 0 18 (dk_at dksX6_some_0 13 rfl rfl)
theorem dX6_some_16 : decode cX6_some 16 = .ok (.iconst 2, 1) := dk_5 (dk_at dksX6_some_0 16 rfl rfl)
theorem dX6_some_17 : decode cX6_some 17 = .ok (.iload_n 2, 1) := dk_28 (dk_at dksX6_some_0 17 rfl rfl)
theorem dX6_some_18 : decode cX6_some 18 = .ok (.imul, 1) := dk_104 (dk_at dksX6_some_0 18 rfl rfl)
theorem dX6_some_19 : decode cX6_some 19 = .ok (.aload_n 0, 1) := dk_42 (dk_at dksX6_some_0 19 rfl rfl)
theorem dX6_some_20 : decode cX6_some 20 = .ok (.invokevirtual 317, 3) := dk_182 1 61 (dk_at dksX6_some_0 20 rfl rfl)
theorem dX6_some_23 : decode cX6_some 23 = .ok (.iadd, 1) := dk_96 (dk_at dksX6_some_0 23 rfl rfl)
theorem dX6_some_24 : decode cX6_some 24 = .ok (.istore_n 2, 1) := dk_61 (dk_at dksX6_some_1 0 rfl rfl)
theorem dX6_some_25 : decode cX6_some 25 = .ok (.iinc 3 1, 3) := dk_132 3 1 (dk_at dksX6_some_1 1 rfl rfl)
theorem dX6_some_28 : decode cX6_some 28 = .ok (.goto (-24), 3) := dk_167 255 232 (dk_at dksX6_some_1 4 rfl rfl)
theorem dX6_some_31 : decode cX6_some 31 = .ok (.iload_n 2, 1) := dk_28 (dk_at dksX6_some_1 7 rfl rfl)
theorem dX6_some_32 : decode cX6_some 32 = .ok (.ireturn, 1) := dk_172 (dk_at dksX6_some_1 8 rfl rfl)
abbrev cX6_bit : ByteArray := prog_18_method_43_code
def yX6_bit : MethodName := ⟨RX6, "bit", "()I"⟩
def dkwX6_bit_2 : List UInt8 := [108, 46, 16, 7, 42, 180, 0, 245, 4, 100, 16, 8, 112, 100, 122, 4, 126, 167, 0, 4, 3, 172]
abbrev dktX6_bit_2 : List UInt8 := dkwX6_bit_2 ++ []
def dkwX6_bit_1 : List UInt8 := [4, 96, 181, 0, 245, 42, 180, 0, 236, 153, 0, 35, 42, 180, 0, 66, 42, 180, 0, 245, 4, 100, 16, 8]
abbrev dktX6_bit_1 : List UInt8 := dkwX6_bit_1 ++ dktX6_bit_2
def dkwX6_bit_0 : List UInt8 := [42, 180, 0, 245, 16, 8, 42, 180, 1, 5, 104, 161, 0, 8, 42, 3, 181, 0, 236, 42, 89, 180, 0, 245]
abbrev dktX6_bit_0 : List UInt8 := dkwX6_bit_0 ++ dktX6_bit_1
theorem dksX6_bit_0 : cX6_bit.data.toList.drop 0 = dktX6_bit_0 := by decide +kernel
theorem dksX6_bit_1 : cX6_bit.data.toList.drop 24 = dktX6_bit_1 := dk_seg dksX6_bit_0 24 rfl rfl
theorem dksX6_bit_2 : cX6_bit.data.toList.drop 48 = dktX6_bit_2 := dk_seg dksX6_bit_1 24 rfl rfl
theorem dX6_bit_0 : decode cX6_bit 0 = .ok (.aload_n 0, 1) := dk_42 (dk_at dksX6_bit_0 0 rfl rfl)
theorem dX6_bit_1 : decode cX6_bit 1 = .ok (.getfield 245, 3) := dk_180 0 245 (dk_at dksX6_bit_0 1 rfl rfl)
theorem dX6_bit_4 : decode cX6_bit 4 = .ok (.bipush 8, 2) := dk_16 8 (dk_at dksX6_bit_0 4 rfl rfl)
theorem dX6_bit_6 : decode cX6_bit 6 = .ok (.aload_n 0, 1) := dk_42 (dk_at dksX6_bit_0 6 rfl rfl)
theorem dX6_bit_7 : decode cX6_bit 7 = .ok (.getfield 261, 3) := dk_180 1 5 (dk_at dksX6_bit_0 7 rfl rfl)
theorem dX6_bit_10 : decode cX6_bit 10 = .ok (.imul, 1) := dk_104 (dk_at dksX6_bit_0 10 rfl rfl)
theorem dX6_bit_11 : decode cX6_bit 11 = .ok (.if_icmp .lt 8, 3) := dk_161 0 8 (dk_at dksX6_bit_0 11 rfl rfl)
theorem dX6_bit_14 : decode cX6_bit 14 = .ok (.aload_n 0, 1) := dk_42 (dk_at dksX6_bit_0 14 rfl rfl)
theorem dX6_bit_15 : decode cX6_bit 15 = .ok (.iconst 0, 1) := dk_3 (dk_at dksX6_bit_0 15 rfl rfl)
theorem dX6_bit_16 : decode cX6_bit 16 = .ok (.putfield 236, 3) := dk_181 0 236 (dk_at dksX6_bit_0 16 rfl rfl)
theorem dX6_bit_19 : decode cX6_bit 19 = .ok (.aload_n 0, 1) := dk_42 (dk_at dksX6_bit_0 19 rfl rfl)
theorem dX6_bit_20 : decode cX6_bit 20 = .ok (.dup, 1) := dk_89 (dk_at dksX6_bit_0 20 rfl rfl)
theorem dX6_bit_21 : decode cX6_bit 21 = .ok (.getfield 245, 3) := dk_180 0 245 (dk_at dksX6_bit_0 21 rfl rfl)
theorem dX6_bit_24 : decode cX6_bit 24 = .ok (.iconst 1, 1) := dk_4 (dk_at dksX6_bit_1 0 rfl rfl)
theorem dX6_bit_25 : decode cX6_bit 25 = .ok (.iadd, 1) := dk_96 (dk_at dksX6_bit_1 1 rfl rfl)
theorem dX6_bit_26 : decode cX6_bit 26 = .ok (.putfield 245, 3) := dk_181 0 245 (dk_at dksX6_bit_1 2 rfl rfl)
theorem dX6_bit_29 : decode cX6_bit 29 = .ok (.aload_n 0, 1) := dk_42 (dk_at dksX6_bit_1 5 rfl rfl)
theorem dX6_bit_30 : decode cX6_bit 30 = .ok (.getfield 236, 3) := dk_180 0 236 (dk_at dksX6_bit_1 6 rfl rfl)
theorem dX6_bit_33 : decode cX6_bit 33 = .ok (.ifCond .eq 35, 3) := dk_153 0 35 (dk_at dksX6_bit_1 9 rfl rfl)
theorem dX6_bit_36 : decode cX6_bit 36 = .ok (.aload_n 0, 1) := dk_42 (dk_at dksX6_bit_1 12 rfl rfl)
theorem dX6_bit_37 : decode cX6_bit 37 = .ok (.getfield 66, 3) := dk_180 0 66 (dk_at dksX6_bit_1 13 rfl rfl)
theorem dX6_bit_40 : decode cX6_bit 40 = .ok (.aload_n 0, 1) := dk_42 (dk_at dksX6_bit_1 16 rfl rfl)
theorem dX6_bit_41 : decode cX6_bit 41 = .ok (.getfield 245, 3) := dk_180 0 245 (dk_at dksX6_bit_1 17 rfl rfl)
theorem dX6_bit_44 : decode cX6_bit 44 = .ok (.iconst 1, 1) := dk_4 (dk_at dksX6_bit_1 20 rfl rfl)
theorem dX6_bit_45 : decode cX6_bit 45 = .ok (.isub, 1) := dk_100 (dk_at dksX6_bit_1 21 rfl rfl)
theorem dX6_bit_46 : decode cX6_bit 46 = .ok (.bipush 8, 2) := dk_16 8 (dk_at dksX6_bit_1 22 rfl rfl)
theorem dX6_bit_48 : decode cX6_bit 48 = .ok (.idiv, 1) := dk_108 (dk_at dksX6_bit_2 0 rfl rfl)
theorem dX6_bit_49 : decode cX6_bit 49 = .ok (.iaload, 1) := dk_46 (dk_at dksX6_bit_2 1 rfl rfl)
theorem dX6_bit_50 : decode cX6_bit 50 = .ok (.bipush 7, 2) := dk_16 7 (dk_at dksX6_bit_2 2 rfl rfl)
theorem dX6_bit_52 : decode cX6_bit 52 = .ok (.aload_n 0, 1) := dk_42 (dk_at dksX6_bit_2 4 rfl rfl)
theorem dX6_bit_53 : decode cX6_bit 53 = .ok (.getfield 245, 3) := dk_180 0 245 (dk_at dksX6_bit_2 5 rfl rfl)
theorem dX6_bit_56 : decode cX6_bit 56 = .ok (.iconst 1, 1) := dk_4 (dk_at dksX6_bit_2 8 rfl rfl)
theorem dX6_bit_57 : decode cX6_bit 57 = .ok (.isub, 1) := dk_100 (dk_at dksX6_bit_2 9 rfl rfl)
theorem dX6_bit_58 : decode cX6_bit 58 = .ok (.bipush 8, 2) := dk_16 8 (dk_at dksX6_bit_2 10 rfl rfl)
theorem dX6_bit_60 : decode cX6_bit 60 = .ok (.irem, 1) := dk_112 (dk_at dksX6_bit_2 12 rfl rfl)
theorem dX6_bit_61 : decode cX6_bit 61 = .ok (.isub, 1) := dk_100 (dk_at dksX6_bit_2 13 rfl rfl)
theorem dX6_bit_62 : decode cX6_bit 62 = .ok (.ishr, 1) := dk_122 (dk_at dksX6_bit_2 14 rfl rfl)
theorem dX6_bit_63 : decode cX6_bit 63 = .ok (.iconst 1, 1) := dk_4 (dk_at dksX6_bit_2 15 rfl rfl)
theorem dX6_bit_64 : decode cX6_bit 64 = .ok (.iand, 1) := dk_126 (dk_at dksX6_bit_2 16 rfl rfl)
theorem dX6_bit_65 : decode cX6_bit 65 = .ok (.goto 4, 3) := dk_167 0 4 (dk_at dksX6_bit_2 17 rfl rfl)
theorem dX6_bit_68 : decode cX6_bit 68 = .ok (.iconst 0, 1) := dk_3 (dk_at dksX6_bit_2 20 rfl rfl)
theorem dX6_bit_69 : decode cX6_bit 69 = .ok (.ireturn, 1) := dk_172 (dk_at dksX6_bit_2 21 rfl rfl)
abbrev cX6_rank : ByteArray := prog_18_method_49_code
def yX6_rank : MethodName := ⟨RX6, "rank", "(II)I"⟩
def dkwX6_rank_3 : List UInt8 := [21, 4, 116, 126, 162, 0, 7, 4, 167, 0, 4, 3, 96, 62, 132, 5, 1, 167, 255, 194, 29, 172]
abbrev dktX6_rank_3 : List UInt8 := dkwX6_rank_3 ++ []
def dkwX6_rank_2 : List UInt8 := [180, 0, 48, 21, 5, 46, 46, 42, 180, 0, 35, 42, 180, 0, 48, 21, 5, 46, 46, 116, 126, 21, 4]
abbrev dktX6_rank_2 : List UInt8 := dkwX6_rank_2 ++ dktX6_rank_3
def dkwX6_rank_1 : List UInt8 := [54, 5, 21, 5, 16, 6, 27, 104, 42, 180, 0, 32, 27, 46, 96, 162, 0, 52, 29, 42, 180, 0, 35, 42]
abbrev dktX6_rank_1 : List UInt8 := dkwX6_rank_1 ++ dktX6_rank_2
def dkwX6_rank_0 : List UInt8 := [3, 62, 42, 180, 0, 35, 42, 180, 0, 48, 16, 6, 27, 104, 28, 96, 46, 46, 54, 4, 16, 6, 27, 104]
abbrev dktX6_rank_0 : List UInt8 := dkwX6_rank_0 ++ dktX6_rank_1
theorem dksX6_rank_0 : cX6_rank.data.toList.drop 0 = dktX6_rank_0 := by decide +kernel
theorem dksX6_rank_1 : cX6_rank.data.toList.drop 24 = dktX6_rank_1 := dk_seg dksX6_rank_0 24 rfl rfl
theorem dksX6_rank_2 : cX6_rank.data.toList.drop 48 = dktX6_rank_2 := dk_seg dksX6_rank_1 24 rfl rfl
theorem dksX6_rank_3 : cX6_rank.data.toList.drop 71 = dktX6_rank_3 := dk_seg dksX6_rank_2 23 rfl rfl
theorem dX6_rank_0 : decode cX6_rank 0 = .ok (.iconst 0, 1) := dk_3 (dk_at dksX6_rank_0 0 rfl rfl)
theorem dX6_rank_1 : decode cX6_rank 1 = .ok (.istore_n 3, 1) := dk_62 (dk_at dksX6_rank_0 1 rfl rfl)
theorem dX6_rank_2 : decode cX6_rank 2 = .ok (.aload_n 0, 1) := dk_42 (dk_at dksX6_rank_0 2 rfl rfl)
theorem dX6_rank_3 : decode cX6_rank 3 = .ok (.getfield 35, 3) := dk_180 0 35 (dk_at dksX6_rank_0 3 rfl rfl)
theorem dX6_rank_6 : decode cX6_rank 6 = .ok (.aload_n 0, 1) := dk_42 (dk_at dksX6_rank_0 6 rfl rfl)
theorem dX6_rank_7 : decode cX6_rank 7 = .ok (.getfield 48, 3) := dk_180 0 48 (dk_at dksX6_rank_0 7 rfl rfl)
theorem dX6_rank_10 : decode cX6_rank 10 = .ok (.bipush 6, 2) := dk_16 6 (dk_at dksX6_rank_0 10 rfl rfl)
theorem dX6_rank_12 : decode cX6_rank 12 = .ok (.iload_n 1, 1) := dk_27 (dk_at dksX6_rank_0 12 rfl rfl)
theorem dX6_rank_13 : decode cX6_rank 13 = .ok (.imul, 1) := dk_104 (dk_at dksX6_rank_0 13 rfl rfl)
theorem dX6_rank_14 : decode cX6_rank 14 = .ok (.iload_n 2, 1) := dk_28 (dk_at dksX6_rank_0 14 rfl rfl)
theorem dX6_rank_15 : decode cX6_rank 15 = .ok (.iadd, 1) := dk_96 (dk_at dksX6_rank_0 15 rfl rfl)
theorem dX6_rank_16 : decode cX6_rank 16 = .ok (.iaload, 1) := dk_46 (dk_at dksX6_rank_0 16 rfl rfl)
theorem dX6_rank_17 : decode cX6_rank 17 = .ok (.iaload, 1) := dk_46 (dk_at dksX6_rank_0 17 rfl rfl)
theorem dX6_rank_18 : decode cX6_rank 18 = .ok (.istore 4, 2) := dk_54 4 (dk_at dksX6_rank_0 18 rfl rfl)
theorem dX6_rank_20 : decode cX6_rank 20 = .ok (.bipush 6, 2) := dk_16 6 (dk_at dksX6_rank_0 20 rfl rfl)
theorem dX6_rank_22 : decode cX6_rank 22 = .ok (.iload_n 1, 1) := dk_27 (dk_at dksX6_rank_0 22 rfl rfl)
theorem dX6_rank_23 : decode cX6_rank 23 = .ok (.imul, 1) := dk_104 (dk_at dksX6_rank_0 23 rfl rfl)
theorem dX6_rank_24 : decode cX6_rank 24 = .ok (.istore 5, 2) := dk_54 5 (dk_at dksX6_rank_1 0 rfl rfl)
theorem dX6_rank_26 : decode cX6_rank 26 = .ok (.iload 5, 2) := dk_21 5 (dk_at dksX6_rank_1 2 rfl rfl)
theorem dX6_rank_28 : decode cX6_rank 28 = .ok (.bipush 6, 2) := dk_16 6 (dk_at dksX6_rank_1 4 rfl rfl)
theorem dX6_rank_30 : decode cX6_rank 30 = .ok (.iload_n 1, 1) := dk_27 (dk_at dksX6_rank_1 6 rfl rfl)
theorem dX6_rank_31 : decode cX6_rank 31 = .ok (.imul, 1) := dk_104 (dk_at dksX6_rank_1 7 rfl rfl)
theorem dX6_rank_32 : decode cX6_rank 32 = .ok (.aload_n 0, 1) := dk_42 (dk_at dksX6_rank_1 8 rfl rfl)
theorem dX6_rank_33 : decode cX6_rank 33 = .ok (.getfield 32, 3) := dk_180 0 32 (dk_at dksX6_rank_1 9 rfl rfl)
theorem dX6_rank_36 : decode cX6_rank 36 = .ok (.iload_n 1, 1) := dk_27 (dk_at dksX6_rank_1 12 rfl rfl)
theorem dX6_rank_37 : decode cX6_rank 37 = .ok (.iaload, 1) := dk_46 (dk_at dksX6_rank_1 13 rfl rfl)
theorem dX6_rank_38 : decode cX6_rank 38 = .ok (.iadd, 1) := dk_96 (dk_at dksX6_rank_1 14 rfl rfl)
theorem dX6_rank_39 : decode cX6_rank 39 = .ok (.if_icmp .ge 52, 3) := dk_162 0 52 (dk_at dksX6_rank_1 15 rfl rfl)
theorem dX6_rank_42 : decode cX6_rank 42 = .ok (.iload_n 3, 1) := dk_29 (dk_at dksX6_rank_1 18 rfl rfl)
theorem dX6_rank_43 : decode cX6_rank 43 = .ok (.aload_n 0, 1) := dk_42 (dk_at dksX6_rank_1 19 rfl rfl)
theorem dX6_rank_44 : decode cX6_rank 44 = .ok (.getfield 35, 3) := dk_180 0 35 (dk_at dksX6_rank_1 20 rfl rfl)
theorem dX6_rank_47 : decode cX6_rank 47 = .ok (.aload_n 0, 1) := dk_42 (dk_at dksX6_rank_1 23 rfl rfl)
theorem dX6_rank_48 : decode cX6_rank 48 = .ok (.getfield 48, 3) := dk_180 0 48 (dk_at dksX6_rank_2 0 rfl rfl)
theorem dX6_rank_51 : decode cX6_rank 51 = .ok (.iload 5, 2) := dk_21 5 (dk_at dksX6_rank_2 3 rfl rfl)
theorem dX6_rank_53 : decode cX6_rank 53 = .ok (.iaload, 1) := dk_46 (dk_at dksX6_rank_2 5 rfl rfl)
theorem dX6_rank_54 : decode cX6_rank 54 = .ok (.iaload, 1) := dk_46 (dk_at dksX6_rank_2 6 rfl rfl)
theorem dX6_rank_55 : decode cX6_rank 55 = .ok (.aload_n 0, 1) := dk_42 (dk_at dksX6_rank_2 7 rfl rfl)
theorem dX6_rank_56 : decode cX6_rank 56 = .ok (.getfield 35, 3) := dk_180 0 35 (dk_at dksX6_rank_2 8 rfl rfl)
theorem dX6_rank_59 : decode cX6_rank 59 = .ok (.aload_n 0, 1) := dk_42 (dk_at dksX6_rank_2 11 rfl rfl)
theorem dX6_rank_60 : decode cX6_rank 60 = .ok (.getfield 48, 3) := dk_180 0 48 (dk_at dksX6_rank_2 12 rfl rfl)
theorem dX6_rank_63 : decode cX6_rank 63 = .ok (.iload 5, 2) := dk_21 5 (dk_at dksX6_rank_2 15 rfl rfl)
theorem dX6_rank_65 : decode cX6_rank 65 = .ok (.iaload, 1) := dk_46 (dk_at dksX6_rank_2 17 rfl rfl)
theorem dX6_rank_66 : decode cX6_rank 66 = .ok (.iaload, 1) := dk_46 (dk_at dksX6_rank_2 18 rfl rfl)
theorem dX6_rank_67 : decode cX6_rank 67 = .ok (.ineg, 1) := dk_116 (dk_at dksX6_rank_2 19 rfl rfl)
theorem dX6_rank_68 : decode cX6_rank 68 = .ok (.iand, 1) := dk_126 (dk_at dksX6_rank_2 20 rfl rfl)
theorem dX6_rank_69 : decode cX6_rank 69 = .ok (.iload 4, 2) := dk_21 4 (dk_at dksX6_rank_2 21 rfl rfl)
theorem dX6_rank_71 : decode cX6_rank 71 = .ok (.iload 4, 2) := dk_21 4 (dk_at dksX6_rank_3 0 rfl rfl)
theorem dX6_rank_73 : decode cX6_rank 73 = .ok (.ineg, 1) := dk_116 (dk_at dksX6_rank_3 2 rfl rfl)
theorem dX6_rank_74 : decode cX6_rank 74 = .ok (.iand, 1) := dk_126 (dk_at dksX6_rank_3 3 rfl rfl)
theorem dX6_rank_75 : decode cX6_rank 75 = .ok (.if_icmp .ge 7, 3) := dk_162 0 7 (dk_at dksX6_rank_3 4 rfl rfl)
theorem dX6_rank_78 : decode cX6_rank 78 = .ok (.iconst 1, 1) := dk_4 (dk_at dksX6_rank_3 7 rfl rfl)
theorem dX6_rank_79 : decode cX6_rank 79 = .ok (.goto 4, 3) := dk_167 0 4 (dk_at dksX6_rank_3 8 rfl rfl)
theorem dX6_rank_82 : decode cX6_rank 82 = .ok (.iconst 0, 1) := dk_3 (dk_at dksX6_rank_3 11 rfl rfl)
theorem dX6_rank_83 : decode cX6_rank 83 = .ok (.iadd, 1) := dk_96 (dk_at dksX6_rank_3 12 rfl rfl)
theorem dX6_rank_84 : decode cX6_rank 84 = .ok (.istore_n 3, 1) := dk_62 (dk_at dksX6_rank_3 13 rfl rfl)
theorem dX6_rank_85 : decode cX6_rank 85 = .ok (.iinc 5 1, 3) := dk_132 5 1 (dk_at dksX6_rank_3 14 rfl rfl)
theorem dX6_rank_88 : decode cX6_rank 88 = .ok (.goto (-62), 3) := dk_167 255 194 (dk_at dksX6_rank_3 17 rfl rfl)
theorem dX6_rank_91 : decode cX6_rank 91 = .ok (.iload_n 3, 1) := dk_29 (dk_at dksX6_rank_3 20 rfl rfl)
theorem dX6_rank_92 : decode cX6_rank 92 = .ok (.ireturn, 1) := dk_172 (dk_at dksX6_rank_3 21 rfl rfl)
abbrev cX6_counted : ByteArray := prog_18_method_48_code
def yX6_counted : MethodName := ⟨RX6, "counted", "(I)I"⟩
def dkwX6_counted_2 : List UInt8 := [181, 0, 236, 28, 172]
abbrev dktX6_counted_2 : List UInt8 := dkwX6_counted_2 ++ []
def dkwX6_counted_1 : List UInt8 := [182, 1, 73, 172, 42, 182, 1, 64, 42, 16, 8, 182, 1, 70, 61, 28, 16, 127, 164, 0, 8, 42, 3]
abbrev dktX6_counted_1 : List UInt8 := dkwX6_counted_1 ++ dktX6_counted_2
def dkwX6_counted_0 : List UInt8 := [42, 180, 0, 41, 27, 51, 153, 0, 20, 42, 42, 180, 0, 23, 27, 46, 42, 180, 0, 26, 27, 46]
abbrev dktX6_counted_0 : List UInt8 := dkwX6_counted_0 ++ dktX6_counted_1
theorem dksX6_counted_0 : cX6_counted.data.toList.drop 0 = dktX6_counted_0 := by decide +kernel
theorem dksX6_counted_1 : cX6_counted.data.toList.drop 22 = dktX6_counted_1 := dk_seg dksX6_counted_0 22 rfl rfl
theorem dksX6_counted_2 : cX6_counted.data.toList.drop 45 = dktX6_counted_2 := dk_seg dksX6_counted_1 23 rfl rfl
theorem dX6_counted_0 : decode cX6_counted 0 = .ok (.aload_n 0, 1) := dk_42 (dk_at dksX6_counted_0 0 rfl rfl)
theorem dX6_counted_1 : decode cX6_counted 1 = .ok (.getfield 41, 3) := dk_180 0 41 (dk_at dksX6_counted_0 1 rfl rfl)
theorem dX6_counted_4 : decode cX6_counted 4 = .ok (.iload_n 1, 1) := dk_27 (dk_at dksX6_counted_0 4 rfl rfl)
theorem dX6_counted_5 : decode cX6_counted 5 = .ok (.baload, 1) := dk_51 (dk_at dksX6_counted_0 5 rfl rfl)
theorem dX6_counted_6 : decode cX6_counted 6 = .ok (.ifCond .eq 20, 3) := dk_153 0 20 (dk_at dksX6_counted_0 6 rfl rfl)
theorem dX6_counted_9 : decode cX6_counted 9 = .ok (.aload_n 0, 1) := dk_42 (dk_at dksX6_counted_0 9 rfl rfl)
theorem dX6_counted_10 : decode cX6_counted 10 = .ok (.aload_n 0, 1) := dk_42 (dk_at dksX6_counted_0 10 rfl rfl)
theorem dX6_counted_11 : decode cX6_counted 11 = .ok (.getfield 23, 3) := dk_180 0 23 (dk_at dksX6_counted_0 11 rfl rfl)
theorem dX6_counted_14 : decode cX6_counted 14 = .ok (.iload_n 1, 1) := dk_27 (dk_at dksX6_counted_0 14 rfl rfl)
theorem dX6_counted_15 : decode cX6_counted 15 = .ok (.iaload, 1) := dk_46 (dk_at dksX6_counted_0 15 rfl rfl)
theorem dX6_counted_16 : decode cX6_counted 16 = .ok (.aload_n 0, 1) := dk_42 (dk_at dksX6_counted_0 16 rfl rfl)
theorem dX6_counted_17 : decode cX6_counted 17 = .ok (.getfield 26, 3) := dk_180 0 26 (dk_at dksX6_counted_0 17 rfl rfl)
theorem dX6_counted_20 : decode cX6_counted 20 = .ok (.iload_n 1, 1) := dk_27 (dk_at dksX6_counted_0 20 rfl rfl)
theorem dX6_counted_21 : decode cX6_counted 21 = .ok (.iaload, 1) := dk_46 (dk_at dksX6_counted_0 21 rfl rfl)
theorem dX6_counted_22 : decode cX6_counted 22 = .ok (.invokevirtual 329, 3) := dk_182 1 73 (dk_at dksX6_counted_1 0 rfl rfl)
theorem dX6_counted_25 : decode cX6_counted 25 = .ok (.ireturn, 1) := dk_172 (dk_at dksX6_counted_1 3 rfl rfl)
theorem dX6_counted_26 : decode cX6_counted 26 = .ok (.aload_n 0, 1) := dk_42 (dk_at dksX6_counted_1 4 rfl rfl)
theorem dX6_counted_27 : decode cX6_counted 27 = .ok (.invokevirtual 320, 3) := dk_182 1 64 (dk_at dksX6_counted_1 5 rfl rfl)
theorem dX6_counted_30 : decode cX6_counted 30 = .ok (.aload_n 0, 1) := dk_42 (dk_at dksX6_counted_1 8 rfl rfl)
theorem dX6_counted_31 : decode cX6_counted 31 = .ok (.bipush 8, 2) := dk_16 8 (dk_at dksX6_counted_1 9 rfl rfl)
theorem dX6_counted_33 : decode cX6_counted 33 = .ok (.invokevirtual 326, 3) := dk_182 1 70 (dk_at dksX6_counted_1 11 rfl rfl)
theorem dX6_counted_36 : decode cX6_counted 36 = .ok (.istore_n 2, 1) := dk_61 (dk_at dksX6_counted_1 14 rfl rfl)
theorem dX6_counted_37 : decode cX6_counted 37 = .ok (.iload_n 2, 1) := dk_28 (dk_at dksX6_counted_1 15 rfl rfl)
theorem dX6_counted_38 : decode cX6_counted 38 = .ok (.bipush 127, 2) := dk_16 127 (dk_at dksX6_counted_1 16 rfl rfl)
theorem dX6_counted_40 : decode cX6_counted 40 = .ok (.if_icmp .le 8, 3) := dk_164 0 8 (dk_at dksX6_counted_1 18 rfl rfl)
theorem dX6_counted_43 : decode cX6_counted 43 = .ok (.aload_n 0, 1) := dk_42 (dk_at dksX6_counted_1 21 rfl rfl)
theorem dX6_counted_44 : decode cX6_counted 44 = .ok (.iconst 0, 1) := dk_3 (dk_at dksX6_counted_1 22 rfl rfl)
theorem dX6_counted_45 : decode cX6_counted 45 = .ok (.putfield 236, 3) := dk_181 0 236 (dk_at dksX6_counted_2 0 rfl rfl)
theorem dX6_counted_48 : decode cX6_counted 48 = .ok (.iload_n 2, 1) := dk_28 (dk_at dksX6_counted_2 3 rfl rfl)
theorem dX6_counted_49 : decode cX6_counted 49 = .ok (.ireturn, 1) := dk_172 (dk_at dksX6_counted_2 4 rfl rfl)
abbrev cX6_goOn : ByteArray := prog_18_method_41_code
def yX6_goOn : MethodName := ⟨RX6, "goOn", "()V"⟩
def dkwX6_goOn_14 : List UInt8 := [21, 6, 182, 0, 248, 177]
abbrev dktX6_goOn_14 : List UInt8 := dkwX6_goOn_14 ++ []
def dkwX6_goOn_13 : List UInt8 := [180, 0, 75, 28, 92, 46, 4, 96, 79, 42, 42, 180, 0, 48, 16, 6, 21, 4, 104, 21, 6, 96, 46, 28]
abbrev dktX6_goOn_13 : List UInt8 := dkwX6_goOn_13 ++ dktX6_goOn_14
def dkwX6_goOn_12 : List UInt8 := [180, 0, 32, 21, 4, 46, 160, 0, 10, 42, 182, 1, 55, 167, 0, 40, 42, 180, 0, 236, 153, 0, 33, 42]
abbrev dktX6_goOn_12 : List UInt8 := dkwX6_goOn_12 ++ dktX6_goOn_13
def dkwX6_goOn_11 : List UInt8 := [21, 6, 182, 1, 58, 132, 6, 1, 167, 255, 201, 42, 180, 0, 108, 27, 21, 6, 4, 96, 79, 21, 6, 42]
abbrev dktX6_goOn_11 : List UInt8 := dkwX6_goOn_11 ++ dktX6_goOn_12
def dkwX6_goOn_10 : List UInt8 := [180, 0, 48, 16, 6, 21, 4, 104, 21, 6, 96, 46, 46, 21, 5, 126, 154, 0, 18, 42, 28, 21, 4]
abbrev dktX6_goOn_10 : List UInt8 := dkwX6_goOn_10 ++ dktX6_goOn_11
def dkwX6_goOn_9 : List UInt8 := [180, 0, 236, 153, 0, 54, 21, 6, 42, 180, 0, 32, 21, 4, 46, 162, 0, 42, 42, 180, 0, 35, 42]
abbrev dktX6_goOn_9 : List UInt8 := dkwX6_goOn_9 ++ dktX6_goOn_10
def dkwX6_goOn_8 : List UInt8 := [180, 0, 245, 46, 184, 1, 34, 167, 0, 4, 3, 54, 5, 42, 180, 0, 108, 27, 46, 54, 6, 42]
abbrev dktX6_goOn_8 : List UInt8 := dkwX6_goOn_8 ++ dktX6_goOn_9
def dkwX6_goOn_7 : List UInt8 := [182, 0, 248, 177, 29, 154, 0, 29, 42, 180, 0, 245, 42, 182, 1, 17, 162, 0, 18, 42, 180, 0, 66, 42]
abbrev dktX6_goOn_7 : List UInt8 := dkwX6_goOn_7 ++ dktX6_goOn_8
def dkwX6_goOn_6 : List UInt8 := [4, 96, 79, 42, 42, 180, 0, 48, 16, 6, 21, 4, 104, 46, 28, 42, 180, 0, 75, 28, 46, 4, 100]
abbrev dktX6_goOn_6 : List UInt8 := dkwX6_goOn_6 ++ dktX6_goOn_7
def dkwX6_goOn_5 : List UInt8 := [42, 182, 1, 55, 177, 42, 180, 0, 20, 21, 4, 46, 16, 7, 160, 0, 37, 42, 180, 0, 75, 28, 92, 46]
abbrev dktX6_goOn_5 : List UInt8 := dkwX6_goOn_5 ++ dktX6_goOn_6
def dkwX6_goOn_4 : List UInt8 := [21, 4, 46, 42, 180, 0, 26, 21, 4, 46, 184, 0, 166, 153, 0, 7, 4, 167, 0, 4, 3, 181, 0, 236]
abbrev dktX6_goOn_4 : List UInt8 := dkwX6_goOn_4 ++ dktX6_goOn_5
def dkwX6_goOn_3 : List UInt8 := [155, 0, 39, 42, 180, 0, 41, 21, 4, 51, 153, 0, 29, 42, 180, 0, 75, 28, 46, 42, 180, 0, 23]
abbrev dktX6_goOn_3 : List UInt8 := dkwX6_goOn_3 ++ dktX6_goOn_4
def dkwX6_goOn_2 : List UInt8 := [28, 155, 0, 19, 42, 180, 0, 20, 21, 4, 46, 16, 7, 160, 0, 61, 29, 153, 0, 57, 42, 28]
abbrev dktX6_goOn_2 : List UInt8 := dkwX6_goOn_2 ++ dktX6_goOn_3
def dkwX6_goOn_1 : List UInt8 := [153, 0, 7, 4, 167, 0, 4, 3, 62, 28, 156, 0, 7, 2, 167, 0, 8, 42, 28, 182, 1, 52, 54, 4]
abbrev dktX6_goOn_1 : List UInt8 := dkwX6_goOn_1 ++ dktX6_goOn_2
def dkwX6_goOn_0 : List UInt8 := [42, 180, 0, 242, 4, 100, 60, 42, 180, 0, 102, 27, 46, 61, 28, 155, 0, 10, 42, 182, 1, 49]
abbrev dktX6_goOn_0 : List UInt8 := dkwX6_goOn_0 ++ dktX6_goOn_1
theorem dksX6_goOn_0 : cX6_goOn.data.toList.drop 0 = dktX6_goOn_0 := by decide +kernel
theorem dksX6_goOn_1 : cX6_goOn.data.toList.drop 22 = dktX6_goOn_1 := dk_seg dksX6_goOn_0 22 rfl rfl
theorem dksX6_goOn_2 : cX6_goOn.data.toList.drop 46 = dktX6_goOn_2 := dk_seg dksX6_goOn_1 24 rfl rfl
theorem dksX6_goOn_3 : cX6_goOn.data.toList.drop 68 = dktX6_goOn_3 := dk_seg dksX6_goOn_2 22 rfl rfl
theorem dksX6_goOn_4 : cX6_goOn.data.toList.drop 91 = dktX6_goOn_4 := dk_seg dksX6_goOn_3 23 rfl rfl
theorem dksX6_goOn_5 : cX6_goOn.data.toList.drop 115 = dktX6_goOn_5 := dk_seg dksX6_goOn_4 24 rfl rfl
theorem dksX6_goOn_6 : cX6_goOn.data.toList.drop 139 = dktX6_goOn_6 := dk_seg dksX6_goOn_5 24 rfl rfl
theorem dksX6_goOn_7 : cX6_goOn.data.toList.drop 162 = dktX6_goOn_7 := dk_seg dksX6_goOn_6 23 rfl rfl
theorem dksX6_goOn_8 : cX6_goOn.data.toList.drop 186 = dktX6_goOn_8 := dk_seg dksX6_goOn_7 24 rfl rfl
theorem dksX6_goOn_9 : cX6_goOn.data.toList.drop 208 = dktX6_goOn_9 := dk_seg dksX6_goOn_8 22 rfl rfl
theorem dksX6_goOn_10 : cX6_goOn.data.toList.drop 231 = dktX6_goOn_10 := dk_seg dksX6_goOn_9 23 rfl rfl
theorem dksX6_goOn_11 : cX6_goOn.data.toList.drop 254 = dktX6_goOn_11 := dk_seg dksX6_goOn_10 23 rfl rfl
theorem dksX6_goOn_12 : cX6_goOn.data.toList.drop 278 = dktX6_goOn_12 := dk_seg dksX6_goOn_11 24 rfl rfl
theorem dksX6_goOn_13 : cX6_goOn.data.toList.drop 302 = dktX6_goOn_13 := dk_seg dksX6_goOn_12 24 rfl rfl
theorem dksX6_goOn_14 : cX6_goOn.data.toList.drop 326 = dktX6_goOn_14 := dk_seg dksX6_goOn_13 24 rfl rfl
theorem dX6_goOn_0 : decode cX6_goOn 0 = .ok (.aload_n 0, 1) := dk_42 (dk_at dksX6_goOn_0 0 rfl rfl)
theorem dX6_goOn_1 : decode cX6_goOn 1 = .ok (.getfield 242, 3) := dk_180 0 242 (dk_at dksX6_goOn_0 1 rfl rfl)
theorem dX6_goOn_4 : decode cX6_goOn 4 = .ok (.iconst 1, 1) := dk_4 (dk_at dksX6_goOn_0 4 rfl rfl)
theorem dX6_goOn_5 : decode cX6_goOn 5 = .ok (.isub, 1) := dk_100 (dk_at dksX6_goOn_0 5 rfl rfl)
theorem dX6_goOn_6 : decode cX6_goOn 6 = .ok (.istore_n 1, 1) := dk_60 (dk_at dksX6_goOn_0 6 rfl rfl)
theorem dX6_goOn_7 : decode cX6_goOn 7 = .ok (.aload_n 0, 1) := dk_42 (dk_at dksX6_goOn_0 7 rfl rfl)
theorem dX6_goOn_8 : decode cX6_goOn 8 = .ok (.getfield 102, 3) := dk_180 0 102 (dk_at dksX6_goOn_0 8 rfl rfl)
theorem dX6_goOn_11 : decode cX6_goOn 11 = .ok (.iload_n 1, 1) := dk_27 (dk_at dksX6_goOn_0 11 rfl rfl)
theorem dX6_goOn_12 : decode cX6_goOn 12 = .ok (.iaload, 1) := dk_46 (dk_at dksX6_goOn_0 12 rfl rfl)
theorem dX6_goOn_13 : decode cX6_goOn 13 = .ok (.istore_n 2, 1) := dk_61 (dk_at dksX6_goOn_0 13 rfl rfl)
theorem dX6_goOn_14 : decode cX6_goOn 14 = .ok (.iload_n 2, 1) := dk_28 (dk_at dksX6_goOn_0 14 rfl rfl)
theorem dX6_goOn_15 : decode cX6_goOn 15 = .ok (.ifCond .lt 10, 3) := dk_155 0 10 (dk_at dksX6_goOn_0 15 rfl rfl)
theorem dX6_goOn_18 : decode cX6_goOn 18 = .ok (.aload_n 0, 1) := dk_42 (dk_at dksX6_goOn_0 18 rfl rfl)
theorem dX6_goOn_19 : decode cX6_goOn 19 = .ok (.invokevirtual 305, 3) := dk_182 1 49 (dk_at dksX6_goOn_0 19 rfl rfl)
theorem dX6_goOn_22 : decode cX6_goOn 22 = .ok (.ifCond .eq 7, 3) := dk_153 0 7 (dk_at dksX6_goOn_1 0 rfl rfl)
theorem dX6_goOn_25 : decode cX6_goOn 25 = .ok (.iconst 1, 1) := dk_4 (dk_at dksX6_goOn_1 3 rfl rfl)
theorem dX6_goOn_26 : decode cX6_goOn 26 = .ok (.goto 4, 3) := dk_167 0 4 (dk_at dksX6_goOn_1 4 rfl rfl)
theorem dX6_goOn_29 : decode cX6_goOn 29 = .ok (.iconst 0, 1) := dk_3 (dk_at dksX6_goOn_1 7 rfl rfl)
theorem dX6_goOn_30 : decode cX6_goOn 30 = .ok (.istore_n 3, 1) := dk_62 (dk_at dksX6_goOn_1 8 rfl rfl)
theorem dX6_goOn_31 : decode cX6_goOn 31 = .ok (.iload_n 2, 1) := dk_28 (dk_at dksX6_goOn_1 9 rfl rfl)
theorem dX6_goOn_32 : decode cX6_goOn 32 = .ok (.ifCond .ge 7, 3) := dk_156 0 7 (dk_at dksX6_goOn_1 10 rfl rfl)
theorem dX6_goOn_35 : decode cX6_goOn 35 = .ok (.iconst (-1), 1) := dk_2 (dk_at dksX6_goOn_1 13 rfl rfl)
theorem dX6_goOn_36 : decode cX6_goOn 36 = .ok (.goto 8, 3) := dk_167 0 8 (dk_at dksX6_goOn_1 14 rfl rfl)
theorem dX6_goOn_39 : decode cX6_goOn 39 = .ok (.aload_n 0, 1) := dk_42 (dk_at dksX6_goOn_1 17 rfl rfl)
theorem dX6_goOn_40 : decode cX6_goOn 40 = .ok (.iload_n 2, 1) := dk_28 (dk_at dksX6_goOn_1 18 rfl rfl)
theorem dX6_goOn_41 : decode cX6_goOn 41 = .ok (.invokevirtual 308, 3) := dk_182 1 52 (dk_at dksX6_goOn_1 19 rfl rfl)
theorem dX6_goOn_44 : decode cX6_goOn 44 = .ok (.istore 4, 2) := dk_54 4 (dk_at dksX6_goOn_1 22 rfl rfl)
theorem dX6_goOn_46 : decode cX6_goOn 46 = .ok (.iload_n 2, 1) := dk_28 (dk_at dksX6_goOn_2 0 rfl rfl)
theorem dX6_goOn_47 : decode cX6_goOn 47 = .ok (.ifCond .lt 19, 3) := dk_155 0 19 (dk_at dksX6_goOn_2 1 rfl rfl)
theorem dX6_goOn_50 : decode cX6_goOn 50 = .ok (.aload_n 0, 1) := dk_42 (dk_at dksX6_goOn_2 4 rfl rfl)
theorem dX6_goOn_51 : decode cX6_goOn 51 = .ok (.getfield 20, 3) := dk_180 0 20 (dk_at dksX6_goOn_2 5 rfl rfl)
theorem dX6_goOn_54 : decode cX6_goOn 54 = .ok (.iload 4, 2) := dk_21 4 (dk_at dksX6_goOn_2 8 rfl rfl)
theorem dX6_goOn_56 : decode cX6_goOn 56 = .ok (.iaload, 1) := dk_46 (dk_at dksX6_goOn_2 10 rfl rfl)
theorem dX6_goOn_57 : decode cX6_goOn 57 = .ok (.bipush 7, 2) := dk_16 7 (dk_at dksX6_goOn_2 11 rfl rfl)
theorem dX6_goOn_59 : decode cX6_goOn 59 = .ok (.if_icmp .ne 61, 3) := dk_160 0 61 (dk_at dksX6_goOn_2 13 rfl rfl)
theorem dX6_goOn_62 : decode cX6_goOn 62 = .ok (.iload_n 3, 1) := dk_29 (dk_at dksX6_goOn_2 16 rfl rfl)
theorem dX6_goOn_63 : decode cX6_goOn 63 = .ok (.ifCond .eq 57, 3) := dk_153 0 57 (dk_at dksX6_goOn_2 17 rfl rfl)
theorem dX6_goOn_66 : decode cX6_goOn 66 = .ok (.aload_n 0, 1) := dk_42 (dk_at dksX6_goOn_2 20 rfl rfl)
theorem dX6_goOn_67 : decode cX6_goOn 67 = .ok (.iload_n 2, 1) := dk_28 (dk_at dksX6_goOn_2 21 rfl rfl)
theorem dX6_goOn_68 : decode cX6_goOn 68 = .ok (.ifCond .lt 39, 3) := dk_155 0 39 (dk_at dksX6_goOn_3 0 rfl rfl)
theorem dX6_goOn_71 : decode cX6_goOn 71 = .ok (.aload_n 0, 1) := dk_42 (dk_at dksX6_goOn_3 3 rfl rfl)
theorem dX6_goOn_72 : decode cX6_goOn 72 = .ok (.getfield 41, 3) := dk_180 0 41 (dk_at dksX6_goOn_3 4 rfl rfl)
theorem dX6_goOn_75 : decode cX6_goOn 75 = .ok (.iload 4, 2) := dk_21 4 (dk_at dksX6_goOn_3 7 rfl rfl)
theorem dX6_goOn_77 : decode cX6_goOn 77 = .ok (.baload, 1) := dk_51 (dk_at dksX6_goOn_3 9 rfl rfl)
theorem dX6_goOn_78 : decode cX6_goOn 78 = .ok (.ifCond .eq 29, 3) := dk_153 0 29 (dk_at dksX6_goOn_3 10 rfl rfl)
theorem dX6_goOn_81 : decode cX6_goOn 81 = .ok (.aload_n 0, 1) := dk_42 (dk_at dksX6_goOn_3 13 rfl rfl)
theorem dX6_goOn_82 : decode cX6_goOn 82 = .ok (.getfield 75, 3) := dk_180 0 75 (dk_at dksX6_goOn_3 14 rfl rfl)
theorem dX6_goOn_85 : decode cX6_goOn 85 = .ok (.iload_n 2, 1) := dk_28 (dk_at dksX6_goOn_3 17 rfl rfl)
theorem dX6_goOn_86 : decode cX6_goOn 86 = .ok (.iaload, 1) := dk_46 (dk_at dksX6_goOn_3 18 rfl rfl)
theorem dX6_goOn_87 : decode cX6_goOn 87 = .ok (.aload_n 0, 1) := dk_42 (dk_at dksX6_goOn_3 19 rfl rfl)
theorem dX6_goOn_88 : decode cX6_goOn 88 = .ok (.getfield 23, 3) := dk_180 0 23 (dk_at dksX6_goOn_3 20 rfl rfl)
theorem dX6_goOn_91 : decode cX6_goOn 91 = .ok (.iload 4, 2) := dk_21 4 (dk_at dksX6_goOn_4 0 rfl rfl)
theorem dX6_goOn_93 : decode cX6_goOn 93 = .ok (.iaload, 1) := dk_46 (dk_at dksX6_goOn_4 2 rfl rfl)
theorem dX6_goOn_94 : decode cX6_goOn 94 = .ok (.aload_n 0, 1) := dk_42 (dk_at dksX6_goOn_4 3 rfl rfl)
theorem dX6_goOn_95 : decode cX6_goOn 95 = .ok (.getfield 26, 3) := dk_180 0 26 (dk_at dksX6_goOn_4 4 rfl rfl)
theorem dX6_goOn_98 : decode cX6_goOn 98 = .ok (.iload 4, 2) := dk_21 4 (dk_at dksX6_goOn_4 7 rfl rfl)
theorem dX6_goOn_100 : decode cX6_goOn 100 = .ok (.iaload, 1) := dk_46 (dk_at dksX6_goOn_4 9 rfl rfl)
theorem dX6_goOn_101 : decode cX6_goOn 101 = .ok (.invokestatic 166, 3) := dk_184 0 166 (dk_at dksX6_goOn_4 10 rfl rfl)
theorem dX6_goOn_104 : decode cX6_goOn 104 = .ok (.ifCond .eq 7, 3) := dk_153 0 7 (dk_at dksX6_goOn_4 13 rfl rfl)
theorem dX6_goOn_107 : decode cX6_goOn 107 = .ok (.iconst 1, 1) := dk_4 (dk_at dksX6_goOn_4 16 rfl rfl)
theorem dX6_goOn_108 : decode cX6_goOn 108 = .ok (.goto 4, 3) := dk_167 0 4 (dk_at dksX6_goOn_4 17 rfl rfl)
theorem dX6_goOn_111 : decode cX6_goOn 111 = .ok (.iconst 0, 1) := dk_3 (dk_at dksX6_goOn_4 20 rfl rfl)
theorem dX6_goOn_112 : decode cX6_goOn 112 = .ok (.putfield 236, 3) := dk_181 0 236 (dk_at dksX6_goOn_4 21 rfl rfl)
theorem dX6_goOn_115 : decode cX6_goOn 115 = .ok (.aload_n 0, 1) := dk_42 (dk_at dksX6_goOn_5 0 rfl rfl)
theorem dX6_goOn_116 : decode cX6_goOn 116 = .ok (.invokevirtual 311, 3) := dk_182 1 55 (dk_at dksX6_goOn_5 1 rfl rfl)
theorem dX6_goOn_119 : decode cX6_goOn 119 = .ok (.return_, 1) := dk_177 (dk_at dksX6_goOn_5 4 rfl rfl)
theorem dX6_goOn_120 : decode cX6_goOn 120 = .ok (.aload_n 0, 1) := dk_42 (dk_at dksX6_goOn_5 5 rfl rfl)
theorem dX6_goOn_121 : decode cX6_goOn 121 = .ok (.getfield 20, 3) := dk_180 0 20 (dk_at dksX6_goOn_5 6 rfl rfl)
theorem dX6_goOn_124 : decode cX6_goOn 124 = .ok (.iload 4, 2) := dk_21 4 (dk_at dksX6_goOn_5 9 rfl rfl)
theorem dX6_goOn_126 : decode cX6_goOn 126 = .ok (.iaload, 1) := dk_46 (dk_at dksX6_goOn_5 11 rfl rfl)
theorem dX6_goOn_127 : decode cX6_goOn 127 = .ok (.bipush 7, 2) := dk_16 7 (dk_at dksX6_goOn_5 12 rfl rfl)
theorem dX6_goOn_129 : decode cX6_goOn 129 = .ok (.if_icmp .ne 37, 3) := dk_160 0 37 (dk_at dksX6_goOn_5 14 rfl rfl)
theorem dX6_goOn_132 : decode cX6_goOn 132 = .ok (.aload_n 0, 1) := dk_42 (dk_at dksX6_goOn_5 17 rfl rfl)
theorem dX6_goOn_133 : decode cX6_goOn 133 = .ok (.getfield 75, 3) := dk_180 0 75 (dk_at dksX6_goOn_5 18 rfl rfl)
theorem dX6_goOn_136 : decode cX6_goOn 136 = .ok (.iload_n 2, 1) := dk_28 (dk_at dksX6_goOn_5 21 rfl rfl)
theorem dX6_goOn_137 : decode cX6_goOn 137 = .ok (.dup2, 1) := dk_92 (dk_at dksX6_goOn_5 22 rfl rfl)
theorem dX6_goOn_138 : decode cX6_goOn 138 = .ok (.iaload, 1) := dk_46 (dk_at dksX6_goOn_5 23 rfl rfl)
theorem dX6_goOn_139 : decode cX6_goOn 139 = .ok (.iconst 1, 1) := dk_4 (dk_at dksX6_goOn_6 0 rfl rfl)
theorem dX6_goOn_140 : decode cX6_goOn 140 = .ok (.iadd, 1) := dk_96 (dk_at dksX6_goOn_6 1 rfl rfl)
theorem dX6_goOn_141 : decode cX6_goOn 141 = .ok (.iastore, 1) := dk_79 (dk_at dksX6_goOn_6 2 rfl rfl)
theorem dX6_goOn_142 : decode cX6_goOn 142 = .ok (.aload_n 0, 1) := dk_42 (dk_at dksX6_goOn_6 3 rfl rfl)
theorem dX6_goOn_143 : decode cX6_goOn 143 = .ok (.aload_n 0, 1) := dk_42 (dk_at dksX6_goOn_6 4 rfl rfl)
theorem dX6_goOn_144 : decode cX6_goOn 144 = .ok (.getfield 48, 3) := dk_180 0 48 (dk_at dksX6_goOn_6 5 rfl rfl)
theorem dX6_goOn_147 : decode cX6_goOn 147 = .ok (.bipush 6, 2) := dk_16 6 (dk_at dksX6_goOn_6 8 rfl rfl)
theorem dX6_goOn_149 : decode cX6_goOn 149 = .ok (.iload 4, 2) := dk_21 4 (dk_at dksX6_goOn_6 10 rfl rfl)
theorem dX6_goOn_151 : decode cX6_goOn 151 = .ok (.imul, 1) := dk_104 (dk_at dksX6_goOn_6 12 rfl rfl)
theorem dX6_goOn_152 : decode cX6_goOn 152 = .ok (.iaload, 1) := dk_46 (dk_at dksX6_goOn_6 13 rfl rfl)
theorem dX6_goOn_153 : decode cX6_goOn 153 = .ok (.iload_n 2, 1) := dk_28 (dk_at dksX6_goOn_6 14 rfl rfl)
theorem dX6_goOn_154 : decode cX6_goOn 154 = .ok (.aload_n 0, 1) := dk_42 (dk_at dksX6_goOn_6 15 rfl rfl)
theorem dX6_goOn_155 : decode cX6_goOn 155 = .ok (.getfield 75, 3) := dk_180 0 75 (dk_at dksX6_goOn_6 16 rfl rfl)
theorem dX6_goOn_158 : decode cX6_goOn 158 = .ok (.iload_n 2, 1) := dk_28 (dk_at dksX6_goOn_6 19 rfl rfl)
theorem dX6_goOn_159 : decode cX6_goOn 159 = .ok (.iaload, 1) := dk_46 (dk_at dksX6_goOn_6 20 rfl rfl)
theorem dX6_goOn_160 : decode cX6_goOn 160 = .ok (.iconst 1, 1) := dk_4 (dk_at dksX6_goOn_6 21 rfl rfl)
theorem dX6_goOn_161 : decode cX6_goOn 161 = .ok (.isub, 1) := dk_100 (dk_at dksX6_goOn_6 22 rfl rfl)
theorem dX6_goOn_162 : decode cX6_goOn 162 = .ok (.invokevirtual 248, 3) := dk_182 0 248 (dk_at dksX6_goOn_7 0 rfl rfl)
theorem dX6_goOn_165 : decode cX6_goOn 165 = .ok (.return_, 1) := dk_177 (dk_at dksX6_goOn_7 3 rfl rfl)
theorem dX6_goOn_166 : decode cX6_goOn 166 = .ok (.iload_n 3, 1) := dk_29 (dk_at dksX6_goOn_7 4 rfl rfl)
theorem dX6_goOn_167 : decode cX6_goOn 167 = .ok (.ifCond .ne 29, 3) := dk_154 0 29 (dk_at dksX6_goOn_7 5 rfl rfl)
theorem dX6_goOn_170 : decode cX6_goOn 170 = .ok (.aload_n 0, 1) := dk_42 (dk_at dksX6_goOn_7 8 rfl rfl)
theorem dX6_goOn_171 : decode cX6_goOn 171 = .ok (.getfield 245, 3) := dk_180 0 245 (dk_at dksX6_goOn_7 9 rfl rfl)
theorem dX6_goOn_174 : decode cX6_goOn 174 = .ok (.aload_n 0, 1) := dk_42 (dk_at dksX6_goOn_7 12 rfl rfl)
theorem dX6_goOn_175 : decode cX6_goOn 175 = .ok (.invokevirtual 273, 3) := dk_182 1 17 (dk_at dksX6_goOn_7 13 rfl rfl)
theorem dX6_goOn_178 : decode cX6_goOn 178 = .ok (.if_icmp .ge 18, 3) := dk_162 0 18 (dk_at dksX6_goOn_7 16 rfl rfl)
theorem dX6_goOn_181 : decode cX6_goOn 181 = .ok (.aload_n 0, 1) := dk_42 (dk_at dksX6_goOn_7 19 rfl rfl)
theorem dX6_goOn_182 : decode cX6_goOn 182 = .ok (.getfield 66, 3) := dk_180 0 66 (dk_at dksX6_goOn_7 20 rfl rfl)
theorem dX6_goOn_185 : decode cX6_goOn 185 = .ok (.aload_n 0, 1) := dk_42 (dk_at dksX6_goOn_7 23 rfl rfl)
theorem dX6_goOn_186 : decode cX6_goOn 186 = .ok (.getfield 245, 3) := dk_180 0 245 (dk_at dksX6_goOn_8 0 rfl rfl)
theorem dX6_goOn_189 : decode cX6_goOn 189 = .ok (.iaload, 1) := dk_46 (dk_at dksX6_goOn_8 3 rfl rfl)
theorem dX6_goOn_190 : decode cX6_goOn 190 = .ok (.invokestatic 290, 3) := dk_184 1 34 (dk_at dksX6_goOn_8 4 rfl rfl)
theorem dX6_goOn_193 : decode cX6_goOn 193 = .ok (.goto 4, 3) := dk_167 0 4 (dk_at dksX6_goOn_8 7 rfl rfl)
theorem dX6_goOn_196 : decode cX6_goOn 196 = .ok (.iconst 0, 1) := dk_3 (dk_at dksX6_goOn_8 10 rfl rfl)
theorem dX6_goOn_197 : decode cX6_goOn 197 = .ok (.istore 5, 2) := dk_54 5 (dk_at dksX6_goOn_8 11 rfl rfl)
theorem dX6_goOn_199 : decode cX6_goOn 199 = .ok (.aload_n 0, 1) := dk_42 (dk_at dksX6_goOn_8 13 rfl rfl)
theorem dX6_goOn_200 : decode cX6_goOn 200 = .ok (.getfield 108, 3) := dk_180 0 108 (dk_at dksX6_goOn_8 14 rfl rfl)
theorem dX6_goOn_203 : decode cX6_goOn 203 = .ok (.iload_n 1, 1) := dk_27 (dk_at dksX6_goOn_8 17 rfl rfl)
theorem dX6_goOn_204 : decode cX6_goOn 204 = .ok (.iaload, 1) := dk_46 (dk_at dksX6_goOn_8 18 rfl rfl)
theorem dX6_goOn_205 : decode cX6_goOn 205 = .ok (.istore 6, 2) := dk_54 6 (dk_at dksX6_goOn_8 19 rfl rfl)
theorem dX6_goOn_207 : decode cX6_goOn 207 = .ok (.aload_n 0, 1) := dk_42 (dk_at dksX6_goOn_8 21 rfl rfl)
theorem dX6_goOn_208 : decode cX6_goOn 208 = .ok (.getfield 236, 3) := dk_180 0 236 (dk_at dksX6_goOn_9 0 rfl rfl)
theorem dX6_goOn_211 : decode cX6_goOn 211 = .ok (.ifCond .eq 54, 3) := dk_153 0 54 (dk_at dksX6_goOn_9 3 rfl rfl)
theorem dX6_goOn_214 : decode cX6_goOn 214 = .ok (.iload 6, 2) := dk_21 6 (dk_at dksX6_goOn_9 6 rfl rfl)
theorem dX6_goOn_216 : decode cX6_goOn 216 = .ok (.aload_n 0, 1) := dk_42 (dk_at dksX6_goOn_9 8 rfl rfl)
theorem dX6_goOn_217 : decode cX6_goOn 217 = .ok (.getfield 32, 3) := dk_180 0 32 (dk_at dksX6_goOn_9 9 rfl rfl)
theorem dX6_goOn_220 : decode cX6_goOn 220 = .ok (.iload 4, 2) := dk_21 4 (dk_at dksX6_goOn_9 12 rfl rfl)
theorem dX6_goOn_222 : decode cX6_goOn 222 = .ok (.iaload, 1) := dk_46 (dk_at dksX6_goOn_9 14 rfl rfl)
theorem dX6_goOn_223 : decode cX6_goOn 223 = .ok (.if_icmp .ge 42, 3) := dk_162 0 42 (dk_at dksX6_goOn_9 15 rfl rfl)
theorem dX6_goOn_226 : decode cX6_goOn 226 = .ok (.aload_n 0, 1) := dk_42 (dk_at dksX6_goOn_9 18 rfl rfl)
theorem dX6_goOn_227 : decode cX6_goOn 227 = .ok (.getfield 35, 3) := dk_180 0 35 (dk_at dksX6_goOn_9 19 rfl rfl)
theorem dX6_goOn_230 : decode cX6_goOn 230 = .ok (.aload_n 0, 1) := dk_42 (dk_at dksX6_goOn_9 22 rfl rfl)
theorem dX6_goOn_231 : decode cX6_goOn 231 = .ok (.getfield 48, 3) := dk_180 0 48 (dk_at dksX6_goOn_10 0 rfl rfl)
theorem dX6_goOn_234 : decode cX6_goOn 234 = .ok (.bipush 6, 2) := dk_16 6 (dk_at dksX6_goOn_10 3 rfl rfl)
theorem dX6_goOn_236 : decode cX6_goOn 236 = .ok (.iload 4, 2) := dk_21 4 (dk_at dksX6_goOn_10 5 rfl rfl)
theorem dX6_goOn_238 : decode cX6_goOn 238 = .ok (.imul, 1) := dk_104 (dk_at dksX6_goOn_10 7 rfl rfl)
theorem dX6_goOn_239 : decode cX6_goOn 239 = .ok (.iload 6, 2) := dk_21 6 (dk_at dksX6_goOn_10 8 rfl rfl)
theorem dX6_goOn_241 : decode cX6_goOn 241 = .ok (.iadd, 1) := dk_96 (dk_at dksX6_goOn_10 10 rfl rfl)
theorem dX6_goOn_242 : decode cX6_goOn 242 = .ok (.iaload, 1) := dk_46 (dk_at dksX6_goOn_10 11 rfl rfl)
theorem dX6_goOn_243 : decode cX6_goOn 243 = .ok (.iaload, 1) := dk_46 (dk_at dksX6_goOn_10 12 rfl rfl)
theorem dX6_goOn_244 : decode cX6_goOn 244 = .ok (.iload 5, 2) := dk_21 5 (dk_at dksX6_goOn_10 13 rfl rfl)
theorem dX6_goOn_246 : decode cX6_goOn 246 = .ok (.iand, 1) := dk_126 (dk_at dksX6_goOn_10 15 rfl rfl)
theorem dX6_goOn_247 : decode cX6_goOn 247 = .ok (.ifCond .ne 18, 3) := dk_154 0 18 (dk_at dksX6_goOn_10 16 rfl rfl)
theorem dX6_goOn_250 : decode cX6_goOn 250 = .ok (.aload_n 0, 1) := dk_42 (dk_at dksX6_goOn_10 19 rfl rfl)
theorem dX6_goOn_251 : decode cX6_goOn 251 = .ok (.iload_n 2, 1) := dk_28 (dk_at dksX6_goOn_10 20 rfl rfl)
theorem dX6_goOn_252 : decode cX6_goOn 252 = .ok (.iload 4, 2) := dk_21 4 (dk_at dksX6_goOn_10 21 rfl rfl)
theorem dX6_goOn_254 : decode cX6_goOn 254 = .ok (.iload 6, 2) := dk_21 6 (dk_at dksX6_goOn_11 0 rfl rfl)
theorem dX6_goOn_256 : decode cX6_goOn 256 = .ok (.invokevirtual 314, 3) := dk_182 1 58 (dk_at dksX6_goOn_11 2 rfl rfl)
theorem dX6_goOn_259 : decode cX6_goOn 259 = .ok (.iinc 6 1, 3) := dk_132 6 1 (dk_at dksX6_goOn_11 5 rfl rfl)
theorem dX6_goOn_262 : decode cX6_goOn 262 = .ok (.goto (-55), 3) := dk_167 255 201 (dk_at dksX6_goOn_11 8 rfl rfl)
theorem dX6_goOn_265 : decode cX6_goOn 265 = .ok (.aload_n 0, 1) := dk_42 (dk_at dksX6_goOn_11 11 rfl rfl)
theorem dX6_goOn_266 : decode cX6_goOn 266 = .ok (.getfield 108, 3) := dk_180 0 108 (dk_at dksX6_goOn_11 12 rfl rfl)
theorem dX6_goOn_269 : decode cX6_goOn 269 = .ok (.iload_n 1, 1) := dk_27 (dk_at dksX6_goOn_11 15 rfl rfl)
theorem dX6_goOn_270 : decode cX6_goOn 270 = .ok (.iload 6, 2) := dk_21 6 (dk_at dksX6_goOn_11 16 rfl rfl)
theorem dX6_goOn_272 : decode cX6_goOn 272 = .ok (.iconst 1, 1) := dk_4 (dk_at dksX6_goOn_11 18 rfl rfl)
theorem dX6_goOn_273 : decode cX6_goOn 273 = .ok (.iadd, 1) := dk_96 (dk_at dksX6_goOn_11 19 rfl rfl)
theorem dX6_goOn_274 : decode cX6_goOn 274 = .ok (.iastore, 1) := dk_79 (dk_at dksX6_goOn_11 20 rfl rfl)
theorem dX6_goOn_275 : decode cX6_goOn 275 = .ok (.iload 6, 2) := dk_21 6 (dk_at dksX6_goOn_11 21 rfl rfl)
theorem dX6_goOn_277 : decode cX6_goOn 277 = .ok (.aload_n 0, 1) := dk_42 (dk_at dksX6_goOn_11 23 rfl rfl)
theorem dX6_goOn_278 : decode cX6_goOn 278 = .ok (.getfield 32, 3) := dk_180 0 32 (dk_at dksX6_goOn_12 0 rfl rfl)
theorem dX6_goOn_281 : decode cX6_goOn 281 = .ok (.iload 4, 2) := dk_21 4 (dk_at dksX6_goOn_12 3 rfl rfl)
theorem dX6_goOn_283 : decode cX6_goOn 283 = .ok (.iaload, 1) := dk_46 (dk_at dksX6_goOn_12 5 rfl rfl)
theorem dX6_goOn_284 : decode cX6_goOn 284 = .ok (.if_icmp .ne 10, 3) := dk_160 0 10 (dk_at dksX6_goOn_12 6 rfl rfl)
theorem dX6_goOn_287 : decode cX6_goOn 287 = .ok (.aload_n 0, 1) := dk_42 (dk_at dksX6_goOn_12 9 rfl rfl)
theorem dX6_goOn_288 : decode cX6_goOn 288 = .ok (.invokevirtual 311, 3) := dk_182 1 55 (dk_at dksX6_goOn_12 10 rfl rfl)
theorem dX6_goOn_291 : decode cX6_goOn 291 = .ok (.goto 40, 3) := dk_167 0 40 (dk_at dksX6_goOn_12 13 rfl rfl)
theorem dX6_goOn_294 : decode cX6_goOn 294 = .ok (.aload_n 0, 1) := dk_42 (dk_at dksX6_goOn_12 16 rfl rfl)
theorem dX6_goOn_295 : decode cX6_goOn 295 = .ok (.getfield 236, 3) := dk_180 0 236 (dk_at dksX6_goOn_12 17 rfl rfl)
theorem dX6_goOn_298 : decode cX6_goOn 298 = .ok (.ifCond .eq 33, 3) := dk_153 0 33 (dk_at dksX6_goOn_12 20 rfl rfl)
theorem dX6_goOn_301 : decode cX6_goOn 301 = .ok (.aload_n 0, 1) := dk_42 (dk_at dksX6_goOn_12 23 rfl rfl)
theorem dX6_goOn_302 : decode cX6_goOn 302 = .ok (.getfield 75, 3) := dk_180 0 75 (dk_at dksX6_goOn_13 0 rfl rfl)
theorem dX6_goOn_305 : decode cX6_goOn 305 = .ok (.iload_n 2, 1) := dk_28 (dk_at dksX6_goOn_13 3 rfl rfl)
theorem dX6_goOn_306 : decode cX6_goOn 306 = .ok (.dup2, 1) := dk_92 (dk_at dksX6_goOn_13 4 rfl rfl)
theorem dX6_goOn_307 : decode cX6_goOn 307 = .ok (.iaload, 1) := dk_46 (dk_at dksX6_goOn_13 5 rfl rfl)
theorem dX6_goOn_308 : decode cX6_goOn 308 = .ok (.iconst 1, 1) := dk_4 (dk_at dksX6_goOn_13 6 rfl rfl)
theorem dX6_goOn_309 : decode cX6_goOn 309 = .ok (.iadd, 1) := dk_96 (dk_at dksX6_goOn_13 7 rfl rfl)
theorem dX6_goOn_310 : decode cX6_goOn 310 = .ok (.iastore, 1) := dk_79 (dk_at dksX6_goOn_13 8 rfl rfl)
theorem dX6_goOn_311 : decode cX6_goOn 311 = .ok (.aload_n 0, 1) := dk_42 (dk_at dksX6_goOn_13 9 rfl rfl)
theorem dX6_goOn_312 : decode cX6_goOn 312 = .ok (.aload_n 0, 1) := dk_42 (dk_at dksX6_goOn_13 10 rfl rfl)
theorem dX6_goOn_313 : decode cX6_goOn 313 = .ok (.getfield 48, 3) := dk_180 0 48 (dk_at dksX6_goOn_13 11 rfl rfl)
theorem dX6_goOn_316 : decode cX6_goOn 316 = .ok (.bipush 6, 2) := dk_16 6 (dk_at dksX6_goOn_13 14 rfl rfl)
theorem dX6_goOn_318 : decode cX6_goOn 318 = .ok (.iload 4, 2) := dk_21 4 (dk_at dksX6_goOn_13 16 rfl rfl)
theorem dX6_goOn_320 : decode cX6_goOn 320 = .ok (.imul, 1) := dk_104 (dk_at dksX6_goOn_13 18 rfl rfl)
theorem dX6_goOn_321 : decode cX6_goOn 321 = .ok (.iload 6, 2) := dk_21 6 (dk_at dksX6_goOn_13 19 rfl rfl)
theorem dX6_goOn_323 : decode cX6_goOn 323 = .ok (.iadd, 1) := dk_96 (dk_at dksX6_goOn_13 21 rfl rfl)
theorem dX6_goOn_324 : decode cX6_goOn 324 = .ok (.iaload, 1) := dk_46 (dk_at dksX6_goOn_13 22 rfl rfl)
theorem dX6_goOn_325 : decode cX6_goOn 325 = .ok (.iload_n 2, 1) := dk_28 (dk_at dksX6_goOn_13 23 rfl rfl)
theorem dX6_goOn_326 : decode cX6_goOn 326 = .ok (.iload 6, 2) := dk_21 6 (dk_at dksX6_goOn_14 0 rfl rfl)
theorem dX6_goOn_328 : decode cX6_goOn 328 = .ok (.invokevirtual 248, 3) := dk_182 0 248 (dk_at dksX6_goOn_14 2 rfl rfl)
theorem dX6_goOn_331 : decode cX6_goOn 331 = .ok (.return_, 1) := dk_177 (dk_at dksX6_goOn_14 5 rfl rfl)
abbrev cX6_isEnd : ByteArray := prog_18_method_39_code
def yX6_isEnd : MethodName := ⟨RX6, "isEnd", "()Z"⟩
def dkwX6_isEnd_3 : List UInt8 := [154, 0, 7, 4, 167, 0, 4, 3, 172]
abbrev dktX6_isEnd_3 : List UInt8 := dkwX6_isEnd_3 ++ []
def dkwX6_isEnd_2 : List UInt8 := [180, 0, 66, 42, 180, 0, 245, 46, 154, 0, 21, 42, 180, 0, 66, 42, 180, 0, 245, 4, 96, 46]
abbrev dktX6_isEnd_2 : List UInt8 := dkwX6_isEnd_2 ++ dktX6_isEnd_3
def dkwX6_isEnd_1 : List UInt8 := [160, 0, 7, 4, 167, 0, 4, 3, 172, 42, 180, 0, 245, 4, 96, 42, 182, 1, 17, 162, 0, 33, 42]
abbrev dktX6_isEnd_1 : List UInt8 := dkwX6_isEnd_1 ++ dktX6_isEnd_2
def dkwX6_isEnd_0 : List UInt8 := [42, 180, 0, 114, 42, 180, 0, 242, 4, 100, 51, 154, 0, 20, 42, 180, 0, 245, 42, 182, 1, 17]
abbrev dktX6_isEnd_0 : List UInt8 := dkwX6_isEnd_0 ++ dktX6_isEnd_1
theorem dksX6_isEnd_0 : cX6_isEnd.data.toList.drop 0 = dktX6_isEnd_0 := by decide +kernel
theorem dksX6_isEnd_1 : cX6_isEnd.data.toList.drop 22 = dktX6_isEnd_1 := dk_seg dksX6_isEnd_0 22 rfl rfl
theorem dksX6_isEnd_2 : cX6_isEnd.data.toList.drop 45 = dktX6_isEnd_2 := dk_seg dksX6_isEnd_1 23 rfl rfl
theorem dksX6_isEnd_3 : cX6_isEnd.data.toList.drop 67 = dktX6_isEnd_3 := dk_seg dksX6_isEnd_2 22 rfl rfl
theorem dX6_isEnd_0 : decode cX6_isEnd 0 = .ok (.aload_n 0, 1) := dk_42 (dk_at dksX6_isEnd_0 0 rfl rfl)
theorem dX6_isEnd_1 : decode cX6_isEnd 1 = .ok (.getfield 114, 3) := dk_180 0 114 (dk_at dksX6_isEnd_0 1 rfl rfl)
theorem dX6_isEnd_4 : decode cX6_isEnd 4 = .ok (.aload_n 0, 1) := dk_42 (dk_at dksX6_isEnd_0 4 rfl rfl)
theorem dX6_isEnd_5 : decode cX6_isEnd 5 = .ok (.getfield 242, 3) := dk_180 0 242 (dk_at dksX6_isEnd_0 5 rfl rfl)
theorem dX6_isEnd_8 : decode cX6_isEnd 8 = .ok (.iconst 1, 1) := dk_4 (dk_at dksX6_isEnd_0 8 rfl rfl)
theorem dX6_isEnd_9 : decode cX6_isEnd 9 = .ok (.isub, 1) := dk_100 (dk_at dksX6_isEnd_0 9 rfl rfl)
theorem dX6_isEnd_10 : decode cX6_isEnd 10 = .ok (.baload, 1) := dk_51 (dk_at dksX6_isEnd_0 10 rfl rfl)
theorem dX6_isEnd_11 : decode cX6_isEnd 11 = .ok (.ifCond .ne 20, 3) := dk_154 0 20 (dk_at dksX6_isEnd_0 11 rfl rfl)
theorem dX6_isEnd_14 : decode cX6_isEnd 14 = .ok (.aload_n 0, 1) := dk_42 (dk_at dksX6_isEnd_0 14 rfl rfl)
theorem dX6_isEnd_15 : decode cX6_isEnd 15 = .ok (.getfield 245, 3) := dk_180 0 245 (dk_at dksX6_isEnd_0 15 rfl rfl)
theorem dX6_isEnd_18 : decode cX6_isEnd 18 = .ok (.aload_n 0, 1) := dk_42 (dk_at dksX6_isEnd_0 18 rfl rfl)
theorem dX6_isEnd_19 : decode cX6_isEnd 19 = .ok (.invokevirtual 273, 3) := dk_182 1 17 (dk_at dksX6_isEnd_0 19 rfl rfl)
theorem dX6_isEnd_22 : decode cX6_isEnd 22 = .ok (.if_icmp .ne 7, 3) := dk_160 0 7 (dk_at dksX6_isEnd_1 0 rfl rfl)
theorem dX6_isEnd_25 : decode cX6_isEnd 25 = .ok (.iconst 1, 1) := dk_4 (dk_at dksX6_isEnd_1 3 rfl rfl)
theorem dX6_isEnd_26 : decode cX6_isEnd 26 = .ok (.goto 4, 3) := dk_167 0 4 (dk_at dksX6_isEnd_1 4 rfl rfl)
theorem dX6_isEnd_29 : decode cX6_isEnd 29 = .ok (.iconst 0, 1) := dk_3 (dk_at dksX6_isEnd_1 7 rfl rfl)
theorem dX6_isEnd_30 : decode cX6_isEnd 30 = .ok (.ireturn, 1) := dk_172 (dk_at dksX6_isEnd_1 8 rfl rfl)
theorem dX6_isEnd_31 : decode cX6_isEnd 31 = .ok (.aload_n 0, 1) := dk_42 (dk_at dksX6_isEnd_1 9 rfl rfl)
theorem dX6_isEnd_32 : decode cX6_isEnd 32 = .ok (.getfield 245, 3) := dk_180 0 245 (dk_at dksX6_isEnd_1 10 rfl rfl)
theorem dX6_isEnd_35 : decode cX6_isEnd 35 = .ok (.iconst 1, 1) := dk_4 (dk_at dksX6_isEnd_1 13 rfl rfl)
theorem dX6_isEnd_36 : decode cX6_isEnd 36 = .ok (.iadd, 1) := dk_96 (dk_at dksX6_isEnd_1 14 rfl rfl)
theorem dX6_isEnd_37 : decode cX6_isEnd 37 = .ok (.aload_n 0, 1) := dk_42 (dk_at dksX6_isEnd_1 15 rfl rfl)
theorem dX6_isEnd_38 : decode cX6_isEnd 38 = .ok (.invokevirtual 273, 3) := dk_182 1 17 (dk_at dksX6_isEnd_1 16 rfl rfl)
theorem dX6_isEnd_41 : decode cX6_isEnd 41 = .ok (.if_icmp .ge 33, 3) := dk_162 0 33 (dk_at dksX6_isEnd_1 19 rfl rfl)
theorem dX6_isEnd_44 : decode cX6_isEnd 44 = .ok (.aload_n 0, 1) := dk_42 (dk_at dksX6_isEnd_1 22 rfl rfl)
theorem dX6_isEnd_45 : decode cX6_isEnd 45 = .ok (.getfield 66, 3) := dk_180 0 66 (dk_at dksX6_isEnd_2 0 rfl rfl)
theorem dX6_isEnd_48 : decode cX6_isEnd 48 = .ok (.aload_n 0, 1) := dk_42 (dk_at dksX6_isEnd_2 3 rfl rfl)
theorem dX6_isEnd_49 : decode cX6_isEnd 49 = .ok (.getfield 245, 3) := dk_180 0 245 (dk_at dksX6_isEnd_2 4 rfl rfl)
theorem dX6_isEnd_52 : decode cX6_isEnd 52 = .ok (.iaload, 1) := dk_46 (dk_at dksX6_isEnd_2 7 rfl rfl)
theorem dX6_isEnd_53 : decode cX6_isEnd 53 = .ok (.ifCond .ne 21, 3) := dk_154 0 21 (dk_at dksX6_isEnd_2 8 rfl rfl)
theorem dX6_isEnd_56 : decode cX6_isEnd 56 = .ok (.aload_n 0, 1) := dk_42 (dk_at dksX6_isEnd_2 11 rfl rfl)
theorem dX6_isEnd_57 : decode cX6_isEnd 57 = .ok (.getfield 66, 3) := dk_180 0 66 (dk_at dksX6_isEnd_2 12 rfl rfl)
theorem dX6_isEnd_60 : decode cX6_isEnd 60 = .ok (.aload_n 0, 1) := dk_42 (dk_at dksX6_isEnd_2 15 rfl rfl)
theorem dX6_isEnd_61 : decode cX6_isEnd 61 = .ok (.getfield 245, 3) := dk_180 0 245 (dk_at dksX6_isEnd_2 16 rfl rfl)
theorem dX6_isEnd_64 : decode cX6_isEnd 64 = .ok (.iconst 1, 1) := dk_4 (dk_at dksX6_isEnd_2 19 rfl rfl)
theorem dX6_isEnd_65 : decode cX6_isEnd 65 = .ok (.iadd, 1) := dk_96 (dk_at dksX6_isEnd_2 20 rfl rfl)
theorem dX6_isEnd_66 : decode cX6_isEnd 66 = .ok (.iaload, 1) := dk_46 (dk_at dksX6_isEnd_2 21 rfl rfl)
theorem dX6_isEnd_67 : decode cX6_isEnd 67 = .ok (.ifCond .ne 7, 3) := dk_154 0 7 (dk_at dksX6_isEnd_3 0 rfl rfl)
theorem dX6_isEnd_70 : decode cX6_isEnd 70 = .ok (.iconst 1, 1) := dk_4 (dk_at dksX6_isEnd_3 3 rfl rfl)
theorem dX6_isEnd_71 : decode cX6_isEnd 71 = .ok (.goto 4, 3) := dk_167 0 4 (dk_at dksX6_isEnd_3 4 rfl rfl)
theorem dX6_isEnd_74 : decode cX6_isEnd 74 = .ok (.iconst 0, 1) := dk_3 (dk_at dksX6_isEnd_3 7 rfl rfl)
theorem dX6_isEnd_75 : decode cX6_isEnd 75 = .ok (.ireturn, 1) := dk_172 (dk_at dksX6_isEnd_3 8 rfl rfl)
abbrev cX6_baseOf : ByteArray := prog_18_method_52_code
def yX6_baseOf : MethodName := ⟨RX6, "baseOf", "(I)I"⟩
def dkwX6_baseOf_0 : List UInt8 := [42, 42, 180, 0, 72, 27, 46, 182, 0, 218, 42, 180, 0, 222, 172]
abbrev dktX6_baseOf_0 : List UInt8 := dkwX6_baseOf_0 ++ []
theorem dksX6_baseOf_0 : cX6_baseOf.data.toList.drop 0 = dktX6_baseOf_0 := by decide +kernel
theorem dX6_baseOf_0 : decode cX6_baseOf 0 = .ok (.aload_n 0, 1) := dk_42 (dk_at dksX6_baseOf_0 0 rfl rfl)
theorem dX6_baseOf_1 : decode cX6_baseOf 1 = .ok (.aload_n 0, 1) := dk_42 (dk_at dksX6_baseOf_0 1 rfl rfl)
theorem dX6_baseOf_2 : decode cX6_baseOf 2 = .ok (.getfield 72, 3) := dk_180 0 72 (dk_at dksX6_baseOf_0 2 rfl rfl)
theorem dX6_baseOf_5 : decode cX6_baseOf 5 = .ok (.iload_n 1, 1) := dk_27 (dk_at dksX6_baseOf_0 5 rfl rfl)
theorem dX6_baseOf_6 : decode cX6_baseOf 6 = .ok (.iaload, 1) := dk_46 (dk_at dksX6_baseOf_0 6 rfl rfl)
theorem dX6_baseOf_7 : decode cX6_baseOf 7 = .ok (.invokevirtual 218, 3) := dk_182 0 218 (dk_at dksX6_baseOf_0 7 rfl rfl)
theorem dX6_baseOf_10 : decode cX6_baseOf 10 = .ok (.aload_n 0, 1) := dk_42 (dk_at dksX6_baseOf_0 10 rfl rfl)
theorem dX6_baseOf_11 : decode cX6_baseOf 11 = .ok (.getfield 222, 3) := dk_180 0 222 (dk_at dksX6_baseOf_0 11 rfl rfl)
theorem dX6_baseOf_14 : decode cX6_baseOf 14 = .ok (.ireturn, 1) := dk_172 (dk_at dksX6_baseOf_0 14 rfl rfl)
abbrev cX6_leaveFrame : ByteArray := prog_18_method_40_code
def yX6_leaveFrame : MethodName := ⟨RX6, "leaveFrame", "()V"⟩
def dkwX6_leaveFrame_2 : List UInt8 := [89, 180, 0, 242, 4, 100, 181, 0, 242, 177]
abbrev dktX6_leaveFrame_2 : List UInt8 := dkwX6_leaveFrame_2 ++ []
def dkwX6_leaveFrame_1 : List UInt8 := [42, 180, 0, 114, 42, 180, 0, 242, 4, 100, 51, 153, 0, 7, 5, 167, 0, 4, 3, 96, 181, 0, 245, 42]
abbrev dktX6_leaveFrame_1 : List UInt8 := dkwX6_leaveFrame_1 ++ dktX6_leaveFrame_2
def dkwX6_leaveFrame_0 : List UInt8 := [42, 180, 0, 236, 153, 0, 15, 42, 182, 1, 49, 154, 0, 8, 42, 3, 181, 0, 236, 42, 89, 180, 0, 245]
abbrev dktX6_leaveFrame_0 : List UInt8 := dkwX6_leaveFrame_0 ++ dktX6_leaveFrame_1
theorem dksX6_leaveFrame_0 : cX6_leaveFrame.data.toList.drop 0 = dktX6_leaveFrame_0 := by decide +kernel
theorem dksX6_leaveFrame_1 : cX6_leaveFrame.data.toList.drop 24 = dktX6_leaveFrame_1 := dk_seg dksX6_leaveFrame_0 24 rfl rfl
theorem dksX6_leaveFrame_2 : cX6_leaveFrame.data.toList.drop 48 = dktX6_leaveFrame_2 := dk_seg dksX6_leaveFrame_1 24 rfl rfl
theorem dX6_leaveFrame_0 : decode cX6_leaveFrame 0 = .ok (.aload_n 0, 1) := dk_42 (dk_at dksX6_leaveFrame_0 0 rfl rfl)
theorem dX6_leaveFrame_1 : decode cX6_leaveFrame 1 = .ok (.getfield 236, 3) := dk_180 0 236 (dk_at dksX6_leaveFrame_0 1 rfl rfl)
theorem dX6_leaveFrame_4 : decode cX6_leaveFrame 4 = .ok (.ifCond .eq 15, 3) := dk_153 0 15 (dk_at dksX6_leaveFrame_0 4 rfl rfl)
theorem dX6_leaveFrame_7 : decode cX6_leaveFrame 7 = .ok (.aload_n 0, 1) := dk_42 (dk_at dksX6_leaveFrame_0 7 rfl rfl)
theorem dX6_leaveFrame_8 : decode cX6_leaveFrame 8 = .ok (.invokevirtual 305, 3) := dk_182 1 49 (dk_at dksX6_leaveFrame_0 8 rfl rfl)
theorem dX6_leaveFrame_11 : decode cX6_leaveFrame 11 = .ok (.ifCond .ne 8, 3) := dk_154 0 8 (dk_at dksX6_leaveFrame_0 11 rfl rfl)
theorem dX6_leaveFrame_14 : decode cX6_leaveFrame 14 = .ok (.aload_n 0, 1) := dk_42 (dk_at dksX6_leaveFrame_0 14 rfl rfl)
theorem dX6_leaveFrame_15 : decode cX6_leaveFrame 15 = .ok (.iconst 0, 1) := dk_3 (dk_at dksX6_leaveFrame_0 15 rfl rfl)
theorem dX6_leaveFrame_16 : decode cX6_leaveFrame 16 = .ok (.putfield 236, 3) := dk_181 0 236 (dk_at dksX6_leaveFrame_0 16 rfl rfl)
theorem dX6_leaveFrame_19 : decode cX6_leaveFrame 19 = .ok (.aload_n 0, 1) := dk_42 (dk_at dksX6_leaveFrame_0 19 rfl rfl)
theorem dX6_leaveFrame_20 : decode cX6_leaveFrame 20 = .ok (.dup, 1) := dk_89 (dk_at dksX6_leaveFrame_0 20 rfl rfl)
theorem dX6_leaveFrame_21 : decode cX6_leaveFrame 21 = .ok (.getfield 245, 3) := dk_180 0 245 (dk_at dksX6_leaveFrame_0 21 rfl rfl)
theorem dX6_leaveFrame_24 : decode cX6_leaveFrame 24 = .ok (.aload_n 0, 1) := dk_42 (dk_at dksX6_leaveFrame_1 0 rfl rfl)
theorem dX6_leaveFrame_25 : decode cX6_leaveFrame 25 = .ok (.getfield 114, 3) := dk_180 0 114 (dk_at dksX6_leaveFrame_1 1 rfl rfl)
theorem dX6_leaveFrame_28 : decode cX6_leaveFrame 28 = .ok (.aload_n 0, 1) := dk_42 (dk_at dksX6_leaveFrame_1 4 rfl rfl)
theorem dX6_leaveFrame_29 : decode cX6_leaveFrame 29 = .ok (.getfield 242, 3) := dk_180 0 242 (dk_at dksX6_leaveFrame_1 5 rfl rfl)
theorem dX6_leaveFrame_32 : decode cX6_leaveFrame 32 = .ok (.iconst 1, 1) := dk_4 (dk_at dksX6_leaveFrame_1 8 rfl rfl)
theorem dX6_leaveFrame_33 : decode cX6_leaveFrame 33 = .ok (.isub, 1) := dk_100 (dk_at dksX6_leaveFrame_1 9 rfl rfl)
theorem dX6_leaveFrame_34 : decode cX6_leaveFrame 34 = .ok (.baload, 1) := dk_51 (dk_at dksX6_leaveFrame_1 10 rfl rfl)
theorem dX6_leaveFrame_35 : decode cX6_leaveFrame 35 = .ok (.ifCond .eq 7, 3) := dk_153 0 7 (dk_at dksX6_leaveFrame_1 11 rfl rfl)
theorem dX6_leaveFrame_38 : decode cX6_leaveFrame 38 = .ok (.iconst 2, 1) := dk_5 (dk_at dksX6_leaveFrame_1 14 rfl rfl)
theorem dX6_leaveFrame_39 : decode cX6_leaveFrame 39 = .ok (.goto 4, 3) := dk_167 0 4 (dk_at dksX6_leaveFrame_1 15 rfl rfl)
theorem dX6_leaveFrame_42 : decode cX6_leaveFrame 42 = .ok (.iconst 0, 1) := dk_3 (dk_at dksX6_leaveFrame_1 18 rfl rfl)
theorem dX6_leaveFrame_43 : decode cX6_leaveFrame 43 = .ok (.iadd, 1) := dk_96 (dk_at dksX6_leaveFrame_1 19 rfl rfl)
theorem dX6_leaveFrame_44 : decode cX6_leaveFrame 44 = .ok (.putfield 245, 3) := dk_181 0 245 (dk_at dksX6_leaveFrame_1 20 rfl rfl)
theorem dX6_leaveFrame_47 : decode cX6_leaveFrame 47 = .ok (.aload_n 0, 1) := dk_42 (dk_at dksX6_leaveFrame_1 23 rfl rfl)
theorem dX6_leaveFrame_48 : decode cX6_leaveFrame 48 = .ok (.dup, 1) := dk_89 (dk_at dksX6_leaveFrame_2 0 rfl rfl)
theorem dX6_leaveFrame_49 : decode cX6_leaveFrame 49 = .ok (.getfield 242, 3) := dk_180 0 242 (dk_at dksX6_leaveFrame_2 1 rfl rfl)
theorem dX6_leaveFrame_52 : decode cX6_leaveFrame 52 = .ok (.iconst 1, 1) := dk_4 (dk_at dksX6_leaveFrame_2 4 rfl rfl)
theorem dX6_leaveFrame_53 : decode cX6_leaveFrame 53 = .ok (.isub, 1) := dk_100 (dk_at dksX6_leaveFrame_2 5 rfl rfl)
theorem dX6_leaveFrame_54 : decode cX6_leaveFrame 54 = .ok (.putfield 242, 3) := dk_181 0 242 (dk_at dksX6_leaveFrame_2 6 rfl rfl)
theorem dX6_leaveFrame_57 : decode cX6_leaveFrame 57 = .ok (.return_, 1) := dk_177 (dk_at dksX6_leaveFrame_2 9 rfl rfl)
abbrev cX6_absent : ByteArray := prog_18_method_42_code
def yX6_absent : MethodName := ⟨RX6, "absent", "(III)V"⟩
def dkwX6_absent_2 : List UInt8 := [180, 0, 48, 21, 4, 46, 27, 29, 42, 180, 0, 54, 21, 4, 46, 182, 1, 37, 87, 177]
abbrev dktX6_absent_2 : List UInt8 := dkwX6_absent_2 ++ []
def dkwX6_absent_1 : List UInt8 := [180, 0, 51, 21, 4, 46, 5, 159, 0, 4, 177, 42, 180, 0, 75, 27, 92, 46, 4, 96, 79, 42, 42]
abbrev dktX6_absent_1 : List UInt8 := dkwX6_absent_1 ++ dktX6_absent_2
def dkwX6_absent_0 : List UInt8 := [16, 6, 28, 104, 29, 96, 54, 4, 42, 180, 0, 51, 21, 4, 46, 154, 0, 8, 42, 3, 181, 0, 236, 42]
abbrev dktX6_absent_0 : List UInt8 := dkwX6_absent_0 ++ dktX6_absent_1
theorem dksX6_absent_0 : cX6_absent.data.toList.drop 0 = dktX6_absent_0 := by decide +kernel
theorem dksX6_absent_1 : cX6_absent.data.toList.drop 24 = dktX6_absent_1 := dk_seg dksX6_absent_0 24 rfl rfl
theorem dksX6_absent_2 : cX6_absent.data.toList.drop 47 = dktX6_absent_2 := dk_seg dksX6_absent_1 23 rfl rfl
theorem dX6_absent_0 : decode cX6_absent 0 = .ok (.bipush 6, 2) := dk_16 6 (dk_at dksX6_absent_0 0 rfl rfl)
theorem dX6_absent_2 : decode cX6_absent 2 = .ok (.iload_n 2, 1) := dk_28 (dk_at dksX6_absent_0 2 rfl rfl)
theorem dX6_absent_3 : decode cX6_absent 3 = .ok (.imul, 1) := dk_104 (dk_at dksX6_absent_0 3 rfl rfl)
theorem dX6_absent_4 : decode cX6_absent 4 = .ok (.iload_n 3, 1) := dk_29 (dk_at dksX6_absent_0 4 rfl rfl)
theorem dX6_absent_5 : decode cX6_absent 5 = .ok (.iadd, 1) := dk_96 (dk_at dksX6_absent_0 5 rfl rfl)
theorem dX6_absent_6 : decode cX6_absent 6 = .ok (.istore 4, 2) := dk_54 4 (dk_at dksX6_absent_0 6 rfl rfl)
theorem dX6_absent_8 : decode cX6_absent 8 = .ok (.aload_n 0, 1) := dk_42 (dk_at dksX6_absent_0 8 rfl rfl)
theorem dX6_absent_9 : decode cX6_absent 9 = .ok (.getfield 51, 3) := dk_180 0 51 (dk_at dksX6_absent_0 9 rfl rfl)
theorem dX6_absent_12 : decode cX6_absent 12 = .ok (.iload 4, 2) := dk_21 4 (dk_at dksX6_absent_0 12 rfl rfl)
theorem dX6_absent_14 : decode cX6_absent 14 = .ok (.iaload, 1) := dk_46 (dk_at dksX6_absent_0 14 rfl rfl)
theorem dX6_absent_15 : decode cX6_absent 15 = .ok (.ifCond .ne 8, 3) := dk_154 0 8 (dk_at dksX6_absent_0 15 rfl rfl)
theorem dX6_absent_18 : decode cX6_absent 18 = .ok (.aload_n 0, 1) := dk_42 (dk_at dksX6_absent_0 18 rfl rfl)
theorem dX6_absent_19 : decode cX6_absent 19 = .ok (.iconst 0, 1) := dk_3 (dk_at dksX6_absent_0 19 rfl rfl)
theorem dX6_absent_20 : decode cX6_absent 20 = .ok (.putfield 236, 3) := dk_181 0 236 (dk_at dksX6_absent_0 20 rfl rfl)
theorem dX6_absent_23 : decode cX6_absent 23 = .ok (.aload_n 0, 1) := dk_42 (dk_at dksX6_absent_0 23 rfl rfl)
theorem dX6_absent_24 : decode cX6_absent 24 = .ok (.getfield 51, 3) := dk_180 0 51 (dk_at dksX6_absent_1 0 rfl rfl)
theorem dX6_absent_27 : decode cX6_absent 27 = .ok (.iload 4, 2) := dk_21 4 (dk_at dksX6_absent_1 3 rfl rfl)
theorem dX6_absent_29 : decode cX6_absent 29 = .ok (.iaload, 1) := dk_46 (dk_at dksX6_absent_1 5 rfl rfl)
theorem dX6_absent_30 : decode cX6_absent 30 = .ok (.iconst 2, 1) := dk_5 (dk_at dksX6_absent_1 6 rfl rfl)
theorem dX6_absent_31 : decode cX6_absent 31 = .ok (.if_icmp .eq 4, 3) := dk_159 0 4 (dk_at dksX6_absent_1 7 rfl rfl)
theorem dX6_absent_34 : decode cX6_absent 34 = .ok (.return_, 1) := dk_177 (dk_at dksX6_absent_1 10 rfl rfl)
theorem dX6_absent_35 : decode cX6_absent 35 = .ok (.aload_n 0, 1) := dk_42 (dk_at dksX6_absent_1 11 rfl rfl)
theorem dX6_absent_36 : decode cX6_absent 36 = .ok (.getfield 75, 3) := dk_180 0 75 (dk_at dksX6_absent_1 12 rfl rfl)
theorem dX6_absent_39 : decode cX6_absent 39 = .ok (.iload_n 1, 1) := dk_27 (dk_at dksX6_absent_1 15 rfl rfl)
theorem dX6_absent_40 : decode cX6_absent 40 = .ok (.dup2, 1) := dk_92 (dk_at dksX6_absent_1 16 rfl rfl)
theorem dX6_absent_41 : decode cX6_absent 41 = .ok (.iaload, 1) := dk_46 (dk_at dksX6_absent_1 17 rfl rfl)
theorem dX6_absent_42 : decode cX6_absent 42 = .ok (.iconst 1, 1) := dk_4 (dk_at dksX6_absent_1 18 rfl rfl)
theorem dX6_absent_43 : decode cX6_absent 43 = .ok (.iadd, 1) := dk_96 (dk_at dksX6_absent_1 19 rfl rfl)
theorem dX6_absent_44 : decode cX6_absent 44 = .ok (.iastore, 1) := dk_79 (dk_at dksX6_absent_1 20 rfl rfl)
theorem dX6_absent_45 : decode cX6_absent 45 = .ok (.aload_n 0, 1) := dk_42 (dk_at dksX6_absent_1 21 rfl rfl)
theorem dX6_absent_46 : decode cX6_absent 46 = .ok (.aload_n 0, 1) := dk_42 (dk_at dksX6_absent_1 22 rfl rfl)
theorem dX6_absent_47 : decode cX6_absent 47 = .ok (.getfield 48, 3) := dk_180 0 48 (dk_at dksX6_absent_2 0 rfl rfl)
theorem dX6_absent_50 : decode cX6_absent 50 = .ok (.iload 4, 2) := dk_21 4 (dk_at dksX6_absent_2 3 rfl rfl)
theorem dX6_absent_52 : decode cX6_absent 52 = .ok (.iaload, 1) := dk_46 (dk_at dksX6_absent_2 5 rfl rfl)
theorem dX6_absent_53 : decode cX6_absent 53 = .ok (.iload_n 1, 1) := dk_27 (dk_at dksX6_absent_2 6 rfl rfl)
theorem dX6_absent_54 : decode cX6_absent 54 = .ok (.iload_n 3, 1) := dk_29 (dk_at dksX6_absent_2 7 rfl rfl)
theorem dX6_absent_55 : decode cX6_absent 55 = .ok (.aload_n 0, 1) := dk_42 (dk_at dksX6_absent_2 8 rfl rfl)
theorem dX6_absent_56 : decode cX6_absent 56 = .ok (.getfield 54, 3) := dk_180 0 54 (dk_at dksX6_absent_2 9 rfl rfl)
theorem dX6_absent_59 : decode cX6_absent 59 = .ok (.iload 4, 2) := dk_21 4 (dk_at dksX6_absent_2 12 rfl rfl)
theorem dX6_absent_61 : decode cX6_absent 61 = .ok (.iaload, 1) := dk_46 (dk_at dksX6_absent_2 14 rfl rfl)
theorem dX6_absent_62 : decode cX6_absent 62 = .ok (.invokevirtual 293, 3) := dk_182 1 37 (dk_at dksX6_absent_2 15 rfl rfl)
theorem dX6_absent_65 : decode cX6_absent 65 = .ok (.pop, 1) := dk_87 (dk_at dksX6_absent_2 18 rfl rfl)
theorem dX6_absent_66 : decode cX6_absent 66 = .ok (.return_, 1) := dk_177 (dk_at dksX6_absent_2 19 rfl rfl)
abbrev cX6_goOnPacked : ByteArray := prog_18_method_51_code
def yX6_goOnPacked : MethodName := ⟨RX6, "goOnPacked", "()V"⟩
def dkwX6_goOnPacked_7 : List UInt8 := [96, 46, 28, 21, 4, 182, 0, 252, 177]
abbrev dktX6_goOnPacked_7 : List UInt8 := dkwX6_goOnPacked_7 ++ []
def dkwX6_goOnPacked_6 : List UInt8 := [167, 0, 32, 42, 180, 0, 75, 28, 92, 46, 4, 96, 79, 42, 42, 180, 0, 48, 16, 6, 29, 104, 21, 4]
abbrev dktX6_goOnPacked_6 : List UInt8 := dkwX6_goOnPacked_6 ++ dktX6_goOnPacked_7
def dkwX6_goOnPacked_5 : List UInt8 := [180, 0, 32, 29, 46, 4, 100, 21, 4, 100, 122, 4, 126, 154, 0, 14, 42, 28, 29, 21, 4, 182, 1, 58]
abbrev dktX6_goOnPacked_5 : List UInt8 := dkwX6_goOnPacked_5 ++ dktX6_goOnPacked_6
def dkwX6_goOnPacked_4 : List UInt8 := [180, 0, 48, 16, 6, 29, 104, 46, 28, 21, 4, 182, 0, 252, 167, 0, 66, 42, 180, 0, 111, 27, 46, 42]
abbrev dktX6_goOnPacked_4 : List UInt8 := dkwX6_goOnPacked_4 ++ dktX6_goOnPacked_5
def dkwX6_goOnPacked_3 : List UInt8 := [180, 0, 242, 4, 100, 181, 0, 242, 167, 0, 96, 42, 180, 0, 20, 29, 46, 16, 6, 159, 0, 22, 42, 42]
abbrev dktX6_goOnPacked_3 : List UInt8 := dkwX6_goOnPacked_3 ++ dktX6_goOnPacked_4
def dkwX6_goOnPacked_2 : List UInt8 := [160, 0, 12, 42, 180, 0, 32, 29, 46, 167, 0, 9, 42, 180, 0, 75, 28, 46, 160, 0, 16, 42, 89]
abbrev dktX6_goOnPacked_2 : List UInt8 := dkwX6_goOnPacked_2 ++ dktX6_goOnPacked_3
def dkwX6_goOnPacked_1 : List UInt8 := [27, 46, 54, 4, 42, 180, 0, 108, 27, 92, 46, 4, 96, 79, 21, 4, 42, 180, 0, 20, 29, 46, 16, 6]
abbrev dktX6_goOnPacked_1 : List UInt8 := dkwX6_goOnPacked_1 ++ dktX6_goOnPacked_2
def dkwX6_goOnPacked_0 : List UInt8 := [42, 180, 0, 242, 4, 100, 60, 42, 180, 0, 102, 27, 46, 61, 42, 28, 182, 1, 52, 62, 42, 180, 0, 108]
abbrev dktX6_goOnPacked_0 : List UInt8 := dkwX6_goOnPacked_0 ++ dktX6_goOnPacked_1
theorem dksX6_goOnPacked_0 : cX6_goOnPacked.data.toList.drop 0 = dktX6_goOnPacked_0 := by decide +kernel
theorem dksX6_goOnPacked_1 : cX6_goOnPacked.data.toList.drop 24 = dktX6_goOnPacked_1 := dk_seg dksX6_goOnPacked_0 24 rfl rfl
theorem dksX6_goOnPacked_2 : cX6_goOnPacked.data.toList.drop 48 = dktX6_goOnPacked_2 := dk_seg dksX6_goOnPacked_1 24 rfl rfl
theorem dksX6_goOnPacked_3 : cX6_goOnPacked.data.toList.drop 71 = dktX6_goOnPacked_3 := dk_seg dksX6_goOnPacked_2 23 rfl rfl
theorem dksX6_goOnPacked_4 : cX6_goOnPacked.data.toList.drop 95 = dktX6_goOnPacked_4 := dk_seg dksX6_goOnPacked_3 24 rfl rfl
theorem dksX6_goOnPacked_5 : cX6_goOnPacked.data.toList.drop 119 = dktX6_goOnPacked_5 := dk_seg dksX6_goOnPacked_4 24 rfl rfl
theorem dksX6_goOnPacked_6 : cX6_goOnPacked.data.toList.drop 143 = dktX6_goOnPacked_6 := dk_seg dksX6_goOnPacked_5 24 rfl rfl
theorem dksX6_goOnPacked_7 : cX6_goOnPacked.data.toList.drop 167 = dktX6_goOnPacked_7 := dk_seg dksX6_goOnPacked_6 24 rfl rfl
theorem dX6_goOnPacked_0 : decode cX6_goOnPacked 0 = .ok (.aload_n 0, 1) := dk_42 (dk_at dksX6_goOnPacked_0 0 rfl rfl)
theorem dX6_goOnPacked_1 : decode cX6_goOnPacked 1 = .ok (.getfield 242, 3) := dk_180 0 242 (dk_at dksX6_goOnPacked_0 1 rfl rfl)
theorem dX6_goOnPacked_4 : decode cX6_goOnPacked 4 = .ok (.iconst 1, 1) := dk_4 (dk_at dksX6_goOnPacked_0 4 rfl rfl)
theorem dX6_goOnPacked_5 : decode cX6_goOnPacked 5 = .ok (.isub, 1) := dk_100 (dk_at dksX6_goOnPacked_0 5 rfl rfl)
theorem dX6_goOnPacked_6 : decode cX6_goOnPacked 6 = .ok (.istore_n 1, 1) := dk_60 (dk_at dksX6_goOnPacked_0 6 rfl rfl)
theorem dX6_goOnPacked_7 : decode cX6_goOnPacked 7 = .ok (.aload_n 0, 1) := dk_42 (dk_at dksX6_goOnPacked_0 7 rfl rfl)
theorem dX6_goOnPacked_8 : decode cX6_goOnPacked 8 = .ok (.getfield 102, 3) := dk_180 0 102 (dk_at dksX6_goOnPacked_0 8 rfl rfl)
theorem dX6_goOnPacked_11 : decode cX6_goOnPacked 11 = .ok (.iload_n 1, 1) := dk_27 (dk_at dksX6_goOnPacked_0 11 rfl rfl)
theorem dX6_goOnPacked_12 : decode cX6_goOnPacked 12 = .ok (.iaload, 1) := dk_46 (dk_at dksX6_goOnPacked_0 12 rfl rfl)
theorem dX6_goOnPacked_13 : decode cX6_goOnPacked 13 = .ok (.istore_n 2, 1) := dk_61 (dk_at dksX6_goOnPacked_0 13 rfl rfl)
theorem dX6_goOnPacked_14 : decode cX6_goOnPacked 14 = .ok (.aload_n 0, 1) := dk_42 (dk_at dksX6_goOnPacked_0 14 rfl rfl)
theorem dX6_goOnPacked_15 : decode cX6_goOnPacked 15 = .ok (.iload_n 2, 1) := dk_28 (dk_at dksX6_goOnPacked_0 15 rfl rfl)
theorem dX6_goOnPacked_16 : decode cX6_goOnPacked 16 = .ok (.invokevirtual 308, 3) := dk_182 1 52 (dk_at dksX6_goOnPacked_0 16 rfl rfl)
theorem dX6_goOnPacked_19 : decode cX6_goOnPacked 19 = .ok (.istore_n 3, 1) := dk_62 (dk_at dksX6_goOnPacked_0 19 rfl rfl)
theorem dX6_goOnPacked_20 : decode cX6_goOnPacked 20 = .ok (.aload_n 0, 1) := dk_42 (dk_at dksX6_goOnPacked_0 20 rfl rfl)
theorem dX6_goOnPacked_21 : decode cX6_goOnPacked 21 = .ok (.getfield 108, 3) := dk_180 0 108 (dk_at dksX6_goOnPacked_0 21 rfl rfl)
theorem dX6_goOnPacked_24 : decode cX6_goOnPacked 24 = .ok (.iload_n 1, 1) := dk_27 (dk_at dksX6_goOnPacked_1 0 rfl rfl)
theorem dX6_goOnPacked_25 : decode cX6_goOnPacked 25 = .ok (.iaload, 1) := dk_46 (dk_at dksX6_goOnPacked_1 1 rfl rfl)
theorem dX6_goOnPacked_26 : decode cX6_goOnPacked 26 = .ok (.istore 4, 2) := dk_54 4 (dk_at dksX6_goOnPacked_1 2 rfl rfl)
theorem dX6_goOnPacked_28 : decode cX6_goOnPacked 28 = .ok (.aload_n 0, 1) := dk_42 (dk_at dksX6_goOnPacked_1 4 rfl rfl)
theorem dX6_goOnPacked_29 : decode cX6_goOnPacked 29 = .ok (.getfield 108, 3) := dk_180 0 108 (dk_at dksX6_goOnPacked_1 5 rfl rfl)
theorem dX6_goOnPacked_32 : decode cX6_goOnPacked 32 = .ok (.iload_n 1, 1) := dk_27 (dk_at dksX6_goOnPacked_1 8 rfl rfl)
theorem dX6_goOnPacked_33 : decode cX6_goOnPacked 33 = .ok (.dup2, 1) := dk_92 (dk_at dksX6_goOnPacked_1 9 rfl rfl)
theorem dX6_goOnPacked_34 : decode cX6_goOnPacked 34 = .ok (.iaload, 1) := dk_46 (dk_at dksX6_goOnPacked_1 10 rfl rfl)
theorem dX6_goOnPacked_35 : decode cX6_goOnPacked 35 = .ok (.iconst 1, 1) := dk_4 (dk_at dksX6_goOnPacked_1 11 rfl rfl)
theorem dX6_goOnPacked_36 : decode cX6_goOnPacked 36 = .ok (.iadd, 1) := dk_96 (dk_at dksX6_goOnPacked_1 12 rfl rfl)
theorem dX6_goOnPacked_37 : decode cX6_goOnPacked 37 = .ok (.iastore, 1) := dk_79 (dk_at dksX6_goOnPacked_1 13 rfl rfl)
theorem dX6_goOnPacked_38 : decode cX6_goOnPacked 38 = .ok (.iload 4, 2) := dk_21 4 (dk_at dksX6_goOnPacked_1 14 rfl rfl)
theorem dX6_goOnPacked_40 : decode cX6_goOnPacked 40 = .ok (.aload_n 0, 1) := dk_42 (dk_at dksX6_goOnPacked_1 16 rfl rfl)
theorem dX6_goOnPacked_41 : decode cX6_goOnPacked 41 = .ok (.getfield 20, 3) := dk_180 0 20 (dk_at dksX6_goOnPacked_1 17 rfl rfl)
theorem dX6_goOnPacked_44 : decode cX6_goOnPacked 44 = .ok (.iload_n 3, 1) := dk_29 (dk_at dksX6_goOnPacked_1 20 rfl rfl)
theorem dX6_goOnPacked_45 : decode cX6_goOnPacked 45 = .ok (.iaload, 1) := dk_46 (dk_at dksX6_goOnPacked_1 21 rfl rfl)
theorem dX6_goOnPacked_46 : decode cX6_goOnPacked 46 = .ok (.bipush 6, 2) := dk_16 6 (dk_at dksX6_goOnPacked_1 22 rfl rfl)
theorem dX6_goOnPacked_48 : decode cX6_goOnPacked 48 = .ok (.if_icmp .ne 12, 3) := dk_160 0 12 (dk_at dksX6_goOnPacked_2 0 rfl rfl)
theorem dX6_goOnPacked_51 : decode cX6_goOnPacked 51 = .ok (.aload_n 0, 1) := dk_42 (dk_at dksX6_goOnPacked_2 3 rfl rfl)
theorem dX6_goOnPacked_52 : decode cX6_goOnPacked 52 = .ok (.getfield 32, 3) := dk_180 0 32 (dk_at dksX6_goOnPacked_2 4 rfl rfl)
theorem dX6_goOnPacked_55 : decode cX6_goOnPacked 55 = .ok (.iload_n 3, 1) := dk_29 (dk_at dksX6_goOnPacked_2 7 rfl rfl)
theorem dX6_goOnPacked_56 : decode cX6_goOnPacked 56 = .ok (.iaload, 1) := dk_46 (dk_at dksX6_goOnPacked_2 8 rfl rfl)
theorem dX6_goOnPacked_57 : decode cX6_goOnPacked 57 = .ok (.goto 9, 3) := dk_167 0 9 (dk_at dksX6_goOnPacked_2 9 rfl rfl)
theorem dX6_goOnPacked_60 : decode cX6_goOnPacked 60 = .ok (.aload_n 0, 1) := dk_42 (dk_at dksX6_goOnPacked_2 12 rfl rfl)
theorem dX6_goOnPacked_61 : decode cX6_goOnPacked 61 = .ok (.getfield 75, 3) := dk_180 0 75 (dk_at dksX6_goOnPacked_2 13 rfl rfl)
theorem dX6_goOnPacked_64 : decode cX6_goOnPacked 64 = .ok (.iload_n 2, 1) := dk_28 (dk_at dksX6_goOnPacked_2 16 rfl rfl)
theorem dX6_goOnPacked_65 : decode cX6_goOnPacked 65 = .ok (.iaload, 1) := dk_46 (dk_at dksX6_goOnPacked_2 17 rfl rfl)
theorem dX6_goOnPacked_66 : decode cX6_goOnPacked 66 = .ok (.if_icmp .ne 16, 3) := dk_160 0 16 (dk_at dksX6_goOnPacked_2 18 rfl rfl)
theorem dX6_goOnPacked_69 : decode cX6_goOnPacked 69 = .ok (.aload_n 0, 1) := dk_42 (dk_at dksX6_goOnPacked_2 21 rfl rfl)
theorem dX6_goOnPacked_70 : decode cX6_goOnPacked 70 = .ok (.dup, 1) := dk_89 (dk_at dksX6_goOnPacked_2 22 rfl rfl)
theorem dX6_goOnPacked_71 : decode cX6_goOnPacked 71 = .ok (.getfield 242, 3) := dk_180 0 242 (dk_at dksX6_goOnPacked_3 0 rfl rfl)
theorem dX6_goOnPacked_74 : decode cX6_goOnPacked 74 = .ok (.iconst 1, 1) := dk_4 (dk_at dksX6_goOnPacked_3 3 rfl rfl)
theorem dX6_goOnPacked_75 : decode cX6_goOnPacked 75 = .ok (.isub, 1) := dk_100 (dk_at dksX6_goOnPacked_3 4 rfl rfl)
theorem dX6_goOnPacked_76 : decode cX6_goOnPacked 76 = .ok (.putfield 242, 3) := dk_181 0 242 (dk_at dksX6_goOnPacked_3 5 rfl rfl)
theorem dX6_goOnPacked_79 : decode cX6_goOnPacked 79 = .ok (.goto 96, 3) := dk_167 0 96 (dk_at dksX6_goOnPacked_3 8 rfl rfl)
theorem dX6_goOnPacked_82 : decode cX6_goOnPacked 82 = .ok (.aload_n 0, 1) := dk_42 (dk_at dksX6_goOnPacked_3 11 rfl rfl)
theorem dX6_goOnPacked_83 : decode cX6_goOnPacked 83 = .ok (.getfield 20, 3) := dk_180 0 20 (dk_at dksX6_goOnPacked_3 12 rfl rfl)
theorem dX6_goOnPacked_86 : decode cX6_goOnPacked 86 = .ok (.iload_n 3, 1) := dk_29 (dk_at dksX6_goOnPacked_3 15 rfl rfl)
theorem dX6_goOnPacked_87 : decode cX6_goOnPacked 87 = .ok (.iaload, 1) := dk_46 (dk_at dksX6_goOnPacked_3 16 rfl rfl)
theorem dX6_goOnPacked_88 : decode cX6_goOnPacked 88 = .ok (.bipush 6, 2) := dk_16 6 (dk_at dksX6_goOnPacked_3 17 rfl rfl)
theorem dX6_goOnPacked_90 : decode cX6_goOnPacked 90 = .ok (.if_icmp .eq 22, 3) := dk_159 0 22 (dk_at dksX6_goOnPacked_3 19 rfl rfl)
theorem dX6_goOnPacked_93 : decode cX6_goOnPacked 93 = .ok (.aload_n 0, 1) := dk_42 (dk_at dksX6_goOnPacked_3 22 rfl rfl)
theorem dX6_goOnPacked_94 : decode cX6_goOnPacked 94 = .ok (.aload_n 0, 1) := dk_42 (dk_at dksX6_goOnPacked_3 23 rfl rfl)
theorem dX6_goOnPacked_95 : decode cX6_goOnPacked 95 = .ok (.getfield 48, 3) := dk_180 0 48 (dk_at dksX6_goOnPacked_4 0 rfl rfl)
theorem dX6_goOnPacked_98 : decode cX6_goOnPacked 98 = .ok (.bipush 6, 2) := dk_16 6 (dk_at dksX6_goOnPacked_4 3 rfl rfl)
theorem dX6_goOnPacked_100 : decode cX6_goOnPacked 100 = .ok (.iload_n 3, 1) := dk_29 (dk_at dksX6_goOnPacked_4 5 rfl rfl)
theorem dX6_goOnPacked_101 : decode cX6_goOnPacked 101 = .ok (.imul, 1) := dk_104 (dk_at dksX6_goOnPacked_4 6 rfl rfl)
theorem dX6_goOnPacked_102 : decode cX6_goOnPacked 102 = .ok (.iaload, 1) := dk_46 (dk_at dksX6_goOnPacked_4 7 rfl rfl)
theorem dX6_goOnPacked_103 : decode cX6_goOnPacked 103 = .ok (.iload_n 2, 1) := dk_28 (dk_at dksX6_goOnPacked_4 8 rfl rfl)
theorem dX6_goOnPacked_104 : decode cX6_goOnPacked 104 = .ok (.iload 4, 2) := dk_21 4 (dk_at dksX6_goOnPacked_4 9 rfl rfl)
theorem dX6_goOnPacked_106 : decode cX6_goOnPacked 106 = .ok (.invokevirtual 252, 3) := dk_182 0 252 (dk_at dksX6_goOnPacked_4 11 rfl rfl)
theorem dX6_goOnPacked_109 : decode cX6_goOnPacked 109 = .ok (.goto 66, 3) := dk_167 0 66 (dk_at dksX6_goOnPacked_4 14 rfl rfl)
theorem dX6_goOnPacked_112 : decode cX6_goOnPacked 112 = .ok (.aload_n 0, 1) := dk_42 (dk_at dksX6_goOnPacked_4 17 rfl rfl)
theorem dX6_goOnPacked_113 : decode cX6_goOnPacked 113 = .ok (.getfield 111, 3) := dk_180 0 111 (dk_at dksX6_goOnPacked_4 18 rfl rfl)
theorem dX6_goOnPacked_116 : decode cX6_goOnPacked 116 = .ok (.iload_n 1, 1) := dk_27 (dk_at dksX6_goOnPacked_4 21 rfl rfl)
theorem dX6_goOnPacked_117 : decode cX6_goOnPacked 117 = .ok (.iaload, 1) := dk_46 (dk_at dksX6_goOnPacked_4 22 rfl rfl)
theorem dX6_goOnPacked_118 : decode cX6_goOnPacked 118 = .ok (.aload_n 0, 1) := dk_42 (dk_at dksX6_goOnPacked_4 23 rfl rfl)
theorem dX6_goOnPacked_119 : decode cX6_goOnPacked 119 = .ok (.getfield 32, 3) := dk_180 0 32 (dk_at dksX6_goOnPacked_5 0 rfl rfl)
theorem dX6_goOnPacked_122 : decode cX6_goOnPacked 122 = .ok (.iload_n 3, 1) := dk_29 (dk_at dksX6_goOnPacked_5 3 rfl rfl)
theorem dX6_goOnPacked_123 : decode cX6_goOnPacked 123 = .ok (.iaload, 1) := dk_46 (dk_at dksX6_goOnPacked_5 4 rfl rfl)
theorem dX6_goOnPacked_124 : decode cX6_goOnPacked 124 = .ok (.iconst 1, 1) := dk_4 (dk_at dksX6_goOnPacked_5 5 rfl rfl)
theorem dX6_goOnPacked_125 : decode cX6_goOnPacked 125 = .ok (.isub, 1) := dk_100 (dk_at dksX6_goOnPacked_5 6 rfl rfl)
theorem dX6_goOnPacked_126 : decode cX6_goOnPacked 126 = .ok (.iload 4, 2) := dk_21 4 (dk_at dksX6_goOnPacked_5 7 rfl rfl)
theorem dX6_goOnPacked_128 : decode cX6_goOnPacked 128 = .ok (.isub, 1) := dk_100 (dk_at dksX6_goOnPacked_5 9 rfl rfl)
theorem dX6_goOnPacked_129 : decode cX6_goOnPacked 129 = .ok (.ishr, 1) := dk_122 (dk_at dksX6_goOnPacked_5 10 rfl rfl)
theorem dX6_goOnPacked_130 : decode cX6_goOnPacked 130 = .ok (.iconst 1, 1) := dk_4 (dk_at dksX6_goOnPacked_5 11 rfl rfl)
theorem dX6_goOnPacked_131 : decode cX6_goOnPacked 131 = .ok (.iand, 1) := dk_126 (dk_at dksX6_goOnPacked_5 12 rfl rfl)
theorem dX6_goOnPacked_132 : decode cX6_goOnPacked 132 = .ok (.ifCond .ne 14, 3) := dk_154 0 14 (dk_at dksX6_goOnPacked_5 13 rfl rfl)
theorem dX6_goOnPacked_135 : decode cX6_goOnPacked 135 = .ok (.aload_n 0, 1) := dk_42 (dk_at dksX6_goOnPacked_5 16 rfl rfl)
theorem dX6_goOnPacked_136 : decode cX6_goOnPacked 136 = .ok (.iload_n 2, 1) := dk_28 (dk_at dksX6_goOnPacked_5 17 rfl rfl)
theorem dX6_goOnPacked_137 : decode cX6_goOnPacked 137 = .ok (.iload_n 3, 1) := dk_29 (dk_at dksX6_goOnPacked_5 18 rfl rfl)
theorem dX6_goOnPacked_138 : decode cX6_goOnPacked 138 = .ok (.iload 4, 2) := dk_21 4 (dk_at dksX6_goOnPacked_5 19 rfl rfl)
theorem dX6_goOnPacked_140 : decode cX6_goOnPacked 140 = .ok (.invokevirtual 314, 3) := dk_182 1 58 (dk_at dksX6_goOnPacked_5 21 rfl rfl)
theorem dX6_goOnPacked_143 : decode cX6_goOnPacked 143 = .ok (.goto 32, 3) := dk_167 0 32 (dk_at dksX6_goOnPacked_6 0 rfl rfl)
theorem dX6_goOnPacked_146 : decode cX6_goOnPacked 146 = .ok (.aload_n 0, 1) := dk_42 (dk_at dksX6_goOnPacked_6 3 rfl rfl)
theorem dX6_goOnPacked_147 : decode cX6_goOnPacked 147 = .ok (.getfield 75, 3) := dk_180 0 75 (dk_at dksX6_goOnPacked_6 4 rfl rfl)
theorem dX6_goOnPacked_150 : decode cX6_goOnPacked 150 = .ok (.iload_n 2, 1) := dk_28 (dk_at dksX6_goOnPacked_6 7 rfl rfl)
theorem dX6_goOnPacked_151 : decode cX6_goOnPacked 151 = .ok (.dup2, 1) := dk_92 (dk_at dksX6_goOnPacked_6 8 rfl rfl)
theorem dX6_goOnPacked_152 : decode cX6_goOnPacked 152 = .ok (.iaload, 1) := dk_46 (dk_at dksX6_goOnPacked_6 9 rfl rfl)
theorem dX6_goOnPacked_153 : decode cX6_goOnPacked 153 = .ok (.iconst 1, 1) := dk_4 (dk_at dksX6_goOnPacked_6 10 rfl rfl)
theorem dX6_goOnPacked_154 : decode cX6_goOnPacked 154 = .ok (.iadd, 1) := dk_96 (dk_at dksX6_goOnPacked_6 11 rfl rfl)
theorem dX6_goOnPacked_155 : decode cX6_goOnPacked 155 = .ok (.iastore, 1) := dk_79 (dk_at dksX6_goOnPacked_6 12 rfl rfl)
theorem dX6_goOnPacked_156 : decode cX6_goOnPacked 156 = .ok (.aload_n 0, 1) := dk_42 (dk_at dksX6_goOnPacked_6 13 rfl rfl)
theorem dX6_goOnPacked_157 : decode cX6_goOnPacked 157 = .ok (.aload_n 0, 1) := dk_42 (dk_at dksX6_goOnPacked_6 14 rfl rfl)
theorem dX6_goOnPacked_158 : decode cX6_goOnPacked 158 = .ok (.getfield 48, 3) := dk_180 0 48 (dk_at dksX6_goOnPacked_6 15 rfl rfl)
theorem dX6_goOnPacked_161 : decode cX6_goOnPacked 161 = .ok (.bipush 6, 2) := dk_16 6 (dk_at dksX6_goOnPacked_6 18 rfl rfl)
theorem dX6_goOnPacked_163 : decode cX6_goOnPacked 163 = .ok (.iload_n 3, 1) := dk_29 (dk_at dksX6_goOnPacked_6 20 rfl rfl)
theorem dX6_goOnPacked_164 : decode cX6_goOnPacked 164 = .ok (.imul, 1) := dk_104 (dk_at dksX6_goOnPacked_6 21 rfl rfl)
theorem dX6_goOnPacked_165 : decode cX6_goOnPacked 165 = .ok (.iload 4, 2) := dk_21 4 (dk_at dksX6_goOnPacked_6 22 rfl rfl)
theorem dX6_goOnPacked_167 : decode cX6_goOnPacked 167 = .ok (.iadd, 1) := dk_96 (dk_at dksX6_goOnPacked_7 0 rfl rfl)
theorem dX6_goOnPacked_168 : decode cX6_goOnPacked 168 = .ok (.iaload, 1) := dk_46 (dk_at dksX6_goOnPacked_7 1 rfl rfl)
theorem dX6_goOnPacked_169 : decode cX6_goOnPacked 169 = .ok (.iload_n 2, 1) := dk_28 (dk_at dksX6_goOnPacked_7 2 rfl rfl)
theorem dX6_goOnPacked_170 : decode cX6_goOnPacked 170 = .ok (.iload 4, 2) := dk_21 4 (dk_at dksX6_goOnPacked_7 3 rfl rfl)
theorem dX6_goOnPacked_172 : decode cX6_goOnPacked 172 = .ok (.invokevirtual 252, 3) := dk_182 0 252 (dk_at dksX6_goOnPacked_7 5 rfl rfl)
theorem dX6_goOnPacked_175 : decode cX6_goOnPacked 175 = .ok (.return_, 1) := dk_177 (dk_at dksX6_goOnPacked_7 8 rfl rfl)
abbrev cX6_settle : ByteArray := prog_18_method_54_code
def yX6_settle : MethodName := ⟨RX6, "settle", "()V"⟩
def dkwX6_settle_2 : List UInt8 := [180, 0, 87, 27, 28, 27, 100, 79, 132, 1, 255, 167, 255, 206, 177]
abbrev dktX6_settle_2 : List UInt8 := dkwX6_settle_2 ++ []
def dkwX6_settle_1 : List UInt8 := [180, 0, 81, 28, 46, 27, 160, 0, 15, 28, 42, 180, 0, 87, 28, 46, 96, 61, 167, 255, 229, 42]
abbrev dktX6_settle_1 : List UInt8 := dkwX6_settle_1 ++ dktX6_settle_2
def dkwX6_settle_0 : List UInt8 := [42, 180, 0, 233, 4, 100, 60, 27, 155, 0, 52, 27, 4, 96, 61, 28, 42, 180, 0, 233, 162, 0, 25, 42]
abbrev dktX6_settle_0 : List UInt8 := dkwX6_settle_0 ++ dktX6_settle_1
theorem dksX6_settle_0 : cX6_settle.data.toList.drop 0 = dktX6_settle_0 := by decide +kernel
theorem dksX6_settle_1 : cX6_settle.data.toList.drop 24 = dktX6_settle_1 := dk_seg dksX6_settle_0 24 rfl rfl
theorem dksX6_settle_2 : cX6_settle.data.toList.drop 46 = dktX6_settle_2 := dk_seg dksX6_settle_1 22 rfl rfl
theorem dX6_settle_0 : decode cX6_settle 0 = .ok (.aload_n 0, 1) := dk_42 (dk_at dksX6_settle_0 0 rfl rfl)
theorem dX6_settle_1 : decode cX6_settle 1 = .ok (.getfield 233, 3) := dk_180 0 233 (dk_at dksX6_settle_0 1 rfl rfl)
theorem dX6_settle_4 : decode cX6_settle 4 = .ok (.iconst 1, 1) := dk_4 (dk_at dksX6_settle_0 4 rfl rfl)
theorem dX6_settle_5 : decode cX6_settle 5 = .ok (.isub, 1) := dk_100 (dk_at dksX6_settle_0 5 rfl rfl)
theorem dX6_settle_6 : decode cX6_settle 6 = .ok (.istore_n 1, 1) := dk_60 (dk_at dksX6_settle_0 6 rfl rfl)
theorem dX6_settle_7 : decode cX6_settle 7 = .ok (.iload_n 1, 1) := dk_27 (dk_at dksX6_settle_0 7 rfl rfl)
theorem dX6_settle_8 : decode cX6_settle 8 = .ok (.ifCond .lt 52, 3) := dk_155 0 52 (dk_at dksX6_settle_0 8 rfl rfl)
theorem dX6_settle_11 : decode cX6_settle 11 = .ok (.iload_n 1, 1) := dk_27 (dk_at dksX6_settle_0 11 rfl rfl)
theorem dX6_settle_12 : decode cX6_settle 12 = .ok (.iconst 1, 1) := dk_4 (dk_at dksX6_settle_0 12 rfl rfl)
theorem dX6_settle_13 : decode cX6_settle 13 = .ok (.iadd, 1) := dk_96 (dk_at dksX6_settle_0 13 rfl rfl)
theorem dX6_settle_14 : decode cX6_settle 14 = .ok (.istore_n 2, 1) := dk_61 (dk_at dksX6_settle_0 14 rfl rfl)
theorem dX6_settle_15 : decode cX6_settle 15 = .ok (.iload_n 2, 1) := dk_28 (dk_at dksX6_settle_0 15 rfl rfl)
theorem dX6_settle_16 : decode cX6_settle 16 = .ok (.aload_n 0, 1) := dk_42 (dk_at dksX6_settle_0 16 rfl rfl)
theorem dX6_settle_17 : decode cX6_settle 17 = .ok (.getfield 233, 3) := dk_180 0 233 (dk_at dksX6_settle_0 17 rfl rfl)
theorem dX6_settle_20 : decode cX6_settle 20 = .ok (.if_icmp .ge 25, 3) := dk_162 0 25 (dk_at dksX6_settle_0 20 rfl rfl)
theorem dX6_settle_23 : decode cX6_settle 23 = .ok (.aload_n 0, 1) := dk_42 (dk_at dksX6_settle_0 23 rfl rfl)
theorem dX6_settle_24 : decode cX6_settle 24 = .ok (.getfield 81, 3) := dk_180 0 81 (dk_at dksX6_settle_1 0 rfl rfl)
theorem dX6_settle_27 : decode cX6_settle 27 = .ok (.iload_n 2, 1) := dk_28 (dk_at dksX6_settle_1 3 rfl rfl)
theorem dX6_settle_28 : decode cX6_settle 28 = .ok (.iaload, 1) := dk_46 (dk_at dksX6_settle_1 4 rfl rfl)
theorem dX6_settle_29 : decode cX6_settle 29 = .ok (.iload_n 1, 1) := dk_27 (dk_at dksX6_settle_1 5 rfl rfl)
theorem dX6_settle_30 : decode cX6_settle 30 = .ok (.if_icmp .ne 15, 3) := dk_160 0 15 (dk_at dksX6_settle_1 6 rfl rfl)
theorem dX6_settle_33 : decode cX6_settle 33 = .ok (.iload_n 2, 1) := dk_28 (dk_at dksX6_settle_1 9 rfl rfl)
theorem dX6_settle_34 : decode cX6_settle 34 = .ok (.aload_n 0, 1) := dk_42 (dk_at dksX6_settle_1 10 rfl rfl)
theorem dX6_settle_35 : decode cX6_settle 35 = .ok (.getfield 87, 3) := dk_180 0 87 (dk_at dksX6_settle_1 11 rfl rfl)
theorem dX6_settle_38 : decode cX6_settle 38 = .ok (.iload_n 2, 1) := dk_28 (dk_at dksX6_settle_1 14 rfl rfl)
theorem dX6_settle_39 : decode cX6_settle 39 = .ok (.iaload, 1) := dk_46 (dk_at dksX6_settle_1 15 rfl rfl)
theorem dX6_settle_40 : decode cX6_settle 40 = .ok (.iadd, 1) := dk_96 (dk_at dksX6_settle_1 16 rfl rfl)
theorem dX6_settle_41 : decode cX6_settle 41 = .ok (.istore_n 2, 1) := dk_61 (dk_at dksX6_settle_1 17 rfl rfl)
theorem dX6_settle_42 : decode cX6_settle 42 = .ok (.goto (-27), 3) := dk_167 255 229 (dk_at dksX6_settle_1 18 rfl rfl)
theorem dX6_settle_45 : decode cX6_settle 45 = .ok (.aload_n 0, 1) := dk_42 (dk_at dksX6_settle_1 21 rfl rfl)
theorem dX6_settle_46 : decode cX6_settle 46 = .ok (.getfield 87, 3) := dk_180 0 87 (dk_at dksX6_settle_2 0 rfl rfl)
theorem dX6_settle_49 : decode cX6_settle 49 = .ok (.iload_n 1, 1) := dk_27 (dk_at dksX6_settle_2 3 rfl rfl)
theorem dX6_settle_50 : decode cX6_settle 50 = .ok (.iload_n 2, 1) := dk_28 (dk_at dksX6_settle_2 4 rfl rfl)
theorem dX6_settle_51 : decode cX6_settle 51 = .ok (.iload_n 1, 1) := dk_27 (dk_at dksX6_settle_2 5 rfl rfl)
theorem dX6_settle_52 : decode cX6_settle 52 = .ok (.isub, 1) := dk_100 (dk_at dksX6_settle_2 6 rfl rfl)
theorem dX6_settle_53 : decode cX6_settle 53 = .ok (.iastore, 1) := dk_79 (dk_at dksX6_settle_2 7 rfl rfl)
theorem dX6_settle_54 : decode cX6_settle 54 = .ok (.iinc 1 (-1), 3) := dk_132 1 255 (dk_at dksX6_settle_2 8 rfl rfl)
theorem dX6_settle_57 : decode cX6_settle 57 = .ok (.goto (-50), 3) := dk_167 255 206 (dk_at dksX6_settle_2 11 rfl rfl)
theorem dX6_settle_60 : decode cX6_settle 60 = .ok (.return_, 1) := dk_177 (dk_at dksX6_settle_2 14 rfl rfl)
abbrev cX6_write : ByteArray := prog_18_method_57_code
def yX6_write : MethodName := ⟨RX6, "write", "(I)V"⟩
def dkwX6_write_7 : List UInt8 := [182, 1, 97, 42, 42, 180, 1, 85, 16, 7, 96, 16, 8, 108, 181, 1, 14, 177]
abbrev dktX6_write_7 : List UInt8 := dkwX6_write_7 ++ []
def dkwX6_write_6 : List UInt8 := [42, 28, 182, 1, 94, 132, 2, 1, 167, 255, 232, 42, 180, 1, 85, 154, 0, 10, 42, 3, 16, 8]
abbrev dktX6_write_6 : List UInt8 := dkwX6_write_6 ++ dktX6_write_7
def dkwX6_write_5 : List UInt8 := [27, 4, 160, 0, 4, 177, 3, 61, 28, 42, 180, 0, 233, 162, 0, 22, 42, 28, 182, 1, 88, 154, 0, 8]
abbrev dktX6_write_5 : List UInt8 := dkwX6_write_5 ++ dktX6_write_6
def dkwX6_write_4 : List UInt8 := [180, 0, 69, 28, 46, 79, 132, 2, 1, 167, 255, 229, 42, 17, 15, 160, 42, 180, 1, 14, 100, 181, 1, 14]
abbrev dktX6_write_4 : List UInt8 := dkwX6_write_4 ++ dktX6_write_5
def dkwX6_write_3 : List UInt8 := [42, 180, 1, 14, 61, 28, 17, 15, 160, 162, 0, 26, 42, 180, 0, 69, 28, 42, 180, 1, 14, 100, 42]
abbrev dktX6_write_3 : List UInt8 := dkwX6_write_3 ++ dktX6_write_4
def dkwX6_write_2 : List UInt8 := [154, 0, 8, 42, 28, 182, 1, 91, 42, 180, 0, 90, 28, 42, 180, 1, 14, 79, 132, 2, 255, 167, 255, 221]
abbrev dktX6_write_2 : List UInt8 := dkwX6_write_2 ++ dktX6_write_3
def dkwX6_write_1 : List UInt8 := [79, 42, 180, 0, 233, 4, 100, 61, 28, 155, 0, 37, 27, 4, 160, 0, 32, 42, 28, 182, 1, 88]
abbrev dktX6_write_1 : List UInt8 := dkwX6_write_1 ++ dktX6_write_2
def dkwX6_write_0 : List UInt8 := [42, 3, 181, 1, 85, 42, 17, 15, 160, 181, 1, 14, 42, 180, 0, 90, 42, 180, 0, 233, 42, 180, 1, 14]
abbrev dktX6_write_0 : List UInt8 := dkwX6_write_0 ++ dktX6_write_1
theorem dksX6_write_0 : cX6_write.data.toList.drop 0 = dktX6_write_0 := by decide +kernel
theorem dksX6_write_1 : cX6_write.data.toList.drop 24 = dktX6_write_1 := dk_seg dksX6_write_0 24 rfl rfl
theorem dksX6_write_2 : cX6_write.data.toList.drop 46 = dktX6_write_2 := dk_seg dksX6_write_1 22 rfl rfl
theorem dksX6_write_3 : cX6_write.data.toList.drop 70 = dktX6_write_3 := dk_seg dksX6_write_2 24 rfl rfl
theorem dksX6_write_4 : cX6_write.data.toList.drop 93 = dktX6_write_4 := dk_seg dksX6_write_3 23 rfl rfl
theorem dksX6_write_5 : cX6_write.data.toList.drop 117 = dktX6_write_5 := dk_seg dksX6_write_4 24 rfl rfl
theorem dksX6_write_6 : cX6_write.data.toList.drop 141 = dktX6_write_6 := dk_seg dksX6_write_5 24 rfl rfl
theorem dksX6_write_7 : cX6_write.data.toList.drop 163 = dktX6_write_7 := dk_seg dksX6_write_6 22 rfl rfl
theorem dX6_write_0 : decode cX6_write 0 = .ok (.aload_n 0, 1) := dk_42 (dk_at dksX6_write_0 0 rfl rfl)
theorem dX6_write_1 : decode cX6_write 1 = .ok (.iconst 0, 1) := dk_3 (dk_at dksX6_write_0 1 rfl rfl)
theorem dX6_write_2 : decode cX6_write 2 = .ok (.putfield 341, 3) := dk_181 1 85 (dk_at dksX6_write_0 2 rfl rfl)
theorem dX6_write_5 : decode cX6_write 5 = .ok (.aload_n 0, 1) := dk_42 (dk_at dksX6_write_0 5 rfl rfl)
theorem dX6_write_6 : decode cX6_write 6 = .ok (.sipush 4000, 3) := dk_17 15 160 (dk_at dksX6_write_0 6 rfl rfl)
theorem dX6_write_9 : decode cX6_write 9 = .ok (.putfield 270, 3) := dk_181 1 14 (dk_at dksX6_write_0 9 rfl rfl)
theorem dX6_write_12 : decode cX6_write 12 = .ok (.aload_n 0, 1) := dk_42 (dk_at dksX6_write_0 12 rfl rfl)
theorem dX6_write_13 : decode cX6_write 13 = .ok (.getfield 90, 3) := dk_180 0 90 (dk_at dksX6_write_0 13 rfl rfl)
theorem dX6_write_16 : decode cX6_write 16 = .ok (.aload_n 0, 1) := dk_42 (dk_at dksX6_write_0 16 rfl rfl)
theorem dX6_write_17 : decode cX6_write 17 = .ok (.getfield 233, 3) := dk_180 0 233 (dk_at dksX6_write_0 17 rfl rfl)
theorem dX6_write_20 : decode cX6_write 20 = .ok (.aload_n 0, 1) := dk_42 (dk_at dksX6_write_0 20 rfl rfl)
theorem dX6_write_21 : decode cX6_write 21 = .ok (.getfield 270, 3) := dk_180 1 14 (dk_at dksX6_write_0 21 rfl rfl)
theorem dX6_write_24 : decode cX6_write 24 = .ok (.iastore, 1) := dk_79 (dk_at dksX6_write_1 0 rfl rfl)
theorem dX6_write_25 : decode cX6_write 25 = .ok (.aload_n 0, 1) := dk_42 (dk_at dksX6_write_1 1 rfl rfl)
theorem dX6_write_26 : decode cX6_write 26 = .ok (.getfield 233, 3) := dk_180 0 233 (dk_at dksX6_write_1 2 rfl rfl)
theorem dX6_write_29 : decode cX6_write 29 = .ok (.iconst 1, 1) := dk_4 (dk_at dksX6_write_1 5 rfl rfl)
theorem dX6_write_30 : decode cX6_write 30 = .ok (.isub, 1) := dk_100 (dk_at dksX6_write_1 6 rfl rfl)
theorem dX6_write_31 : decode cX6_write 31 = .ok (.istore_n 2, 1) := dk_61 (dk_at dksX6_write_1 7 rfl rfl)
theorem dX6_write_32 : decode cX6_write 32 = .ok (.iload_n 2, 1) := dk_28 (dk_at dksX6_write_1 8 rfl rfl)
theorem dX6_write_33 : decode cX6_write 33 = .ok (.ifCond .lt 37, 3) := dk_155 0 37 (dk_at dksX6_write_1 9 rfl rfl)
theorem dX6_write_36 : decode cX6_write 36 = .ok (.iload_n 1, 1) := dk_27 (dk_at dksX6_write_1 12 rfl rfl)
theorem dX6_write_37 : decode cX6_write 37 = .ok (.iconst 1, 1) := dk_4 (dk_at dksX6_write_1 13 rfl rfl)
theorem dX6_write_38 : decode cX6_write 38 = .ok (.if_icmp .ne 32, 3) := dk_160 0 32 (dk_at dksX6_write_1 14 rfl rfl)
theorem dX6_write_41 : decode cX6_write 41 = .ok (.aload_n 0, 1) := dk_42 (dk_at dksX6_write_1 17 rfl rfl)
theorem dX6_write_42 : decode cX6_write 42 = .ok (.iload_n 2, 1) := dk_28 (dk_at dksX6_write_1 18 rfl rfl)
theorem dX6_write_43 : decode cX6_write 43 = .ok (.invokevirtual 344, 3) := dk_182 1 88 (dk_at dksX6_write_1 19 rfl rfl)
theorem dX6_write_46 : decode cX6_write 46 = .ok (.ifCond .ne 8, 3) := dk_154 0 8 (dk_at dksX6_write_2 0 rfl rfl)
theorem dX6_write_49 : decode cX6_write 49 = .ok (.aload_n 0, 1) := dk_42 (dk_at dksX6_write_2 3 rfl rfl)
theorem dX6_write_50 : decode cX6_write 50 = .ok (.iload_n 2, 1) := dk_28 (dk_at dksX6_write_2 4 rfl rfl)
theorem dX6_write_51 : decode cX6_write 51 = .ok (.invokevirtual 347, 3) := dk_182 1 91 (dk_at dksX6_write_2 5 rfl rfl)
theorem dX6_write_54 : decode cX6_write 54 = .ok (.aload_n 0, 1) := dk_42 (dk_at dksX6_write_2 8 rfl rfl)
theorem dX6_write_55 : decode cX6_write 55 = .ok (.getfield 90, 3) := dk_180 0 90 (dk_at dksX6_write_2 9 rfl rfl)
theorem dX6_write_58 : decode cX6_write 58 = .ok (.iload_n 2, 1) := dk_28 (dk_at dksX6_write_2 12 rfl rfl)
theorem dX6_write_59 : decode cX6_write 59 = .ok (.aload_n 0, 1) := dk_42 (dk_at dksX6_write_2 13 rfl rfl)
theorem dX6_write_60 : decode cX6_write 60 = .ok (.getfield 270, 3) := dk_180 1 14 (dk_at dksX6_write_2 14 rfl rfl)
theorem dX6_write_63 : decode cX6_write 63 = .ok (.iastore, 1) := dk_79 (dk_at dksX6_write_2 17 rfl rfl)
theorem dX6_write_64 : decode cX6_write 64 = .ok (.iinc 2 (-1), 3) := dk_132 2 255 (dk_at dksX6_write_2 18 rfl rfl)
theorem dX6_write_67 : decode cX6_write 67 = .ok (.goto (-35), 3) := dk_167 255 221 (dk_at dksX6_write_2 21 rfl rfl)
theorem dX6_write_70 : decode cX6_write 70 = .ok (.aload_n 0, 1) := dk_42 (dk_at dksX6_write_3 0 rfl rfl)
theorem dX6_write_71 : decode cX6_write 71 = .ok (.getfield 270, 3) := dk_180 1 14 (dk_at dksX6_write_3 1 rfl rfl)
theorem dX6_write_74 : decode cX6_write 74 = .ok (.istore_n 2, 1) := dk_61 (dk_at dksX6_write_3 4 rfl rfl)
theorem dX6_write_75 : decode cX6_write 75 = .ok (.iload_n 2, 1) := dk_28 (dk_at dksX6_write_3 5 rfl rfl)
theorem dX6_write_76 : decode cX6_write 76 = .ok (.sipush 4000, 3) := dk_17 15 160 (dk_at dksX6_write_3 6 rfl rfl)
theorem dX6_write_79 : decode cX6_write 79 = .ok (.if_icmp .ge 26, 3) := dk_162 0 26 (dk_at dksX6_write_3 9 rfl rfl)
theorem dX6_write_82 : decode cX6_write 82 = .ok (.aload_n 0, 1) := dk_42 (dk_at dksX6_write_3 12 rfl rfl)
theorem dX6_write_83 : decode cX6_write 83 = .ok (.getfield 69, 3) := dk_180 0 69 (dk_at dksX6_write_3 13 rfl rfl)
theorem dX6_write_86 : decode cX6_write 86 = .ok (.iload_n 2, 1) := dk_28 (dk_at dksX6_write_3 16 rfl rfl)
theorem dX6_write_87 : decode cX6_write 87 = .ok (.aload_n 0, 1) := dk_42 (dk_at dksX6_write_3 17 rfl rfl)
theorem dX6_write_88 : decode cX6_write 88 = .ok (.getfield 270, 3) := dk_180 1 14 (dk_at dksX6_write_3 18 rfl rfl)
theorem dX6_write_91 : decode cX6_write 91 = .ok (.isub, 1) := dk_100 (dk_at dksX6_write_3 21 rfl rfl)
theorem dX6_write_92 : decode cX6_write 92 = .ok (.aload_n 0, 1) := dk_42 (dk_at dksX6_write_3 22 rfl rfl)
theorem dX6_write_93 : decode cX6_write 93 = .ok (.getfield 69, 3) := dk_180 0 69 (dk_at dksX6_write_4 0 rfl rfl)
theorem dX6_write_96 : decode cX6_write 96 = .ok (.iload_n 2, 1) := dk_28 (dk_at dksX6_write_4 3 rfl rfl)
theorem dX6_write_97 : decode cX6_write 97 = .ok (.iaload, 1) := dk_46 (dk_at dksX6_write_4 4 rfl rfl)
theorem dX6_write_98 : decode cX6_write 98 = .ok (.iastore, 1) := dk_79 (dk_at dksX6_write_4 5 rfl rfl)
theorem dX6_write_99 : decode cX6_write 99 = .ok (.iinc 2 1, 3) := dk_132 2 1 (dk_at dksX6_write_4 6 rfl rfl)
theorem dX6_write_102 : decode cX6_write 102 = .ok (.goto (-27), 3) := dk_167 255 229 (dk_at dksX6_write_4 9 rfl rfl)
theorem dX6_write_105 : decode cX6_write 105 = .ok (.aload_n 0, 1) := dk_42 (dk_at dksX6_write_4 12 rfl rfl)
theorem dX6_write_106 : decode cX6_write 106 = .ok (.sipush 4000, 3) := dk_17 15 160 (dk_at dksX6_write_4 13 rfl rfl)
theorem dX6_write_109 : decode cX6_write 109 = .ok (.aload_n 0, 1) := dk_42 (dk_at dksX6_write_4 16 rfl rfl)
theorem dX6_write_110 : decode cX6_write 110 = .ok (.getfield 270, 3) := dk_180 1 14 (dk_at dksX6_write_4 17 rfl rfl)
theorem dX6_write_113 : decode cX6_write 113 = .ok (.isub, 1) := dk_100 (dk_at dksX6_write_4 20 rfl rfl)
theorem dX6_write_114 : decode cX6_write 114 = .ok (.putfield 270, 3) := dk_181 1 14 (dk_at dksX6_write_4 21 rfl rfl)
theorem dX6_write_117 : decode cX6_write 117 = .ok (.iload_n 1, 1) := dk_27 (dk_at dksX6_write_5 0 rfl rfl)
theorem dX6_write_118 : decode cX6_write 118 = .ok (.iconst 1, 1) := dk_4 (dk_at dksX6_write_5 1 rfl rfl)
theorem dX6_write_119 : decode cX6_write 119 = .ok (.if_icmp .ne 4, 3) := dk_160 0 4 (dk_at dksX6_write_5 2 rfl rfl)
theorem dX6_write_122 : decode cX6_write 122 = .ok (.return_, 1) := dk_177 (dk_at dksX6_write_5 5 rfl rfl)
theorem dX6_write_123 : decode cX6_write 123 = .ok (.iconst 0, 1) := dk_3 (dk_at dksX6_write_5 6 rfl rfl)
theorem dX6_write_124 : decode cX6_write 124 = .ok (.istore_n 2, 1) := dk_61 (dk_at dksX6_write_5 7 rfl rfl)
theorem dX6_write_125 : decode cX6_write 125 = .ok (.iload_n 2, 1) := dk_28 (dk_at dksX6_write_5 8 rfl rfl)
theorem dX6_write_126 : decode cX6_write 126 = .ok (.aload_n 0, 1) := dk_42 (dk_at dksX6_write_5 9 rfl rfl)
theorem dX6_write_127 : decode cX6_write 127 = .ok (.getfield 233, 3) := dk_180 0 233 (dk_at dksX6_write_5 10 rfl rfl)
theorem dX6_write_130 : decode cX6_write 130 = .ok (.if_icmp .ge 22, 3) := dk_162 0 22 (dk_at dksX6_write_5 13 rfl rfl)
theorem dX6_write_133 : decode cX6_write 133 = .ok (.aload_n 0, 1) := dk_42 (dk_at dksX6_write_5 16 rfl rfl)
theorem dX6_write_134 : decode cX6_write 134 = .ok (.iload_n 2, 1) := dk_28 (dk_at dksX6_write_5 17 rfl rfl)
theorem dX6_write_135 : decode cX6_write 135 = .ok (.invokevirtual 344, 3) := dk_182 1 88 (dk_at dksX6_write_5 18 rfl rfl)
theorem dX6_write_138 : decode cX6_write 138 = .ok (.ifCond .ne 8, 3) := dk_154 0 8 (dk_at dksX6_write_5 21 rfl rfl)
theorem dX6_write_141 : decode cX6_write 141 = .ok (.aload_n 0, 1) := dk_42 (dk_at dksX6_write_6 0 rfl rfl)
theorem dX6_write_142 : decode cX6_write 142 = .ok (.iload_n 2, 1) := dk_28 (dk_at dksX6_write_6 1 rfl rfl)
theorem dX6_write_143 : decode cX6_write 143 = .ok (.invokevirtual 350, 3) := dk_182 1 94 (dk_at dksX6_write_6 2 rfl rfl)
theorem dX6_write_146 : decode cX6_write 146 = .ok (.iinc 2 1, 3) := dk_132 2 1 (dk_at dksX6_write_6 5 rfl rfl)
theorem dX6_write_149 : decode cX6_write 149 = .ok (.goto (-24), 3) := dk_167 255 232 (dk_at dksX6_write_6 8 rfl rfl)
theorem dX6_write_152 : decode cX6_write 152 = .ok (.aload_n 0, 1) := dk_42 (dk_at dksX6_write_6 11 rfl rfl)
theorem dX6_write_153 : decode cX6_write 153 = .ok (.getfield 341, 3) := dk_180 1 85 (dk_at dksX6_write_6 12 rfl rfl)
theorem dX6_write_156 : decode cX6_write 156 = .ok (.ifCond .ne 10, 3) := dk_154 0 10 (dk_at dksX6_write_6 15 rfl rfl)
theorem dX6_write_159 : decode cX6_write 159 = .ok (.aload_n 0, 1) := dk_42 (dk_at dksX6_write_6 18 rfl rfl)
theorem dX6_write_160 : decode cX6_write 160 = .ok (.iconst 0, 1) := dk_3 (dk_at dksX6_write_6 19 rfl rfl)
theorem dX6_write_161 : decode cX6_write 161 = .ok (.bipush 8, 2) := dk_16 8 (dk_at dksX6_write_6 20 rfl rfl)
theorem dX6_write_163 : decode cX6_write 163 = .ok (.invokevirtual 353, 3) := dk_182 1 97 (dk_at dksX6_write_7 0 rfl rfl)
theorem dX6_write_166 : decode cX6_write 166 = .ok (.aload_n 0, 1) := dk_42 (dk_at dksX6_write_7 3 rfl rfl)
theorem dX6_write_167 : decode cX6_write 167 = .ok (.aload_n 0, 1) := dk_42 (dk_at dksX6_write_7 4 rfl rfl)
theorem dX6_write_168 : decode cX6_write 168 = .ok (.getfield 341, 3) := dk_180 1 85 (dk_at dksX6_write_7 5 rfl rfl)
theorem dX6_write_171 : decode cX6_write 171 = .ok (.bipush 7, 2) := dk_16 7 (dk_at dksX6_write_7 8 rfl rfl)
theorem dX6_write_173 : decode cX6_write 173 = .ok (.iadd, 1) := dk_96 (dk_at dksX6_write_7 10 rfl rfl)
theorem dX6_write_174 : decode cX6_write 174 = .ok (.bipush 8, 2) := dk_16 8 (dk_at dksX6_write_7 11 rfl rfl)
theorem dX6_write_176 : decode cX6_write 176 = .ok (.idiv, 1) := dk_108 (dk_at dksX6_write_7 13 rfl rfl)
theorem dX6_write_177 : decode cX6_write 177 = .ok (.putfield 270, 3) := dk_181 1 14 (dk_at dksX6_write_7 14 rfl rfl)
theorem dX6_write_180 : decode cX6_write 180 = .ok (.return_, 1) := dk_177 (dk_at dksX6_write_7 17 rfl rfl)
abbrev cX6_isLeft : ByteArray := prog_18_method_53_code
def yX6_isLeft : MethodName := ⟨RX6, "isLeft", "(I)Z"⟩
def dkwX6_isLeft_3 : List UInt8 := [4, 167, 0, 4, 3, 172]
abbrev dktX6_isLeft_3 : List UInt8 := dkwX6_isLeft_3 ++ []
def dkwX6_isLeft_2 : List UInt8 := [180, 0, 51, 29, 46, 5, 160, 0, 22, 42, 180, 0, 54, 29, 46, 42, 180, 0, 75, 27, 46, 160, 0, 7]
abbrev dktX6_isLeft_2 : List UInt8 := dkwX6_isLeft_2 ++ dktX6_isLeft_3
def dkwX6_isLeft_1 : List UInt8 := [28, 104, 42, 180, 0, 78, 27, 46, 96, 62, 42, 180, 0, 20, 28, 46, 16, 6, 160, 0, 32, 42]
abbrev dktX6_isLeft_1 : List UInt8 := dkwX6_isLeft_1 ++ dktX6_isLeft_2
def dkwX6_isLeft_0 : List UInt8 := [42, 180, 0, 81, 27, 46, 156, 0, 5, 3, 172, 42, 42, 180, 0, 81, 27, 46, 182, 1, 52, 61, 16, 6]
abbrev dktX6_isLeft_0 : List UInt8 := dkwX6_isLeft_0 ++ dktX6_isLeft_1
theorem dksX6_isLeft_0 : cX6_isLeft.data.toList.drop 0 = dktX6_isLeft_0 := by decide +kernel
theorem dksX6_isLeft_1 : cX6_isLeft.data.toList.drop 24 = dktX6_isLeft_1 := dk_seg dksX6_isLeft_0 24 rfl rfl
theorem dksX6_isLeft_2 : cX6_isLeft.data.toList.drop 46 = dktX6_isLeft_2 := dk_seg dksX6_isLeft_1 22 rfl rfl
theorem dksX6_isLeft_3 : cX6_isLeft.data.toList.drop 70 = dktX6_isLeft_3 := dk_seg dksX6_isLeft_2 24 rfl rfl
theorem dX6_isLeft_0 : decode cX6_isLeft 0 = .ok (.aload_n 0, 1) := dk_42 (dk_at dksX6_isLeft_0 0 rfl rfl)
theorem dX6_isLeft_1 : decode cX6_isLeft 1 = .ok (.getfield 81, 3) := dk_180 0 81 (dk_at dksX6_isLeft_0 1 rfl rfl)
theorem dX6_isLeft_4 : decode cX6_isLeft 4 = .ok (.iload_n 1, 1) := dk_27 (dk_at dksX6_isLeft_0 4 rfl rfl)
theorem dX6_isLeft_5 : decode cX6_isLeft 5 = .ok (.iaload, 1) := dk_46 (dk_at dksX6_isLeft_0 5 rfl rfl)
theorem dX6_isLeft_6 : decode cX6_isLeft 6 = .ok (.ifCond .ge 5, 3) := dk_156 0 5 (dk_at dksX6_isLeft_0 6 rfl rfl)
theorem dX6_isLeft_9 : decode cX6_isLeft 9 = .ok (.iconst 0, 1) := dk_3 (dk_at dksX6_isLeft_0 9 rfl rfl)
theorem dX6_isLeft_10 : decode cX6_isLeft 10 = .ok (.ireturn, 1) := dk_172 (dk_at dksX6_isLeft_0 10 rfl rfl)
theorem dX6_isLeft_11 : decode cX6_isLeft 11 = .ok (.aload_n 0, 1) := dk_42 (dk_at dksX6_isLeft_0 11 rfl rfl)
theorem dX6_isLeft_12 : decode cX6_isLeft 12 = .ok (.aload_n 0, 1) := dk_42 (dk_at dksX6_isLeft_0 12 rfl rfl)
theorem dX6_isLeft_13 : decode cX6_isLeft 13 = .ok (.getfield 81, 3) := dk_180 0 81 (dk_at dksX6_isLeft_0 13 rfl rfl)
theorem dX6_isLeft_16 : decode cX6_isLeft 16 = .ok (.iload_n 1, 1) := dk_27 (dk_at dksX6_isLeft_0 16 rfl rfl)
theorem dX6_isLeft_17 : decode cX6_isLeft 17 = .ok (.iaload, 1) := dk_46 (dk_at dksX6_isLeft_0 17 rfl rfl)
theorem dX6_isLeft_18 : decode cX6_isLeft 18 = .ok (.invokevirtual 308, 3) := dk_182 1 52 (dk_at dksX6_isLeft_0 18 rfl rfl)
theorem dX6_isLeft_21 : decode cX6_isLeft 21 = .ok (.istore_n 2, 1) := dk_61 (dk_at dksX6_isLeft_0 21 rfl rfl)
theorem dX6_isLeft_22 : decode cX6_isLeft 22 = .ok (.bipush 6, 2) := dk_16 6 (dk_at dksX6_isLeft_0 22 rfl rfl)
theorem dX6_isLeft_24 : decode cX6_isLeft 24 = .ok (.iload_n 2, 1) := dk_28 (dk_at dksX6_isLeft_1 0 rfl rfl)
theorem dX6_isLeft_25 : decode cX6_isLeft 25 = .ok (.imul, 1) := dk_104 (dk_at dksX6_isLeft_1 1 rfl rfl)
theorem dX6_isLeft_26 : decode cX6_isLeft 26 = .ok (.aload_n 0, 1) := dk_42 (dk_at dksX6_isLeft_1 2 rfl rfl)
theorem dX6_isLeft_27 : decode cX6_isLeft 27 = .ok (.getfield 78, 3) := dk_180 0 78 (dk_at dksX6_isLeft_1 3 rfl rfl)
theorem dX6_isLeft_30 : decode cX6_isLeft 30 = .ok (.iload_n 1, 1) := dk_27 (dk_at dksX6_isLeft_1 6 rfl rfl)
theorem dX6_isLeft_31 : decode cX6_isLeft 31 = .ok (.iaload, 1) := dk_46 (dk_at dksX6_isLeft_1 7 rfl rfl)
theorem dX6_isLeft_32 : decode cX6_isLeft 32 = .ok (.iadd, 1) := dk_96 (dk_at dksX6_isLeft_1 8 rfl rfl)
theorem dX6_isLeft_33 : decode cX6_isLeft 33 = .ok (.istore_n 3, 1) := dk_62 (dk_at dksX6_isLeft_1 9 rfl rfl)
theorem dX6_isLeft_34 : decode cX6_isLeft 34 = .ok (.aload_n 0, 1) := dk_42 (dk_at dksX6_isLeft_1 10 rfl rfl)
theorem dX6_isLeft_35 : decode cX6_isLeft 35 = .ok (.getfield 20, 3) := dk_180 0 20 (dk_at dksX6_isLeft_1 11 rfl rfl)
theorem dX6_isLeft_38 : decode cX6_isLeft 38 = .ok (.iload_n 2, 1) := dk_28 (dk_at dksX6_isLeft_1 14 rfl rfl)
theorem dX6_isLeft_39 : decode cX6_isLeft 39 = .ok (.iaload, 1) := dk_46 (dk_at dksX6_isLeft_1 15 rfl rfl)
theorem dX6_isLeft_40 : decode cX6_isLeft 40 = .ok (.bipush 6, 2) := dk_16 6 (dk_at dksX6_isLeft_1 16 rfl rfl)
theorem dX6_isLeft_42 : decode cX6_isLeft 42 = .ok (.if_icmp .ne 32, 3) := dk_160 0 32 (dk_at dksX6_isLeft_1 18 rfl rfl)
theorem dX6_isLeft_45 : decode cX6_isLeft 45 = .ok (.aload_n 0, 1) := dk_42 (dk_at dksX6_isLeft_1 21 rfl rfl)
theorem dX6_isLeft_46 : decode cX6_isLeft 46 = .ok (.getfield 51, 3) := dk_180 0 51 (dk_at dksX6_isLeft_2 0 rfl rfl)
theorem dX6_isLeft_49 : decode cX6_isLeft 49 = .ok (.iload_n 3, 1) := dk_29 (dk_at dksX6_isLeft_2 3 rfl rfl)
theorem dX6_isLeft_50 : decode cX6_isLeft 50 = .ok (.iaload, 1) := dk_46 (dk_at dksX6_isLeft_2 4 rfl rfl)
theorem dX6_isLeft_51 : decode cX6_isLeft 51 = .ok (.iconst 2, 1) := dk_5 (dk_at dksX6_isLeft_2 5 rfl rfl)
theorem dX6_isLeft_52 : decode cX6_isLeft 52 = .ok (.if_icmp .ne 22, 3) := dk_160 0 22 (dk_at dksX6_isLeft_2 6 rfl rfl)
theorem dX6_isLeft_55 : decode cX6_isLeft 55 = .ok (.aload_n 0, 1) := dk_42 (dk_at dksX6_isLeft_2 9 rfl rfl)
theorem dX6_isLeft_56 : decode cX6_isLeft 56 = .ok (.getfield 54, 3) := dk_180 0 54 (dk_at dksX6_isLeft_2 10 rfl rfl)
theorem dX6_isLeft_59 : decode cX6_isLeft 59 = .ok (.iload_n 3, 1) := dk_29 (dk_at dksX6_isLeft_2 13 rfl rfl)
theorem dX6_isLeft_60 : decode cX6_isLeft 60 = .ok (.iaload, 1) := dk_46 (dk_at dksX6_isLeft_2 14 rfl rfl)
theorem dX6_isLeft_61 : decode cX6_isLeft 61 = .ok (.aload_n 0, 1) := dk_42 (dk_at dksX6_isLeft_2 15 rfl rfl)
theorem dX6_isLeft_62 : decode cX6_isLeft 62 = .ok (.getfield 75, 3) := dk_180 0 75 (dk_at dksX6_isLeft_2 16 rfl rfl)
theorem dX6_isLeft_65 : decode cX6_isLeft 65 = .ok (.iload_n 1, 1) := dk_27 (dk_at dksX6_isLeft_2 19 rfl rfl)
theorem dX6_isLeft_66 : decode cX6_isLeft 66 = .ok (.iaload, 1) := dk_46 (dk_at dksX6_isLeft_2 20 rfl rfl)
theorem dX6_isLeft_67 : decode cX6_isLeft 67 = .ok (.if_icmp .ne 7, 3) := dk_160 0 7 (dk_at dksX6_isLeft_2 21 rfl rfl)
theorem dX6_isLeft_70 : decode cX6_isLeft 70 = .ok (.iconst 1, 1) := dk_4 (dk_at dksX6_isLeft_3 0 rfl rfl)
theorem dX6_isLeft_71 : decode cX6_isLeft 71 = .ok (.goto 4, 3) := dk_167 0 4 (dk_at dksX6_isLeft_3 1 rfl rfl)
theorem dX6_isLeft_74 : decode cX6_isLeft 74 = .ok (.iconst 0, 1) := dk_3 (dk_at dksX6_isLeft_3 4 rfl rfl)
theorem dX6_isLeft_75 : decode cX6_isLeft 75 = .ok (.ireturn, 1) := dk_172 (dk_at dksX6_isLeft_3 5 rfl rfl)
abbrev cX6_encode : ByteArray := prog_18_method_56_code
def yX6_encode : MethodName := ⟨RX6, "encode", "(I)V"⟩
def dkwX6_encode_9 : List UInt8 := [46, 182, 1, 82, 132, 3, 1, 167, 255, 159, 177]
abbrev dktX6_encode_9 : List UInt8 := dkwX6_encode_9 ++ []
def dkwX6_encode_8 : List UInt8 := [182, 1, 82, 21, 4, 17, 0, 255, 164, 0, 10, 42, 17, 0, 130, 182, 1, 82, 42, 42, 180, 0, 57, 29]
abbrev dktX6_encode_8 : List UInt8 := dkwX6_encode_8 ++ dktX6_encode_9
def dkwX6_encode_7 : List UInt8 := [164, 0, 27, 42, 21, 4, 17, 0, 255, 164, 0, 12, 21, 4, 17, 1, 0, 108, 167, 0, 6, 17, 0, 129]
abbrev dktX6_encode_7 : List UInt8 := dkwX6_encode_7 ++ dktX6_encode_8
def dkwX6_encode_6 : List UInt8 := [96, 46, 42, 180, 1, 14, 100, 54, 4, 42, 21, 4, 17, 1, 0, 112, 182, 1, 82, 21, 4, 16, 127]
abbrev dktX6_encode_6 : List UInt8 := dkwX6_encode_6 ++ dktX6_encode_7
def dkwX6_encode_5 : List UInt8 := [182, 1, 82, 3, 62, 29, 42, 180, 0, 225, 162, 0, 95, 42, 180, 0, 90, 27, 42, 180, 0, 87, 27, 46]
abbrev dktX6_encode_5 : List UInt8 := dkwX6_encode_5 ++ dktX6_encode_6
def dkwX6_encode_4 : List UInt8 := [132, 3, 1, 167, 255, 216, 28, 4, 160, 0, 17, 42, 17, 0, 255, 42, 180, 0, 75, 27, 46, 104]
abbrev dktX6_encode_4 : List UInt8 := dkwX6_encode_4 ++ dktX6_encode_5
def dkwX6_encode_3 : List UInt8 := [160, 0, 28, 42, 42, 180, 0, 75, 27, 46, 16, 8, 29, 104, 122, 17, 0, 255, 126, 182, 1, 82]
abbrev dktX6_encode_3 : List UInt8 := dkwX6_encode_3 ++ dktX6_encode_4
def dkwX6_encode_2 : List UInt8 := [132, 3, 255, 167, 255, 227, 3, 62, 29, 42, 180, 0, 75, 27, 46, 184, 1, 44, 162, 0, 33, 28, 5]
abbrev dktX6_encode_2 : List UInt8 := dkwX6_encode_2 ++ dktX6_encode_3
def dkwX6_encode_1 : List UInt8 := [28, 7, 160, 0, 26, 42, 42, 180, 0, 93, 42, 180, 0, 84, 27, 46, 29, 96, 46, 182, 1, 82]
abbrev dktX6_encode_1 : List UInt8 := dkwX6_encode_1 ++ dktX6_encode_2
def dkwX6_encode_0 : List UInt8 := [42, 180, 0, 20, 42, 27, 182, 1, 52, 46, 61, 42, 180, 0, 75, 27, 46, 4, 100, 62, 29, 155, 0, 31]
abbrev dktX6_encode_0 : List UInt8 := dkwX6_encode_0 ++ dktX6_encode_1
theorem dksX6_encode_0 : cX6_encode.data.toList.drop 0 = dktX6_encode_0 := by decide +kernel
theorem dksX6_encode_1 : cX6_encode.data.toList.drop 24 = dktX6_encode_1 := dk_seg dksX6_encode_0 24 rfl rfl
theorem dksX6_encode_2 : cX6_encode.data.toList.drop 46 = dktX6_encode_2 := dk_seg dksX6_encode_1 22 rfl rfl
theorem dksX6_encode_3 : cX6_encode.data.toList.drop 69 = dktX6_encode_3 := dk_seg dksX6_encode_2 23 rfl rfl
theorem dksX6_encode_4 : cX6_encode.data.toList.drop 91 = dktX6_encode_4 := dk_seg dksX6_encode_3 22 rfl rfl
theorem dksX6_encode_5 : cX6_encode.data.toList.drop 113 = dktX6_encode_5 := dk_seg dksX6_encode_4 22 rfl rfl
theorem dksX6_encode_6 : cX6_encode.data.toList.drop 137 = dktX6_encode_6 := dk_seg dksX6_encode_5 24 rfl rfl
theorem dksX6_encode_7 : cX6_encode.data.toList.drop 160 = dktX6_encode_7 := dk_seg dksX6_encode_6 23 rfl rfl
theorem dksX6_encode_8 : cX6_encode.data.toList.drop 184 = dktX6_encode_8 := dk_seg dksX6_encode_7 24 rfl rfl
theorem dksX6_encode_9 : cX6_encode.data.toList.drop 208 = dktX6_encode_9 := dk_seg dksX6_encode_8 24 rfl rfl
theorem dX6_encode_0 : decode cX6_encode 0 = .ok (.aload_n 0, 1) := dk_42 (dk_at dksX6_encode_0 0 rfl rfl)
theorem dX6_encode_1 : decode cX6_encode 1 = .ok (.getfield 20, 3) := dk_180 0 20 (dk_at dksX6_encode_0 1 rfl rfl)
theorem dX6_encode_4 : decode cX6_encode 4 = .ok (.aload_n 0, 1) := dk_42 (dk_at dksX6_encode_0 4 rfl rfl)
theorem dX6_encode_5 : decode cX6_encode 5 = .ok (.iload_n 1, 1) := dk_27 (dk_at dksX6_encode_0 5 rfl rfl)
theorem dX6_encode_6 : decode cX6_encode 6 = .ok (.invokevirtual 308, 3) := dk_182 1 52 (dk_at dksX6_encode_0 6 rfl rfl)
theorem dX6_encode_9 : decode cX6_encode 9 = .ok (.iaload, 1) := dk_46 (dk_at dksX6_encode_0 9 rfl rfl)
theorem dX6_encode_10 : decode cX6_encode 10 = .ok (.istore_n 2, 1) := dk_61 (dk_at dksX6_encode_0 10 rfl rfl)
theorem dX6_encode_11 : decode cX6_encode 11 = .ok (.aload_n 0, 1) := dk_42 (dk_at dksX6_encode_0 11 rfl rfl)
theorem dX6_encode_12 : decode cX6_encode 12 = .ok (.getfield 75, 3) := dk_180 0 75 (dk_at dksX6_encode_0 12 rfl rfl)
theorem dX6_encode_15 : decode cX6_encode 15 = .ok (.iload_n 1, 1) := dk_27 (dk_at dksX6_encode_0 15 rfl rfl)
theorem dX6_encode_16 : decode cX6_encode 16 = .ok (.iaload, 1) := dk_46 (dk_at dksX6_encode_0 16 rfl rfl)
theorem dX6_encode_17 : decode cX6_encode 17 = .ok (.iconst 1, 1) := dk_4 (dk_at dksX6_encode_0 17 rfl rfl)
theorem dX6_encode_18 : decode cX6_encode 18 = .ok (.isub, 1) := dk_100 (dk_at dksX6_encode_0 18 rfl rfl)
theorem dX6_encode_19 : decode cX6_encode 19 = .ok (.istore_n 3, 1) := dk_62 (dk_at dksX6_encode_0 19 rfl rfl)
theorem dX6_encode_20 : decode cX6_encode 20 = .ok (.iload_n 3, 1) := dk_29 (dk_at dksX6_encode_0 20 rfl rfl)
theorem dX6_encode_21 : decode cX6_encode 21 = .ok (.ifCond .lt 31, 3) := dk_155 0 31 (dk_at dksX6_encode_0 21 rfl rfl)
theorem dX6_encode_24 : decode cX6_encode 24 = .ok (.iload_n 2, 1) := dk_28 (dk_at dksX6_encode_1 0 rfl rfl)
theorem dX6_encode_25 : decode cX6_encode 25 = .ok (.iconst 4, 1) := dk_7 (dk_at dksX6_encode_1 1 rfl rfl)
theorem dX6_encode_26 : decode cX6_encode 26 = .ok (.if_icmp .ne 26, 3) := dk_160 0 26 (dk_at dksX6_encode_1 2 rfl rfl)
theorem dX6_encode_29 : decode cX6_encode 29 = .ok (.aload_n 0, 1) := dk_42 (dk_at dksX6_encode_1 5 rfl rfl)
theorem dX6_encode_30 : decode cX6_encode 30 = .ok (.aload_n 0, 1) := dk_42 (dk_at dksX6_encode_1 6 rfl rfl)
theorem dX6_encode_31 : decode cX6_encode 31 = .ok (.getfield 93, 3) := dk_180 0 93 (dk_at dksX6_encode_1 7 rfl rfl)
theorem dX6_encode_34 : decode cX6_encode 34 = .ok (.aload_n 0, 1) := dk_42 (dk_at dksX6_encode_1 10 rfl rfl)
theorem dX6_encode_35 : decode cX6_encode 35 = .ok (.getfield 84, 3) := dk_180 0 84 (dk_at dksX6_encode_1 11 rfl rfl)
theorem dX6_encode_38 : decode cX6_encode 38 = .ok (.iload_n 1, 1) := dk_27 (dk_at dksX6_encode_1 14 rfl rfl)
theorem dX6_encode_39 : decode cX6_encode 39 = .ok (.iaload, 1) := dk_46 (dk_at dksX6_encode_1 15 rfl rfl)
theorem dX6_encode_40 : decode cX6_encode 40 = .ok (.iload_n 3, 1) := dk_29 (dk_at dksX6_encode_1 16 rfl rfl)
theorem dX6_encode_41 : decode cX6_encode 41 = .ok (.iadd, 1) := dk_96 (dk_at dksX6_encode_1 17 rfl rfl)
theorem dX6_encode_42 : decode cX6_encode 42 = .ok (.iaload, 1) := dk_46 (dk_at dksX6_encode_1 18 rfl rfl)
theorem dX6_encode_43 : decode cX6_encode 43 = .ok (.invokevirtual 338, 3) := dk_182 1 82 (dk_at dksX6_encode_1 19 rfl rfl)
theorem dX6_encode_46 : decode cX6_encode 46 = .ok (.iinc 3 (-1), 3) := dk_132 3 255 (dk_at dksX6_encode_2 0 rfl rfl)
theorem dX6_encode_49 : decode cX6_encode 49 = .ok (.goto (-29), 3) := dk_167 255 227 (dk_at dksX6_encode_2 3 rfl rfl)
theorem dX6_encode_52 : decode cX6_encode 52 = .ok (.iconst 0, 1) := dk_3 (dk_at dksX6_encode_2 6 rfl rfl)
theorem dX6_encode_53 : decode cX6_encode 53 = .ok (.istore_n 3, 1) := dk_62 (dk_at dksX6_encode_2 7 rfl rfl)
theorem dX6_encode_54 : decode cX6_encode 54 = .ok (.iload_n 3, 1) := dk_29 (dk_at dksX6_encode_2 8 rfl rfl)
theorem dX6_encode_55 : decode cX6_encode 55 = .ok (.aload_n 0, 1) := dk_42 (dk_at dksX6_encode_2 9 rfl rfl)
theorem dX6_encode_56 : decode cX6_encode 56 = .ok (.getfield 75, 3) := dk_180 0 75 (dk_at dksX6_encode_2 10 rfl rfl)
theorem dX6_encode_59 : decode cX6_encode 59 = .ok (.iload_n 1, 1) := dk_27 (dk_at dksX6_encode_2 13 rfl rfl)
theorem dX6_encode_60 : decode cX6_encode 60 = .ok (.iaload, 1) := dk_46 (dk_at dksX6_encode_2 14 rfl rfl)
theorem dX6_encode_61 : decode cX6_encode 61 = .ok (.invokestatic 300, 3) := dk_184 1 44 (dk_at dksX6_encode_2 15 rfl rfl)
theorem dX6_encode_64 : decode cX6_encode 64 = .ok (.if_icmp .ge 33, 3) := dk_162 0 33 (dk_at dksX6_encode_2 18 rfl rfl)
theorem dX6_encode_67 : decode cX6_encode 67 = .ok (.iload_n 2, 1) := dk_28 (dk_at dksX6_encode_2 21 rfl rfl)
theorem dX6_encode_68 : decode cX6_encode 68 = .ok (.iconst 2, 1) := dk_5 (dk_at dksX6_encode_2 22 rfl rfl)
theorem dX6_encode_69 : decode cX6_encode 69 = .ok (.if_icmp .ne 28, 3) := dk_160 0 28 (dk_at dksX6_encode_3 0 rfl rfl)
theorem dX6_encode_72 : decode cX6_encode 72 = .ok (.aload_n 0, 1) := dk_42 (dk_at dksX6_encode_3 3 rfl rfl)
theorem dX6_encode_73 : decode cX6_encode 73 = .ok (.aload_n 0, 1) := dk_42 (dk_at dksX6_encode_3 4 rfl rfl)
theorem dX6_encode_74 : decode cX6_encode 74 = .ok (.getfield 75, 3) := dk_180 0 75 (dk_at dksX6_encode_3 5 rfl rfl)
theorem dX6_encode_77 : decode cX6_encode 77 = .ok (.iload_n 1, 1) := dk_27 (dk_at dksX6_encode_3 8 rfl rfl)
theorem dX6_encode_78 : decode cX6_encode 78 = .ok (.iaload, 1) := dk_46 (dk_at dksX6_encode_3 9 rfl rfl)
theorem dX6_encode_79 : decode cX6_encode 79 = .ok (.bipush 8, 2) := dk_16 8 (dk_at dksX6_encode_3 10 rfl rfl)
theorem dX6_encode_81 : decode cX6_encode 81 = .ok (.iload_n 3, 1) := dk_29 (dk_at dksX6_encode_3 12 rfl rfl)
theorem dX6_encode_82 : decode cX6_encode 82 = .ok (.imul, 1) := dk_104 (dk_at dksX6_encode_3 13 rfl rfl)
theorem dX6_encode_83 : decode cX6_encode 83 = .ok (.ishr, 1) := dk_122 (dk_at dksX6_encode_3 14 rfl rfl)
theorem dX6_encode_84 : decode cX6_encode 84 = .ok (.sipush 255, 3) := dk_17 0 255 (dk_at dksX6_encode_3 15 rfl rfl)
theorem dX6_encode_87 : decode cX6_encode 87 = .ok (.iand, 1) := dk_126 (dk_at dksX6_encode_3 18 rfl rfl)
theorem dX6_encode_88 : decode cX6_encode 88 = .ok (.invokevirtual 338, 3) := dk_182 1 82 (dk_at dksX6_encode_3 19 rfl rfl)
theorem dX6_encode_91 : decode cX6_encode 91 = .ok (.iinc 3 1, 3) := dk_132 3 1 (dk_at dksX6_encode_4 0 rfl rfl)
theorem dX6_encode_94 : decode cX6_encode 94 = .ok (.goto (-40), 3) := dk_167 255 216 (dk_at dksX6_encode_4 3 rfl rfl)
theorem dX6_encode_97 : decode cX6_encode 97 = .ok (.iload_n 2, 1) := dk_28 (dk_at dksX6_encode_4 6 rfl rfl)
theorem dX6_encode_98 : decode cX6_encode 98 = .ok (.iconst 1, 1) := dk_4 (dk_at dksX6_encode_4 7 rfl rfl)
theorem dX6_encode_99 : decode cX6_encode 99 = .ok (.if_icmp .ne 17, 3) := dk_160 0 17 (dk_at dksX6_encode_4 8 rfl rfl)
theorem dX6_encode_102 : decode cX6_encode 102 = .ok (.aload_n 0, 1) := dk_42 (dk_at dksX6_encode_4 11 rfl rfl)
theorem dX6_encode_103 : decode cX6_encode 103 = .ok (.sipush 255, 3) := dk_17 0 255 (dk_at dksX6_encode_4 12 rfl rfl)
theorem dX6_encode_106 : decode cX6_encode 106 = .ok (.aload_n 0, 1) := dk_42 (dk_at dksX6_encode_4 15 rfl rfl)
theorem dX6_encode_107 : decode cX6_encode 107 = .ok (.getfield 75, 3) := dk_180 0 75 (dk_at dksX6_encode_4 16 rfl rfl)
theorem dX6_encode_110 : decode cX6_encode 110 = .ok (.iload_n 1, 1) := dk_27 (dk_at dksX6_encode_4 19 rfl rfl)
theorem dX6_encode_111 : decode cX6_encode 111 = .ok (.iaload, 1) := dk_46 (dk_at dksX6_encode_4 20 rfl rfl)
theorem dX6_encode_112 : decode cX6_encode 112 = .ok (.imul, 1) := dk_104 (dk_at dksX6_encode_4 21 rfl rfl)
theorem dX6_encode_113 : decode cX6_encode 113 = .ok (.invokevirtual 338, 3) := dk_182 1 82 (dk_at dksX6_encode_5 0 rfl rfl)
theorem dX6_encode_116 : decode cX6_encode 116 = .ok (.iconst 0, 1) := dk_3 (dk_at dksX6_encode_5 3 rfl rfl)
theorem dX6_encode_117 : decode cX6_encode 117 = .ok (.istore_n 3, 1) := dk_62 (dk_at dksX6_encode_5 4 rfl rfl)
theorem dX6_encode_118 : decode cX6_encode 118 = .ok (.iload_n 3, 1) := dk_29 (dk_at dksX6_encode_5 5 rfl rfl)
theorem dX6_encode_119 : decode cX6_encode 119 = .ok (.aload_n 0, 1) := dk_42 (dk_at dksX6_encode_5 6 rfl rfl)
theorem dX6_encode_120 : decode cX6_encode 120 = .ok (.getfield 225, 3) := dk_180 0 225 (dk_at dksX6_encode_5 7 rfl rfl)
theorem dX6_encode_123 : decode cX6_encode 123 = .ok (.if_icmp .ge 95, 3) := dk_162 0 95 (dk_at dksX6_encode_5 10 rfl rfl)
theorem dX6_encode_126 : decode cX6_encode 126 = .ok (.aload_n 0, 1) := dk_42 (dk_at dksX6_encode_5 13 rfl rfl)
theorem dX6_encode_127 : decode cX6_encode 127 = .ok (.getfield 90, 3) := dk_180 0 90 (dk_at dksX6_encode_5 14 rfl rfl)
theorem dX6_encode_130 : decode cX6_encode 130 = .ok (.iload_n 1, 1) := dk_27 (dk_at dksX6_encode_5 17 rfl rfl)
theorem dX6_encode_131 : decode cX6_encode 131 = .ok (.aload_n 0, 1) := dk_42 (dk_at dksX6_encode_5 18 rfl rfl)
theorem dX6_encode_132 : decode cX6_encode 132 = .ok (.getfield 87, 3) := dk_180 0 87 (dk_at dksX6_encode_5 19 rfl rfl)
theorem dX6_encode_135 : decode cX6_encode 135 = .ok (.iload_n 1, 1) := dk_27 (dk_at dksX6_encode_5 22 rfl rfl)
theorem dX6_encode_136 : decode cX6_encode 136 = .ok (.iaload, 1) := dk_46 (dk_at dksX6_encode_5 23 rfl rfl)
theorem dX6_encode_137 : decode cX6_encode 137 = .ok (.iadd, 1) := dk_96 (dk_at dksX6_encode_6 0 rfl rfl)
theorem dX6_encode_138 : decode cX6_encode 138 = .ok (.iaload, 1) := dk_46 (dk_at dksX6_encode_6 1 rfl rfl)
theorem dX6_encode_139 : decode cX6_encode 139 = .ok (.aload_n 0, 1) := dk_42 (dk_at dksX6_encode_6 2 rfl rfl)
theorem dX6_encode_140 : decode cX6_encode 140 = .ok (.getfield 270, 3) := dk_180 1 14 (dk_at dksX6_encode_6 3 rfl rfl)
theorem dX6_encode_143 : decode cX6_encode 143 = .ok (.isub, 1) := dk_100 (dk_at dksX6_encode_6 6 rfl rfl)
theorem dX6_encode_144 : decode cX6_encode 144 = .ok (.istore 4, 2) := dk_54 4 (dk_at dksX6_encode_6 7 rfl rfl)
theorem dX6_encode_146 : decode cX6_encode 146 = .ok (.aload_n 0, 1) := dk_42 (dk_at dksX6_encode_6 9 rfl rfl)
theorem dX6_encode_147 : decode cX6_encode 147 = .ok (.iload 4, 2) := dk_21 4 (dk_at dksX6_encode_6 10 rfl rfl)
theorem dX6_encode_149 : decode cX6_encode 149 = .ok (.sipush 256, 3) := dk_17 1 0 (dk_at dksX6_encode_6 12 rfl rfl)
theorem dX6_encode_152 : decode cX6_encode 152 = .ok (.irem, 1) := dk_112 (dk_at dksX6_encode_6 15 rfl rfl)
theorem dX6_encode_153 : decode cX6_encode 153 = .ok (.invokevirtual 338, 3) := dk_182 1 82 (dk_at dksX6_encode_6 16 rfl rfl)
theorem dX6_encode_156 : decode cX6_encode 156 = .ok (.iload 4, 2) := dk_21 4 (dk_at dksX6_encode_6 19 rfl rfl)
theorem dX6_encode_158 : decode cX6_encode 158 = .ok (.bipush 127, 2) := dk_16 127 (dk_at dksX6_encode_6 21 rfl rfl)
theorem dX6_encode_160 : decode cX6_encode 160 = .ok (.if_icmp .le 27, 3) := dk_164 0 27 (dk_at dksX6_encode_7 0 rfl rfl)
theorem dX6_encode_163 : decode cX6_encode 163 = .ok (.aload_n 0, 1) := dk_42 (dk_at dksX6_encode_7 3 rfl rfl)
theorem dX6_encode_164 : decode cX6_encode 164 = .ok (.iload 4, 2) := dk_21 4 (dk_at dksX6_encode_7 4 rfl rfl)
theorem dX6_encode_166 : decode cX6_encode 166 = .ok (.sipush 255, 3) := dk_17 0 255 (dk_at dksX6_encode_7 6 rfl rfl)
theorem dX6_encode_169 : decode cX6_encode 169 = .ok (.if_icmp .le 12, 3) := dk_164 0 12 (dk_at dksX6_encode_7 9 rfl rfl)
theorem dX6_encode_172 : decode cX6_encode 172 = .ok (.iload 4, 2) := dk_21 4 (dk_at dksX6_encode_7 12 rfl rfl)
theorem dX6_encode_174 : decode cX6_encode 174 = .ok (.sipush 256, 3) := dk_17 1 0 (dk_at dksX6_encode_7 14 rfl rfl)
theorem dX6_encode_177 : decode cX6_encode 177 = .ok (.idiv, 1) := dk_108 (dk_at dksX6_encode_7 17 rfl rfl)
theorem dX6_encode_178 : decode cX6_encode 178 = .ok (.goto 6, 3) := dk_167 0 6 (dk_at dksX6_encode_7 18 rfl rfl)
theorem dX6_encode_181 : decode cX6_encode 181 = .ok (.sipush 129, 3) := dk_17 0 129 (dk_at dksX6_encode_7 21 rfl rfl)
theorem dX6_encode_184 : decode cX6_encode 184 = .ok (.invokevirtual 338, 3) := dk_182 1 82 (dk_at dksX6_encode_8 0 rfl rfl)
theorem dX6_encode_187 : decode cX6_encode 187 = .ok (.iload 4, 2) := dk_21 4 (dk_at dksX6_encode_8 3 rfl rfl)
theorem dX6_encode_189 : decode cX6_encode 189 = .ok (.sipush 255, 3) := dk_17 0 255 (dk_at dksX6_encode_8 5 rfl rfl)
theorem dX6_encode_192 : decode cX6_encode 192 = .ok (.if_icmp .le 10, 3) := dk_164 0 10 (dk_at dksX6_encode_8 8 rfl rfl)
theorem dX6_encode_195 : decode cX6_encode 195 = .ok (.aload_n 0, 1) := dk_42 (dk_at dksX6_encode_8 11 rfl rfl)
theorem dX6_encode_196 : decode cX6_encode 196 = .ok (.sipush 130, 3) := dk_17 0 130 (dk_at dksX6_encode_8 12 rfl rfl)
theorem dX6_encode_199 : decode cX6_encode 199 = .ok (.invokevirtual 338, 3) := dk_182 1 82 (dk_at dksX6_encode_8 15 rfl rfl)
theorem dX6_encode_202 : decode cX6_encode 202 = .ok (.aload_n 0, 1) := dk_42 (dk_at dksX6_encode_8 18 rfl rfl)
theorem dX6_encode_203 : decode cX6_encode 203 = .ok (.aload_n 0, 1) := dk_42 (dk_at dksX6_encode_8 19 rfl rfl)
theorem dX6_encode_204 : decode cX6_encode 204 = .ok (.getfield 57, 3) := dk_180 0 57 (dk_at dksX6_encode_8 20 rfl rfl)
theorem dX6_encode_207 : decode cX6_encode 207 = .ok (.iload_n 3, 1) := dk_29 (dk_at dksX6_encode_8 23 rfl rfl)
theorem dX6_encode_208 : decode cX6_encode 208 = .ok (.iaload, 1) := dk_46 (dk_at dksX6_encode_9 0 rfl rfl)
theorem dX6_encode_209 : decode cX6_encode 209 = .ok (.invokevirtual 338, 3) := dk_182 1 82 (dk_at dksX6_encode_9 1 rfl rfl)
theorem dX6_encode_212 : decode cX6_encode 212 = .ok (.iinc 3 1, 3) := dk_132 3 1 (dk_at dksX6_encode_9 4 rfl rfl)
theorem dX6_encode_215 : decode cX6_encode 215 = .ok (.goto (-97), 3) := dk_167 255 159 (dk_at dksX6_encode_9 7 rfl rfl)
theorem dX6_encode_218 : decode cX6_encode 218 = .ok (.return_, 1) := dk_177 (dk_at dksX6_encode_9 10 rfl rfl)
abbrev cX6_make : ByteArray := prog_18_method_55_code
def yX6_make : MethodName := ⟨RX6, "make", "(I)V"⟩
def dkwX6_make_0 : List UInt8 := [42, 89, 180, 1, 14, 4, 100, 181, 1, 14, 42, 180, 0, 69, 42, 180, 1, 14, 27, 79, 177]
abbrev dktX6_make_0 : List UInt8 := dkwX6_make_0 ++ []
theorem dksX6_make_0 : cX6_make.data.toList.drop 0 = dktX6_make_0 := by decide +kernel
theorem dX6_make_0 : decode cX6_make 0 = .ok (.aload_n 0, 1) := dk_42 (dk_at dksX6_make_0 0 rfl rfl)
theorem dX6_make_1 : decode cX6_make 1 = .ok (.dup, 1) := dk_89 (dk_at dksX6_make_0 1 rfl rfl)
theorem dX6_make_2 : decode cX6_make 2 = .ok (.getfield 270, 3) := dk_180 1 14 (dk_at dksX6_make_0 2 rfl rfl)
theorem dX6_make_5 : decode cX6_make 5 = .ok (.iconst 1, 1) := dk_4 (dk_at dksX6_make_0 5 rfl rfl)
theorem dX6_make_6 : decode cX6_make 6 = .ok (.isub, 1) := dk_100 (dk_at dksX6_make_0 6 rfl rfl)
theorem dX6_make_7 : decode cX6_make 7 = .ok (.putfield 270, 3) := dk_181 1 14 (dk_at dksX6_make_0 7 rfl rfl)
theorem dX6_make_10 : decode cX6_make 10 = .ok (.aload_n 0, 1) := dk_42 (dk_at dksX6_make_0 10 rfl rfl)
theorem dX6_make_11 : decode cX6_make 11 = .ok (.getfield 69, 3) := dk_180 0 69 (dk_at dksX6_make_0 11 rfl rfl)
theorem dX6_make_14 : decode cX6_make 14 = .ok (.aload_n 0, 1) := dk_42 (dk_at dksX6_make_0 14 rfl rfl)
theorem dX6_make_15 : decode cX6_make 15 = .ok (.getfield 270, 3) := dk_180 1 14 (dk_at dksX6_make_0 15 rfl rfl)
theorem dX6_make_18 : decode cX6_make 18 = .ok (.iload_n 1, 1) := dk_27 (dk_at dksX6_make_0 18 rfl rfl)
theorem dX6_make_19 : decode cX6_make 19 = .ok (.iastore, 1) := dk_79 (dk_at dksX6_make_0 19 rfl rfl)
theorem dX6_make_20 : decode cX6_make 20 = .ok (.return_, 1) := dk_177 (dk_at dksX6_make_0 20 rfl rfl)
abbrev cX6_packed : ByteArray := prog_18_method_62_code
def yX6_packed : MethodName := ⟨RX6, "packed", "(I)V"⟩
def dkwX6_packed_11 : List UInt8 := [104, 182, 1, 97, 177]
abbrev dktX6_packed_11 : List UInt8 := dkwX6_packed_11 ++ []
def dkwX6_packed_10 : List UInt8 := [182, 1, 100, 42, 21, 4, 184, 1, 44, 16, 8, 182, 1, 97, 42, 21, 4, 16, 8, 21, 4, 184, 1, 44]
abbrev dktX6_packed_10 : List UInt8 := dkwX6_packed_10 ++ dktX6_packed_11
def dkwX6_packed_9 : List UInt8 := [180, 0, 23, 28, 46, 42, 180, 0, 26, 28, 46, 182, 1, 103, 167, 0, 37, 29, 8, 159, 0, 32, 42]
abbrev dktX6_packed_9 : List UInt8 := dkwX6_packed_9 ++ dktX6_packed_10
def dkwX6_packed_8 : List UInt8 := [182, 1, 109, 167, 0, 72, 29, 8, 159, 0, 33, 42, 180, 0, 41, 28, 51, 153, 0, 24, 42, 21, 4, 42]
abbrev dktX6_packed_8 : List UInt8 := dkwX6_packed_8 ++ dktX6_packed_9
def dkwX6_packed_7 : List UInt8 := [180, 0, 32, 28, 46, 4, 100, 182, 1, 103, 167, 0, 87, 29, 16, 6, 160, 0, 12, 42, 27, 28]
abbrev dktX6_packed_7 : List UInt8 := dkwX6_packed_7 ++ dktX6_packed_8
def dkwX6_packed_6 : List UInt8 := [182, 1, 106, 167, 0, 116, 29, 16, 9, 160, 0, 26, 42, 42, 28, 21, 4, 182, 1, 76, 3, 42]
abbrev dktX6_packed_6 : List UInt8 := dkwX6_packed_6 ++ dktX6_packed_7
def dkwX6_packed_5 : List UInt8 := [16, 8, 182, 1, 97, 132, 5, 1, 167, 255, 226, 167, 0, 132, 29, 16, 7, 160, 0, 13, 42, 21, 4, 28]
abbrev dktX6_packed_5 : List UInt8 := dkwX6_packed_5 ++ dktX6_packed_6
def dkwX6_packed_4 : List UInt8 := [54, 5, 21, 5, 21, 4, 162, 0, 29, 42, 42, 180, 0, 93, 42, 180, 0, 84, 27, 46, 21, 5, 96, 46]
abbrev dktX6_packed_4 : List UInt8 := dkwX6_packed_4 ++ dktX6_packed_5
def dkwX6_packed_3 : List UInt8 := [180, 0, 26, 28, 46, 160, 0, 13, 42, 180, 0, 26, 28, 46, 5, 164, 0, 7, 42, 182, 1, 100, 3]
abbrev dktX6_packed_3 : List UInt8 := dkwX6_packed_3 ++ dktX6_packed_4
def dkwX6_packed_2 : List UInt8 := [182, 1, 106, 42, 180, 0, 41, 28, 51, 153, 0, 37, 21, 4, 158, 0, 32, 42, 180, 0, 23, 28, 46, 42]
abbrev dktX6_packed_2 : List UInt8 := dkwX6_packed_2 ++ dktX6_packed_3
def dkwX6_packed_1 : List UInt8 := [160, 0, 13, 42, 21, 4, 4, 182, 1, 97, 167, 0, 226, 29, 7, 160, 0, 92, 42, 21, 4, 28]
abbrev dktX6_packed_1 : List UInt8 := dkwX6_packed_1 ++ dktX6_packed_2
def dkwX6_packed_0 : List UInt8 := [42, 27, 182, 1, 52, 61, 42, 180, 0, 20, 28, 46, 62, 42, 180, 0, 75, 27, 46, 54, 4, 29, 4]
abbrev dktX6_packed_0 : List UInt8 := dkwX6_packed_0 ++ dktX6_packed_1
theorem dksX6_packed_0 : cX6_packed.data.toList.drop 0 = dktX6_packed_0 := by decide +kernel
theorem dksX6_packed_1 : cX6_packed.data.toList.drop 23 = dktX6_packed_1 := dk_seg dksX6_packed_0 23 rfl rfl
theorem dksX6_packed_2 : cX6_packed.data.toList.drop 45 = dktX6_packed_2 := dk_seg dksX6_packed_1 22 rfl rfl
theorem dksX6_packed_3 : cX6_packed.data.toList.drop 69 = dktX6_packed_3 := dk_seg dksX6_packed_2 24 rfl rfl
theorem dksX6_packed_4 : cX6_packed.data.toList.drop 92 = dktX6_packed_4 := dk_seg dksX6_packed_3 23 rfl rfl
theorem dksX6_packed_5 : cX6_packed.data.toList.drop 116 = dktX6_packed_5 := dk_seg dksX6_packed_4 24 rfl rfl
theorem dksX6_packed_6 : cX6_packed.data.toList.drop 140 = dktX6_packed_6 := dk_seg dksX6_packed_5 24 rfl rfl
theorem dksX6_packed_7 : cX6_packed.data.toList.drop 162 = dktX6_packed_7 := dk_seg dksX6_packed_6 22 rfl rfl
theorem dksX6_packed_8 : cX6_packed.data.toList.drop 184 = dktX6_packed_8 := dk_seg dksX6_packed_7 22 rfl rfl
theorem dksX6_packed_9 : cX6_packed.data.toList.drop 208 = dktX6_packed_9 := dk_seg dksX6_packed_8 24 rfl rfl
theorem dksX6_packed_10 : cX6_packed.data.toList.drop 231 = dktX6_packed_10 := dk_seg dksX6_packed_9 23 rfl rfl
theorem dksX6_packed_11 : cX6_packed.data.toList.drop 255 = dktX6_packed_11 := dk_seg dksX6_packed_10 24 rfl rfl
theorem dX6_packed_0 : decode cX6_packed 0 = .ok (.aload_n 0, 1) := dk_42 (dk_at dksX6_packed_0 0 rfl rfl)
theorem dX6_packed_1 : decode cX6_packed 1 = .ok (.iload_n 1, 1) := dk_27 (dk_at dksX6_packed_0 1 rfl rfl)
theorem dX6_packed_2 : decode cX6_packed 2 = .ok (.invokevirtual 308, 3) := dk_182 1 52 (dk_at dksX6_packed_0 2 rfl rfl)
theorem dX6_packed_5 : decode cX6_packed 5 = .ok (.istore_n 2, 1) := dk_61 (dk_at dksX6_packed_0 5 rfl rfl)
theorem dX6_packed_6 : decode cX6_packed 6 = .ok (.aload_n 0, 1) := dk_42 (dk_at dksX6_packed_0 6 rfl rfl)
theorem dX6_packed_7 : decode cX6_packed 7 = .ok (.getfield 20, 3) := dk_180 0 20 (dk_at dksX6_packed_0 7 rfl rfl)
theorem dX6_packed_10 : decode cX6_packed 10 = .ok (.iload_n 2, 1) := dk_28 (dk_at dksX6_packed_0 10 rfl rfl)
theorem dX6_packed_11 : decode cX6_packed 11 = .ok (.iaload, 1) := dk_46 (dk_at dksX6_packed_0 11 rfl rfl)
theorem dX6_packed_12 : decode cX6_packed 12 = .ok (.istore_n 3, 1) := dk_62 (dk_at dksX6_packed_0 12 rfl rfl)
theorem dX6_packed_13 : decode cX6_packed 13 = .ok (.aload_n 0, 1) := dk_42 (dk_at dksX6_packed_0 13 rfl rfl)
theorem dX6_packed_14 : decode cX6_packed 14 = .ok (.getfield 75, 3) := dk_180 0 75 (dk_at dksX6_packed_0 14 rfl rfl)
theorem dX6_packed_17 : decode cX6_packed 17 = .ok (.iload_n 1, 1) := dk_27 (dk_at dksX6_packed_0 17 rfl rfl)
theorem dX6_packed_18 : decode cX6_packed 18 = .ok (.iaload, 1) := dk_46 (dk_at dksX6_packed_0 18 rfl rfl)
theorem dX6_packed_19 : decode cX6_packed 19 = .ok (.istore 4, 2) := dk_54 4 (dk_at dksX6_packed_0 19 rfl rfl)
theorem dX6_packed_21 : decode cX6_packed 21 = .ok (.iload_n 3, 1) := dk_29 (dk_at dksX6_packed_0 21 rfl rfl)
theorem dX6_packed_22 : decode cX6_packed 22 = .ok (.iconst 1, 1) := dk_4 (dk_at dksX6_packed_0 22 rfl rfl)
theorem dX6_packed_23 : decode cX6_packed 23 = .ok (.if_icmp .ne 13, 3) := dk_160 0 13 (dk_at dksX6_packed_1 0 rfl rfl)
theorem dX6_packed_26 : decode cX6_packed 26 = .ok (.aload_n 0, 1) := dk_42 (dk_at dksX6_packed_1 3 rfl rfl)
theorem dX6_packed_27 : decode cX6_packed 27 = .ok (.iload 4, 2) := dk_21 4 (dk_at dksX6_packed_1 4 rfl rfl)
theorem dX6_packed_29 : decode cX6_packed 29 = .ok (.iconst 1, 1) := dk_4 (dk_at dksX6_packed_1 6 rfl rfl)
theorem dX6_packed_30 : decode cX6_packed 30 = .ok (.invokevirtual 353, 3) := dk_182 1 97 (dk_at dksX6_packed_1 7 rfl rfl)
theorem dX6_packed_33 : decode cX6_packed 33 = .ok (.goto 226, 3) := dk_167 0 226 (dk_at dksX6_packed_1 10 rfl rfl)
theorem dX6_packed_36 : decode cX6_packed 36 = .ok (.iload_n 3, 1) := dk_29 (dk_at dksX6_packed_1 13 rfl rfl)
theorem dX6_packed_37 : decode cX6_packed 37 = .ok (.iconst 4, 1) := dk_7 (dk_at dksX6_packed_1 14 rfl rfl)
theorem dX6_packed_38 : decode cX6_packed 38 = .ok (.if_icmp .ne 92, 3) := dk_160 0 92 (dk_at dksX6_packed_1 15 rfl rfl)
theorem dX6_packed_41 : decode cX6_packed 41 = .ok (.aload_n 0, 1) := dk_42 (dk_at dksX6_packed_1 18 rfl rfl)
theorem dX6_packed_42 : decode cX6_packed 42 = .ok (.iload 4, 2) := dk_21 4 (dk_at dksX6_packed_1 19 rfl rfl)
theorem dX6_packed_44 : decode cX6_packed 44 = .ok (.iload_n 2, 1) := dk_28 (dk_at dksX6_packed_1 21 rfl rfl)
theorem dX6_packed_45 : decode cX6_packed 45 = .ok (.invokevirtual 362, 3) := dk_182 1 106 (dk_at dksX6_packed_2 0 rfl rfl)
theorem dX6_packed_48 : decode cX6_packed 48 = .ok (.aload_n 0, 1) := dk_42 (dk_at dksX6_packed_2 3 rfl rfl)
theorem dX6_packed_49 : decode cX6_packed 49 = .ok (.getfield 41, 3) := dk_180 0 41 (dk_at dksX6_packed_2 4 rfl rfl)
theorem dX6_packed_52 : decode cX6_packed 52 = .ok (.iload_n 2, 1) := dk_28 (dk_at dksX6_packed_2 7 rfl rfl)
theorem dX6_packed_53 : decode cX6_packed 53 = .ok (.baload, 1) := dk_51 (dk_at dksX6_packed_2 8 rfl rfl)
theorem dX6_packed_54 : decode cX6_packed 54 = .ok (.ifCond .eq 37, 3) := dk_153 0 37 (dk_at dksX6_packed_2 9 rfl rfl)
theorem dX6_packed_57 : decode cX6_packed 57 = .ok (.iload 4, 2) := dk_21 4 (dk_at dksX6_packed_2 12 rfl rfl)
theorem dX6_packed_59 : decode cX6_packed 59 = .ok (.ifCond .le 32, 3) := dk_158 0 32 (dk_at dksX6_packed_2 14 rfl rfl)
theorem dX6_packed_62 : decode cX6_packed 62 = .ok (.aload_n 0, 1) := dk_42 (dk_at dksX6_packed_2 17 rfl rfl)
theorem dX6_packed_63 : decode cX6_packed 63 = .ok (.getfield 23, 3) := dk_180 0 23 (dk_at dksX6_packed_2 18 rfl rfl)
theorem dX6_packed_66 : decode cX6_packed 66 = .ok (.iload_n 2, 1) := dk_28 (dk_at dksX6_packed_2 21 rfl rfl)
theorem dX6_packed_67 : decode cX6_packed 67 = .ok (.iaload, 1) := dk_46 (dk_at dksX6_packed_2 22 rfl rfl)
theorem dX6_packed_68 : decode cX6_packed 68 = .ok (.aload_n 0, 1) := dk_42 (dk_at dksX6_packed_2 23 rfl rfl)
theorem dX6_packed_69 : decode cX6_packed 69 = .ok (.getfield 26, 3) := dk_180 0 26 (dk_at dksX6_packed_3 0 rfl rfl)
theorem dX6_packed_72 : decode cX6_packed 72 = .ok (.iload_n 2, 1) := dk_28 (dk_at dksX6_packed_3 3 rfl rfl)
theorem dX6_packed_73 : decode cX6_packed 73 = .ok (.iaload, 1) := dk_46 (dk_at dksX6_packed_3 4 rfl rfl)
theorem dX6_packed_74 : decode cX6_packed 74 = .ok (.if_icmp .ne 13, 3) := dk_160 0 13 (dk_at dksX6_packed_3 5 rfl rfl)
theorem dX6_packed_77 : decode cX6_packed 77 = .ok (.aload_n 0, 1) := dk_42 (dk_at dksX6_packed_3 8 rfl rfl)
theorem dX6_packed_78 : decode cX6_packed 78 = .ok (.getfield 26, 3) := dk_180 0 26 (dk_at dksX6_packed_3 9 rfl rfl)
theorem dX6_packed_81 : decode cX6_packed 81 = .ok (.iload_n 2, 1) := dk_28 (dk_at dksX6_packed_3 12 rfl rfl)
theorem dX6_packed_82 : decode cX6_packed 82 = .ok (.iaload, 1) := dk_46 (dk_at dksX6_packed_3 13 rfl rfl)
theorem dX6_packed_83 : decode cX6_packed 83 = .ok (.iconst 2, 1) := dk_5 (dk_at dksX6_packed_3 14 rfl rfl)
theorem dX6_packed_84 : decode cX6_packed 84 = .ok (.if_icmp .le 7, 3) := dk_164 0 7 (dk_at dksX6_packed_3 15 rfl rfl)
theorem dX6_packed_87 : decode cX6_packed 87 = .ok (.aload_n 0, 1) := dk_42 (dk_at dksX6_packed_3 18 rfl rfl)
theorem dX6_packed_88 : decode cX6_packed 88 = .ok (.invokevirtual 356, 3) := dk_182 1 100 (dk_at dksX6_packed_3 19 rfl rfl)
theorem dX6_packed_91 : decode cX6_packed 91 = .ok (.iconst 0, 1) := dk_3 (dk_at dksX6_packed_3 22 rfl rfl)
theorem dX6_packed_92 : decode cX6_packed 92 = .ok (.istore 5, 2) := dk_54 5 (dk_at dksX6_packed_4 0 rfl rfl)
theorem dX6_packed_94 : decode cX6_packed 94 = .ok (.iload 5, 2) := dk_21 5 (dk_at dksX6_packed_4 2 rfl rfl)
theorem dX6_packed_96 : decode cX6_packed 96 = .ok (.iload 4, 2) := dk_21 4 (dk_at dksX6_packed_4 4 rfl rfl)
theorem dX6_packed_98 : decode cX6_packed 98 = .ok (.if_icmp .ge 29, 3) := dk_162 0 29 (dk_at dksX6_packed_4 6 rfl rfl)
theorem dX6_packed_101 : decode cX6_packed 101 = .ok (.aload_n 0, 1) := dk_42 (dk_at dksX6_packed_4 9 rfl rfl)
theorem dX6_packed_102 : decode cX6_packed 102 = .ok (.aload_n 0, 1) := dk_42 (dk_at dksX6_packed_4 10 rfl rfl)
theorem dX6_packed_103 : decode cX6_packed 103 = .ok (.getfield 93, 3) := dk_180 0 93 (dk_at dksX6_packed_4 11 rfl rfl)
theorem dX6_packed_106 : decode cX6_packed 106 = .ok (.aload_n 0, 1) := dk_42 (dk_at dksX6_packed_4 14 rfl rfl)
theorem dX6_packed_107 : decode cX6_packed 107 = .ok (.getfield 84, 3) := dk_180 0 84 (dk_at dksX6_packed_4 15 rfl rfl)
theorem dX6_packed_110 : decode cX6_packed 110 = .ok (.iload_n 1, 1) := dk_27 (dk_at dksX6_packed_4 18 rfl rfl)
theorem dX6_packed_111 : decode cX6_packed 111 = .ok (.iaload, 1) := dk_46 (dk_at dksX6_packed_4 19 rfl rfl)
theorem dX6_packed_112 : decode cX6_packed 112 = .ok (.iload 5, 2) := dk_21 5 (dk_at dksX6_packed_4 20 rfl rfl)
theorem dX6_packed_114 : decode cX6_packed 114 = .ok (.iadd, 1) := dk_96 (dk_at dksX6_packed_4 22 rfl rfl)
theorem dX6_packed_115 : decode cX6_packed 115 = .ok (.iaload, 1) := dk_46 (dk_at dksX6_packed_4 23 rfl rfl)
theorem dX6_packed_116 : decode cX6_packed 116 = .ok (.bipush 8, 2) := dk_16 8 (dk_at dksX6_packed_5 0 rfl rfl)
theorem dX6_packed_118 : decode cX6_packed 118 = .ok (.invokevirtual 353, 3) := dk_182 1 97 (dk_at dksX6_packed_5 2 rfl rfl)
theorem dX6_packed_121 : decode cX6_packed 121 = .ok (.iinc 5 1, 3) := dk_132 5 1 (dk_at dksX6_packed_5 5 rfl rfl)
theorem dX6_packed_124 : decode cX6_packed 124 = .ok (.goto (-30), 3) := dk_167 255 226 (dk_at dksX6_packed_5 8 rfl rfl)
theorem dX6_packed_127 : decode cX6_packed 127 = .ok (.goto 132, 3) := dk_167 0 132 (dk_at dksX6_packed_5 11 rfl rfl)
theorem dX6_packed_130 : decode cX6_packed 130 = .ok (.iload_n 3, 1) := dk_29 (dk_at dksX6_packed_5 14 rfl rfl)
theorem dX6_packed_131 : decode cX6_packed 131 = .ok (.bipush 7, 2) := dk_16 7 (dk_at dksX6_packed_5 15 rfl rfl)
theorem dX6_packed_133 : decode cX6_packed 133 = .ok (.if_icmp .ne 13, 3) := dk_160 0 13 (dk_at dksX6_packed_5 17 rfl rfl)
theorem dX6_packed_136 : decode cX6_packed 136 = .ok (.aload_n 0, 1) := dk_42 (dk_at dksX6_packed_5 20 rfl rfl)
theorem dX6_packed_137 : decode cX6_packed 137 = .ok (.iload 4, 2) := dk_21 4 (dk_at dksX6_packed_5 21 rfl rfl)
theorem dX6_packed_139 : decode cX6_packed 139 = .ok (.iload_n 2, 1) := dk_28 (dk_at dksX6_packed_5 23 rfl rfl)
theorem dX6_packed_140 : decode cX6_packed 140 = .ok (.invokevirtual 362, 3) := dk_182 1 106 (dk_at dksX6_packed_6 0 rfl rfl)
theorem dX6_packed_143 : decode cX6_packed 143 = .ok (.goto 116, 3) := dk_167 0 116 (dk_at dksX6_packed_6 3 rfl rfl)
theorem dX6_packed_146 : decode cX6_packed 146 = .ok (.iload_n 3, 1) := dk_29 (dk_at dksX6_packed_6 6 rfl rfl)
theorem dX6_packed_147 : decode cX6_packed 147 = .ok (.bipush 9, 2) := dk_16 9 (dk_at dksX6_packed_6 7 rfl rfl)
theorem dX6_packed_149 : decode cX6_packed 149 = .ok (.if_icmp .ne 26, 3) := dk_160 0 26 (dk_at dksX6_packed_6 9 rfl rfl)
theorem dX6_packed_152 : decode cX6_packed 152 = .ok (.aload_n 0, 1) := dk_42 (dk_at dksX6_packed_6 12 rfl rfl)
theorem dX6_packed_153 : decode cX6_packed 153 = .ok (.aload_n 0, 1) := dk_42 (dk_at dksX6_packed_6 13 rfl rfl)
theorem dX6_packed_154 : decode cX6_packed 154 = .ok (.iload_n 2, 1) := dk_28 (dk_at dksX6_packed_6 14 rfl rfl)
theorem dX6_packed_155 : decode cX6_packed 155 = .ok (.iload 4, 2) := dk_21 4 (dk_at dksX6_packed_6 15 rfl rfl)
theorem dX6_packed_157 : decode cX6_packed 157 = .ok (.invokevirtual 332, 3) := dk_182 1 76 (dk_at dksX6_packed_6 17 rfl rfl)
theorem dX6_packed_160 : decode cX6_packed 160 = .ok (.iconst 0, 1) := dk_3 (dk_at dksX6_packed_6 20 rfl rfl)
theorem dX6_packed_161 : decode cX6_packed 161 = .ok (.aload_n 0, 1) := dk_42 (dk_at dksX6_packed_6 21 rfl rfl)
theorem dX6_packed_162 : decode cX6_packed 162 = .ok (.getfield 32, 3) := dk_180 0 32 (dk_at dksX6_packed_7 0 rfl rfl)
theorem dX6_packed_165 : decode cX6_packed 165 = .ok (.iload_n 2, 1) := dk_28 (dk_at dksX6_packed_7 3 rfl rfl)
theorem dX6_packed_166 : decode cX6_packed 166 = .ok (.iaload, 1) := dk_46 (dk_at dksX6_packed_7 4 rfl rfl)
theorem dX6_packed_167 : decode cX6_packed 167 = .ok (.iconst 1, 1) := dk_4 (dk_at dksX6_packed_7 5 rfl rfl)
theorem dX6_packed_168 : decode cX6_packed 168 = .ok (.isub, 1) := dk_100 (dk_at dksX6_packed_7 6 rfl rfl)
theorem dX6_packed_169 : decode cX6_packed 169 = .ok (.invokevirtual 359, 3) := dk_182 1 103 (dk_at dksX6_packed_7 7 rfl rfl)
theorem dX6_packed_172 : decode cX6_packed 172 = .ok (.goto 87, 3) := dk_167 0 87 (dk_at dksX6_packed_7 10 rfl rfl)
theorem dX6_packed_175 : decode cX6_packed 175 = .ok (.iload_n 3, 1) := dk_29 (dk_at dksX6_packed_7 13 rfl rfl)
theorem dX6_packed_176 : decode cX6_packed 176 = .ok (.bipush 6, 2) := dk_16 6 (dk_at dksX6_packed_7 14 rfl rfl)
theorem dX6_packed_178 : decode cX6_packed 178 = .ok (.if_icmp .ne 12, 3) := dk_160 0 12 (dk_at dksX6_packed_7 16 rfl rfl)
theorem dX6_packed_181 : decode cX6_packed 181 = .ok (.aload_n 0, 1) := dk_42 (dk_at dksX6_packed_7 19 rfl rfl)
theorem dX6_packed_182 : decode cX6_packed 182 = .ok (.iload_n 1, 1) := dk_27 (dk_at dksX6_packed_7 20 rfl rfl)
theorem dX6_packed_183 : decode cX6_packed 183 = .ok (.iload_n 2, 1) := dk_28 (dk_at dksX6_packed_7 21 rfl rfl)
theorem dX6_packed_184 : decode cX6_packed 184 = .ok (.invokevirtual 365, 3) := dk_182 1 109 (dk_at dksX6_packed_8 0 rfl rfl)
theorem dX6_packed_187 : decode cX6_packed 187 = .ok (.goto 72, 3) := dk_167 0 72 (dk_at dksX6_packed_8 3 rfl rfl)
theorem dX6_packed_190 : decode cX6_packed 190 = .ok (.iload_n 3, 1) := dk_29 (dk_at dksX6_packed_8 6 rfl rfl)
theorem dX6_packed_191 : decode cX6_packed 191 = .ok (.iconst 5, 1) := dk_8 (dk_at dksX6_packed_8 7 rfl rfl)
theorem dX6_packed_192 : decode cX6_packed 192 = .ok (.if_icmp .eq 33, 3) := dk_159 0 33 (dk_at dksX6_packed_8 8 rfl rfl)
theorem dX6_packed_195 : decode cX6_packed 195 = .ok (.aload_n 0, 1) := dk_42 (dk_at dksX6_packed_8 11 rfl rfl)
theorem dX6_packed_196 : decode cX6_packed 196 = .ok (.getfield 41, 3) := dk_180 0 41 (dk_at dksX6_packed_8 12 rfl rfl)
theorem dX6_packed_199 : decode cX6_packed 199 = .ok (.iload_n 2, 1) := dk_28 (dk_at dksX6_packed_8 15 rfl rfl)
theorem dX6_packed_200 : decode cX6_packed 200 = .ok (.baload, 1) := dk_51 (dk_at dksX6_packed_8 16 rfl rfl)
theorem dX6_packed_201 : decode cX6_packed 201 = .ok (.ifCond .eq 24, 3) := dk_153 0 24 (dk_at dksX6_packed_8 17 rfl rfl)
theorem dX6_packed_204 : decode cX6_packed 204 = .ok (.aload_n 0, 1) := dk_42 (dk_at dksX6_packed_8 20 rfl rfl)
theorem dX6_packed_205 : decode cX6_packed 205 = .ok (.iload 4, 2) := dk_21 4 (dk_at dksX6_packed_8 21 rfl rfl)
theorem dX6_packed_207 : decode cX6_packed 207 = .ok (.aload_n 0, 1) := dk_42 (dk_at dksX6_packed_8 23 rfl rfl)
theorem dX6_packed_208 : decode cX6_packed 208 = .ok (.getfield 23, 3) := dk_180 0 23 (dk_at dksX6_packed_9 0 rfl rfl)
theorem dX6_packed_211 : decode cX6_packed 211 = .ok (.iload_n 2, 1) := dk_28 (dk_at dksX6_packed_9 3 rfl rfl)
theorem dX6_packed_212 : decode cX6_packed 212 = .ok (.iaload, 1) := dk_46 (dk_at dksX6_packed_9 4 rfl rfl)
theorem dX6_packed_213 : decode cX6_packed 213 = .ok (.aload_n 0, 1) := dk_42 (dk_at dksX6_packed_9 5 rfl rfl)
theorem dX6_packed_214 : decode cX6_packed 214 = .ok (.getfield 26, 3) := dk_180 0 26 (dk_at dksX6_packed_9 6 rfl rfl)
theorem dX6_packed_217 : decode cX6_packed 217 = .ok (.iload_n 2, 1) := dk_28 (dk_at dksX6_packed_9 9 rfl rfl)
theorem dX6_packed_218 : decode cX6_packed 218 = .ok (.iaload, 1) := dk_46 (dk_at dksX6_packed_9 10 rfl rfl)
theorem dX6_packed_219 : decode cX6_packed 219 = .ok (.invokevirtual 359, 3) := dk_182 1 103 (dk_at dksX6_packed_9 11 rfl rfl)
theorem dX6_packed_222 : decode cX6_packed 222 = .ok (.goto 37, 3) := dk_167 0 37 (dk_at dksX6_packed_9 14 rfl rfl)
theorem dX6_packed_225 : decode cX6_packed 225 = .ok (.iload_n 3, 1) := dk_29 (dk_at dksX6_packed_9 17 rfl rfl)
theorem dX6_packed_226 : decode cX6_packed 226 = .ok (.iconst 5, 1) := dk_8 (dk_at dksX6_packed_9 18 rfl rfl)
theorem dX6_packed_227 : decode cX6_packed 227 = .ok (.if_icmp .eq 32, 3) := dk_159 0 32 (dk_at dksX6_packed_9 19 rfl rfl)
theorem dX6_packed_230 : decode cX6_packed 230 = .ok (.aload_n 0, 1) := dk_42 (dk_at dksX6_packed_9 22 rfl rfl)
theorem dX6_packed_231 : decode cX6_packed 231 = .ok (.invokevirtual 356, 3) := dk_182 1 100 (dk_at dksX6_packed_10 0 rfl rfl)
theorem dX6_packed_234 : decode cX6_packed 234 = .ok (.aload_n 0, 1) := dk_42 (dk_at dksX6_packed_10 3 rfl rfl)
theorem dX6_packed_235 : decode cX6_packed 235 = .ok (.iload 4, 2) := dk_21 4 (dk_at dksX6_packed_10 4 rfl rfl)
theorem dX6_packed_237 : decode cX6_packed 237 = .ok (.invokestatic 300, 3) := dk_184 1 44 (dk_at dksX6_packed_10 6 rfl rfl)
theorem dX6_packed_240 : decode cX6_packed 240 = .ok (.bipush 8, 2) := dk_16 8 (dk_at dksX6_packed_10 9 rfl rfl)
theorem dX6_packed_242 : decode cX6_packed 242 = .ok (.invokevirtual 353, 3) := dk_182 1 97 (dk_at dksX6_packed_10 11 rfl rfl)
theorem dX6_packed_245 : decode cX6_packed 245 = .ok (.aload_n 0, 1) := dk_42 (dk_at dksX6_packed_10 14 rfl rfl)
theorem dX6_packed_246 : decode cX6_packed 246 = .ok (.iload 4, 2) := dk_21 4 (dk_at dksX6_packed_10 15 rfl rfl)
theorem dX6_packed_248 : decode cX6_packed 248 = .ok (.bipush 8, 2) := dk_16 8 (dk_at dksX6_packed_10 17 rfl rfl)
theorem dX6_packed_250 : decode cX6_packed 250 = .ok (.iload 4, 2) := dk_21 4 (dk_at dksX6_packed_10 19 rfl rfl)
theorem dX6_packed_252 : decode cX6_packed 252 = .ok (.invokestatic 300, 3) := dk_184 1 44 (dk_at dksX6_packed_10 21 rfl rfl)
theorem dX6_packed_255 : decode cX6_packed 255 = .ok (.imul, 1) := dk_104 (dk_at dksX6_packed_11 0 rfl rfl)
theorem dX6_packed_256 : decode cX6_packed 256 = .ok (.invokevirtual 353, 3) := dk_182 1 97 (dk_at dksX6_packed_11 1 rfl rfl)
theorem dX6_packed_259 : decode cX6_packed 259 = .ok (.return_, 1) := dk_177 (dk_at dksX6_packed_11 4 rfl rfl)
abbrev cX6_bring : ByteArray := prog_18_method_58_code
def yX6_bring : MethodName := ⟨RX6, "bring", "(II)V"⟩
def dkwX6_bring_3 : List UInt8 := [79, 42, 89, 180, 1, 85, 4, 96, 181, 1, 85, 132, 3, 255, 167, 255, 175, 177]
abbrev dktX6_bring_3 : List UInt8 := dkwX6_bring_3 ++ []
def dkwX6_bring_2 : List UInt8 := [180, 1, 85, 16, 8, 108, 46, 27, 29, 122, 4, 126, 16, 7, 42, 180, 1, 85, 16, 8, 112, 100, 120, 128]
abbrev dktX6_bring_2 : List UInt8 := dkwX6_bring_2 ++ dktX6_bring_3
def dkwX6_bring_1 : List UInt8 := [180, 1, 85, 16, 8, 108, 3, 79, 42, 180, 0, 69, 42, 180, 1, 85, 16, 8, 108, 42, 180, 0, 69, 42]
abbrev dktX6_bring_1 : List UInt8 := dkwX6_bring_1 ++ dktX6_bring_2
def dkwX6_bring_0 : List UInt8 := [28, 4, 100, 62, 29, 155, 0, 83, 42, 180, 1, 85, 16, 8, 112, 154, 0, 16, 42, 180, 0, 69, 42]
abbrev dktX6_bring_0 : List UInt8 := dkwX6_bring_0 ++ dktX6_bring_1
theorem dksX6_bring_0 : cX6_bring.data.toList.drop 0 = dktX6_bring_0 := by decide +kernel
theorem dksX6_bring_1 : cX6_bring.data.toList.drop 23 = dktX6_bring_1 := dk_seg dksX6_bring_0 23 rfl rfl
theorem dksX6_bring_2 : cX6_bring.data.toList.drop 47 = dktX6_bring_2 := dk_seg dksX6_bring_1 24 rfl rfl
theorem dksX6_bring_3 : cX6_bring.data.toList.drop 71 = dktX6_bring_3 := dk_seg dksX6_bring_2 24 rfl rfl
theorem dX6_bring_0 : decode cX6_bring 0 = .ok (.iload_n 2, 1) := dk_28 (dk_at dksX6_bring_0 0 rfl rfl)
theorem dX6_bring_1 : decode cX6_bring 1 = .ok (.iconst 1, 1) := dk_4 (dk_at dksX6_bring_0 1 rfl rfl)
theorem dX6_bring_2 : decode cX6_bring 2 = .ok (.isub, 1) := dk_100 (dk_at dksX6_bring_0 2 rfl rfl)
theorem dX6_bring_3 : decode cX6_bring 3 = .ok (.istore_n 3, 1) := dk_62 (dk_at dksX6_bring_0 3 rfl rfl)
theorem dX6_bring_4 : decode cX6_bring 4 = .ok (.iload_n 3, 1) := dk_29 (dk_at dksX6_bring_0 4 rfl rfl)
theorem dX6_bring_5 : decode cX6_bring 5 = .ok (.ifCond .lt 83, 3) := dk_155 0 83 (dk_at dksX6_bring_0 5 rfl rfl)
theorem dX6_bring_8 : decode cX6_bring 8 = .ok (.aload_n 0, 1) := dk_42 (dk_at dksX6_bring_0 8 rfl rfl)
theorem dX6_bring_9 : decode cX6_bring 9 = .ok (.getfield 341, 3) := dk_180 1 85 (dk_at dksX6_bring_0 9 rfl rfl)
theorem dX6_bring_12 : decode cX6_bring 12 = .ok (.bipush 8, 2) := dk_16 8 (dk_at dksX6_bring_0 12 rfl rfl)
theorem dX6_bring_14 : decode cX6_bring 14 = .ok (.irem, 1) := dk_112 (dk_at dksX6_bring_0 14 rfl rfl)
theorem dX6_bring_15 : decode cX6_bring 15 = .ok (.ifCond .ne 16, 3) := dk_154 0 16 (dk_at dksX6_bring_0 15 rfl rfl)
theorem dX6_bring_18 : decode cX6_bring 18 = .ok (.aload_n 0, 1) := dk_42 (dk_at dksX6_bring_0 18 rfl rfl)
theorem dX6_bring_19 : decode cX6_bring 19 = .ok (.getfield 69, 3) := dk_180 0 69 (dk_at dksX6_bring_0 19 rfl rfl)
theorem dX6_bring_22 : decode cX6_bring 22 = .ok (.aload_n 0, 1) := dk_42 (dk_at dksX6_bring_0 22 rfl rfl)
theorem dX6_bring_23 : decode cX6_bring 23 = .ok (.getfield 341, 3) := dk_180 1 85 (dk_at dksX6_bring_1 0 rfl rfl)
theorem dX6_bring_26 : decode cX6_bring 26 = .ok (.bipush 8, 2) := dk_16 8 (dk_at dksX6_bring_1 3 rfl rfl)
theorem dX6_bring_28 : decode cX6_bring 28 = .ok (.idiv, 1) := dk_108 (dk_at dksX6_bring_1 5 rfl rfl)
theorem dX6_bring_29 : decode cX6_bring 29 = .ok (.iconst 0, 1) := dk_3 (dk_at dksX6_bring_1 6 rfl rfl)
theorem dX6_bring_30 : decode cX6_bring 30 = .ok (.iastore, 1) := dk_79 (dk_at dksX6_bring_1 7 rfl rfl)
theorem dX6_bring_31 : decode cX6_bring 31 = .ok (.aload_n 0, 1) := dk_42 (dk_at dksX6_bring_1 8 rfl rfl)
theorem dX6_bring_32 : decode cX6_bring 32 = .ok (.getfield 69, 3) := dk_180 0 69 (dk_at dksX6_bring_1 9 rfl rfl)
theorem dX6_bring_35 : decode cX6_bring 35 = .ok (.aload_n 0, 1) := dk_42 (dk_at dksX6_bring_1 12 rfl rfl)
theorem dX6_bring_36 : decode cX6_bring 36 = .ok (.getfield 341, 3) := dk_180 1 85 (dk_at dksX6_bring_1 13 rfl rfl)
theorem dX6_bring_39 : decode cX6_bring 39 = .ok (.bipush 8, 2) := dk_16 8 (dk_at dksX6_bring_1 16 rfl rfl)
theorem dX6_bring_41 : decode cX6_bring 41 = .ok (.idiv, 1) := dk_108 (dk_at dksX6_bring_1 18 rfl rfl)
theorem dX6_bring_42 : decode cX6_bring 42 = .ok (.aload_n 0, 1) := dk_42 (dk_at dksX6_bring_1 19 rfl rfl)
theorem dX6_bring_43 : decode cX6_bring 43 = .ok (.getfield 69, 3) := dk_180 0 69 (dk_at dksX6_bring_1 20 rfl rfl)
theorem dX6_bring_46 : decode cX6_bring 46 = .ok (.aload_n 0, 1) := dk_42 (dk_at dksX6_bring_1 23 rfl rfl)
theorem dX6_bring_47 : decode cX6_bring 47 = .ok (.getfield 341, 3) := dk_180 1 85 (dk_at dksX6_bring_2 0 rfl rfl)
theorem dX6_bring_50 : decode cX6_bring 50 = .ok (.bipush 8, 2) := dk_16 8 (dk_at dksX6_bring_2 3 rfl rfl)
theorem dX6_bring_52 : decode cX6_bring 52 = .ok (.idiv, 1) := dk_108 (dk_at dksX6_bring_2 5 rfl rfl)
theorem dX6_bring_53 : decode cX6_bring 53 = .ok (.iaload, 1) := dk_46 (dk_at dksX6_bring_2 6 rfl rfl)
theorem dX6_bring_54 : decode cX6_bring 54 = .ok (.iload_n 1, 1) := dk_27 (dk_at dksX6_bring_2 7 rfl rfl)
theorem dX6_bring_55 : decode cX6_bring 55 = .ok (.iload_n 3, 1) := dk_29 (dk_at dksX6_bring_2 8 rfl rfl)
theorem dX6_bring_56 : decode cX6_bring 56 = .ok (.ishr, 1) := dk_122 (dk_at dksX6_bring_2 9 rfl rfl)
theorem dX6_bring_57 : decode cX6_bring 57 = .ok (.iconst 1, 1) := dk_4 (dk_at dksX6_bring_2 10 rfl rfl)
theorem dX6_bring_58 : decode cX6_bring 58 = .ok (.iand, 1) := dk_126 (dk_at dksX6_bring_2 11 rfl rfl)
theorem dX6_bring_59 : decode cX6_bring 59 = .ok (.bipush 7, 2) := dk_16 7 (dk_at dksX6_bring_2 12 rfl rfl)
theorem dX6_bring_61 : decode cX6_bring 61 = .ok (.aload_n 0, 1) := dk_42 (dk_at dksX6_bring_2 14 rfl rfl)
theorem dX6_bring_62 : decode cX6_bring 62 = .ok (.getfield 341, 3) := dk_180 1 85 (dk_at dksX6_bring_2 15 rfl rfl)
theorem dX6_bring_65 : decode cX6_bring 65 = .ok (.bipush 8, 2) := dk_16 8 (dk_at dksX6_bring_2 18 rfl rfl)
theorem dX6_bring_67 : decode cX6_bring 67 = .ok (.irem, 1) := dk_112 (dk_at dksX6_bring_2 20 rfl rfl)
theorem dX6_bring_68 : decode cX6_bring 68 = .ok (.isub, 1) := dk_100 (dk_at dksX6_bring_2 21 rfl rfl)
theorem dX6_bring_69 : decode cX6_bring 69 = .ok (.ishl, 1) := dk_120 (dk_at dksX6_bring_2 22 rfl rfl)
theorem dX6_bring_70 : decode cX6_bring 70 = .ok (.ior, 1) := dk_128 (dk_at dksX6_bring_2 23 rfl rfl)
theorem dX6_bring_71 : decode cX6_bring 71 = .ok (.iastore, 1) := dk_79 (dk_at dksX6_bring_3 0 rfl rfl)
theorem dX6_bring_72 : decode cX6_bring 72 = .ok (.aload_n 0, 1) := dk_42 (dk_at dksX6_bring_3 1 rfl rfl)
theorem dX6_bring_73 : decode cX6_bring 73 = .ok (.dup, 1) := dk_89 (dk_at dksX6_bring_3 2 rfl rfl)
theorem dX6_bring_74 : decode cX6_bring 74 = .ok (.getfield 341, 3) := dk_180 1 85 (dk_at dksX6_bring_3 3 rfl rfl)
theorem dX6_bring_77 : decode cX6_bring 77 = .ok (.iconst 1, 1) := dk_4 (dk_at dksX6_bring_3 6 rfl rfl)
theorem dX6_bring_78 : decode cX6_bring 78 = .ok (.iadd, 1) := dk_96 (dk_at dksX6_bring_3 7 rfl rfl)
theorem dX6_bring_79 : decode cX6_bring 79 = .ok (.putfield 341, 3) := dk_181 1 85 (dk_at dksX6_bring_3 8 rfl rfl)
theorem dX6_bring_82 : decode cX6_bring 82 = .ok (.iinc 3 (-1), 3) := dk_132 3 255 (dk_at dksX6_bring_3 11 rfl rfl)
theorem dX6_bring_85 : decode cX6_bring 85 = .ok (.goto (-81), 3) := dk_167 255 175 (dk_at dksX6_bring_3 14 rfl rfl)
theorem dX6_bring_88 : decode cX6_bring 88 = .ok (.return_, 1) := dk_177 (dk_at dksX6_bring_3 17 rfl rfl)
abbrev cX6_bringCount : ByteArray := prog_18_method_61_code
def yX6_bringCount : MethodName := ⟨RX6, "bringCount", "(II)V"⟩
def dkwX6_bringCount_2 : List UInt8 := [182, 1, 97, 177]
abbrev dktX6_bringCount_2 : List UInt8 := dkwX6_bringCount_2 ++ []
def dkwX6_bringCount_1 : List UInt8 := [42, 180, 0, 23, 28, 46, 42, 180, 0, 26, 28, 46, 182, 1, 103, 167, 0, 10, 42, 27, 16, 8]
abbrev dktX6_bringCount_1 : List UInt8 := dkwX6_bringCount_1 ++ dktX6_bringCount_2
def dkwX6_bringCount_0 : List UInt8 := [42, 180, 0, 41, 28, 51, 154, 0, 7, 42, 182, 1, 100, 42, 180, 0, 41, 28, 51, 153, 0, 23, 42, 27]
abbrev dktX6_bringCount_0 : List UInt8 := dkwX6_bringCount_0 ++ dktX6_bringCount_1
theorem dksX6_bringCount_0 : cX6_bringCount.data.toList.drop 0 = dktX6_bringCount_0 := by decide +kernel
theorem dksX6_bringCount_1 : cX6_bringCount.data.toList.drop 24 = dktX6_bringCount_1 := dk_seg dksX6_bringCount_0 24 rfl rfl
theorem dksX6_bringCount_2 : cX6_bringCount.data.toList.drop 46 = dktX6_bringCount_2 := dk_seg dksX6_bringCount_1 22 rfl rfl
theorem dX6_bringCount_0 : decode cX6_bringCount 0 = .ok (.aload_n 0, 1) := dk_42 (dk_at dksX6_bringCount_0 0 rfl rfl)
theorem dX6_bringCount_1 : decode cX6_bringCount 1 = .ok (.getfield 41, 3) := dk_180 0 41 (dk_at dksX6_bringCount_0 1 rfl rfl)
theorem dX6_bringCount_4 : decode cX6_bringCount 4 = .ok (.iload_n 2, 1) := dk_28 (dk_at dksX6_bringCount_0 4 rfl rfl)
theorem dX6_bringCount_5 : decode cX6_bringCount 5 = .ok (.baload, 1) := dk_51 (dk_at dksX6_bringCount_0 5 rfl rfl)
theorem dX6_bringCount_6 : decode cX6_bringCount 6 = .ok (.ifCond .ne 7, 3) := dk_154 0 7 (dk_at dksX6_bringCount_0 6 rfl rfl)
theorem dX6_bringCount_9 : decode cX6_bringCount 9 = .ok (.aload_n 0, 1) := dk_42 (dk_at dksX6_bringCount_0 9 rfl rfl)
theorem dX6_bringCount_10 : decode cX6_bringCount 10 = .ok (.invokevirtual 356, 3) := dk_182 1 100 (dk_at dksX6_bringCount_0 10 rfl rfl)
theorem dX6_bringCount_13 : decode cX6_bringCount 13 = .ok (.aload_n 0, 1) := dk_42 (dk_at dksX6_bringCount_0 13 rfl rfl)
theorem dX6_bringCount_14 : decode cX6_bringCount 14 = .ok (.getfield 41, 3) := dk_180 0 41 (dk_at dksX6_bringCount_0 14 rfl rfl)
theorem dX6_bringCount_17 : decode cX6_bringCount 17 = .ok (.iload_n 2, 1) := dk_28 (dk_at dksX6_bringCount_0 17 rfl rfl)
theorem dX6_bringCount_18 : decode cX6_bringCount 18 = .ok (.baload, 1) := dk_51 (dk_at dksX6_bringCount_0 18 rfl rfl)
theorem dX6_bringCount_19 : decode cX6_bringCount 19 = .ok (.ifCond .eq 23, 3) := dk_153 0 23 (dk_at dksX6_bringCount_0 19 rfl rfl)
theorem dX6_bringCount_22 : decode cX6_bringCount 22 = .ok (.aload_n 0, 1) := dk_42 (dk_at dksX6_bringCount_0 22 rfl rfl)
theorem dX6_bringCount_23 : decode cX6_bringCount 23 = .ok (.iload_n 1, 1) := dk_27 (dk_at dksX6_bringCount_0 23 rfl rfl)
theorem dX6_bringCount_24 : decode cX6_bringCount 24 = .ok (.aload_n 0, 1) := dk_42 (dk_at dksX6_bringCount_1 0 rfl rfl)
theorem dX6_bringCount_25 : decode cX6_bringCount 25 = .ok (.getfield 23, 3) := dk_180 0 23 (dk_at dksX6_bringCount_1 1 rfl rfl)
theorem dX6_bringCount_28 : decode cX6_bringCount 28 = .ok (.iload_n 2, 1) := dk_28 (dk_at dksX6_bringCount_1 4 rfl rfl)
theorem dX6_bringCount_29 : decode cX6_bringCount 29 = .ok (.iaload, 1) := dk_46 (dk_at dksX6_bringCount_1 5 rfl rfl)
theorem dX6_bringCount_30 : decode cX6_bringCount 30 = .ok (.aload_n 0, 1) := dk_42 (dk_at dksX6_bringCount_1 6 rfl rfl)
theorem dX6_bringCount_31 : decode cX6_bringCount 31 = .ok (.getfield 26, 3) := dk_180 0 26 (dk_at dksX6_bringCount_1 7 rfl rfl)
theorem dX6_bringCount_34 : decode cX6_bringCount 34 = .ok (.iload_n 2, 1) := dk_28 (dk_at dksX6_bringCount_1 10 rfl rfl)
theorem dX6_bringCount_35 : decode cX6_bringCount 35 = .ok (.iaload, 1) := dk_46 (dk_at dksX6_bringCount_1 11 rfl rfl)
theorem dX6_bringCount_36 : decode cX6_bringCount 36 = .ok (.invokevirtual 359, 3) := dk_182 1 103 (dk_at dksX6_bringCount_1 12 rfl rfl)
theorem dX6_bringCount_39 : decode cX6_bringCount 39 = .ok (.goto 10, 3) := dk_167 0 10 (dk_at dksX6_bringCount_1 15 rfl rfl)
theorem dX6_bringCount_42 : decode cX6_bringCount 42 = .ok (.aload_n 0, 1) := dk_42 (dk_at dksX6_bringCount_1 18 rfl rfl)
theorem dX6_bringCount_43 : decode cX6_bringCount 43 = .ok (.iload_n 1, 1) := dk_27 (dk_at dksX6_bringCount_1 19 rfl rfl)
theorem dX6_bringCount_44 : decode cX6_bringCount 44 = .ok (.bipush 8, 2) := dk_16 8 (dk_at dksX6_bringCount_1 20 rfl rfl)
theorem dX6_bringCount_46 : decode cX6_bringCount 46 = .ok (.invokevirtual 353, 3) := dk_182 1 97 (dk_at dksX6_bringCount_2 0 rfl rfl)
theorem dX6_bringCount_49 : decode cX6_bringCount 49 = .ok (.return_, 1) := dk_177 (dk_at dksX6_bringCount_2 3 rfl rfl)
abbrev cX6_fill : ByteArray := prog_18_method_59_code
def yX6_fill : MethodName := ⟨RX6, "fill", "()V"⟩
def dkwX6_fill_1 : List UInt8 := [100, 96, 181, 1, 85, 177]
abbrev dktX6_fill_1 : List UInt8 := dkwX6_fill_1 ++ []
def dkwX6_fill_0 : List UInt8 := [42, 180, 1, 85, 16, 8, 112, 158, 0, 22, 42, 89, 180, 1, 85, 16, 8, 42, 180, 1, 85, 16, 8, 112]
abbrev dktX6_fill_0 : List UInt8 := dkwX6_fill_0 ++ dktX6_fill_1
theorem dksX6_fill_0 : cX6_fill.data.toList.drop 0 = dktX6_fill_0 := by decide +kernel
theorem dksX6_fill_1 : cX6_fill.data.toList.drop 24 = dktX6_fill_1 := dk_seg dksX6_fill_0 24 rfl rfl
theorem dX6_fill_0 : decode cX6_fill 0 = .ok (.aload_n 0, 1) := dk_42 (dk_at dksX6_fill_0 0 rfl rfl)
theorem dX6_fill_1 : decode cX6_fill 1 = .ok (.getfield 341, 3) := dk_180 1 85 (dk_at dksX6_fill_0 1 rfl rfl)
theorem dX6_fill_4 : decode cX6_fill 4 = .ok (.bipush 8, 2) := dk_16 8 (dk_at dksX6_fill_0 4 rfl rfl)
theorem dX6_fill_6 : decode cX6_fill 6 = .ok (.irem, 1) := dk_112 (dk_at dksX6_fill_0 6 rfl rfl)
theorem dX6_fill_7 : decode cX6_fill 7 = .ok (.ifCond .le 22, 3) := dk_158 0 22 (dk_at dksX6_fill_0 7 rfl rfl)
theorem dX6_fill_10 : decode cX6_fill 10 = .ok (.aload_n 0, 1) := dk_42 (dk_at dksX6_fill_0 10 rfl rfl)
theorem dX6_fill_11 : decode cX6_fill 11 = .ok (.dup, 1) := dk_89 (dk_at dksX6_fill_0 11 rfl rfl)
theorem dX6_fill_12 : decode cX6_fill 12 = .ok (.getfield 341, 3) := dk_180 1 85 (dk_at dksX6_fill_0 12 rfl rfl)
theorem dX6_fill_15 : decode cX6_fill 15 = .ok (.bipush 8, 2) := dk_16 8 (dk_at dksX6_fill_0 15 rfl rfl)
theorem dX6_fill_17 : decode cX6_fill 17 = .ok (.aload_n 0, 1) := dk_42 (dk_at dksX6_fill_0 17 rfl rfl)
theorem dX6_fill_18 : decode cX6_fill 18 = .ok (.getfield 341, 3) := dk_180 1 85 (dk_at dksX6_fill_0 18 rfl rfl)
theorem dX6_fill_21 : decode cX6_fill 21 = .ok (.bipush 8, 2) := dk_16 8 (dk_at dksX6_fill_0 21 rfl rfl)
theorem dX6_fill_23 : decode cX6_fill 23 = .ok (.irem, 1) := dk_112 (dk_at dksX6_fill_0 23 rfl rfl)
theorem dX6_fill_24 : decode cX6_fill 24 = .ok (.isub, 1) := dk_100 (dk_at dksX6_fill_1 0 rfl rfl)
theorem dX6_fill_25 : decode cX6_fill 25 = .ok (.iadd, 1) := dk_96 (dk_at dksX6_fill_1 1 rfl rfl)
theorem dX6_fill_26 : decode cX6_fill 26 = .ok (.putfield 341, 3) := dk_181 1 85 (dk_at dksX6_fill_1 2 rfl rfl)
theorem dX6_fill_29 : decode cX6_fill 29 = .ok (.return_, 1) := dk_177 (dk_at dksX6_fill_1 5 rfl rfl)
abbrev cX6_bringOf : ByteArray := prog_18_method_60_code
def yX6_bringOf : MethodName := ⟨RX6, "bringOf", "(III)V"⟩
def dkwX6_bringOf_2 : List UInt8 := [167, 0, 5, 16, 16, 182, 1, 97, 177]
abbrev dktX6_bringOf_2 : List UInt8 := dkwX6_bringOf_2 ++ []
def dkwX6_bringOf_1 : List UInt8 := [17, 0, 255, 162, 0, 11, 21, 4, 184, 1, 67, 167, 0, 18, 21, 4, 17, 0, 255, 160, 0, 8, 16, 8]
abbrev dktX6_bringOf_1 : List UInt8 := dkwX6_bringOf_1 ++ dktX6_bringOf_2
def dkwX6_bringOf_0 : List UInt8 := [29, 28, 100, 54, 4, 21, 4, 17, 0, 254, 164, 0, 7, 42, 182, 1, 100, 42, 27, 28, 100, 21, 4]
abbrev dktX6_bringOf_0 : List UInt8 := dkwX6_bringOf_0 ++ dktX6_bringOf_1
theorem dksX6_bringOf_0 : cX6_bringOf.data.toList.drop 0 = dktX6_bringOf_0 := by decide +kernel
theorem dksX6_bringOf_1 : cX6_bringOf.data.toList.drop 23 = dktX6_bringOf_1 := dk_seg dksX6_bringOf_0 23 rfl rfl
theorem dksX6_bringOf_2 : cX6_bringOf.data.toList.drop 47 = dktX6_bringOf_2 := dk_seg dksX6_bringOf_1 24 rfl rfl
theorem dX6_bringOf_0 : decode cX6_bringOf 0 = .ok (.iload_n 3, 1) := dk_29 (dk_at dksX6_bringOf_0 0 rfl rfl)
theorem dX6_bringOf_1 : decode cX6_bringOf 1 = .ok (.iload_n 2, 1) := dk_28 (dk_at dksX6_bringOf_0 1 rfl rfl)
theorem dX6_bringOf_2 : decode cX6_bringOf 2 = .ok (.isub, 1) := dk_100 (dk_at dksX6_bringOf_0 2 rfl rfl)
theorem dX6_bringOf_3 : decode cX6_bringOf 3 = .ok (.istore 4, 2) := dk_54 4 (dk_at dksX6_bringOf_0 3 rfl rfl)
theorem dX6_bringOf_5 : decode cX6_bringOf 5 = .ok (.iload 4, 2) := dk_21 4 (dk_at dksX6_bringOf_0 5 rfl rfl)
theorem dX6_bringOf_7 : decode cX6_bringOf 7 = .ok (.sipush 254, 3) := dk_17 0 254 (dk_at dksX6_bringOf_0 7 rfl rfl)
theorem dX6_bringOf_10 : decode cX6_bringOf 10 = .ok (.if_icmp .le 7, 3) := dk_164 0 7 (dk_at dksX6_bringOf_0 10 rfl rfl)
theorem dX6_bringOf_13 : decode cX6_bringOf 13 = .ok (.aload_n 0, 1) := dk_42 (dk_at dksX6_bringOf_0 13 rfl rfl)
theorem dX6_bringOf_14 : decode cX6_bringOf 14 = .ok (.invokevirtual 356, 3) := dk_182 1 100 (dk_at dksX6_bringOf_0 14 rfl rfl)
theorem dX6_bringOf_17 : decode cX6_bringOf 17 = .ok (.aload_n 0, 1) := dk_42 (dk_at dksX6_bringOf_0 17 rfl rfl)
theorem dX6_bringOf_18 : decode cX6_bringOf 18 = .ok (.iload_n 1, 1) := dk_27 (dk_at dksX6_bringOf_0 18 rfl rfl)
theorem dX6_bringOf_19 : decode cX6_bringOf 19 = .ok (.iload_n 2, 1) := dk_28 (dk_at dksX6_bringOf_0 19 rfl rfl)
theorem dX6_bringOf_20 : decode cX6_bringOf 20 = .ok (.isub, 1) := dk_100 (dk_at dksX6_bringOf_0 20 rfl rfl)
theorem dX6_bringOf_21 : decode cX6_bringOf 21 = .ok (.iload 4, 2) := dk_21 4 (dk_at dksX6_bringOf_0 21 rfl rfl)
theorem dX6_bringOf_23 : decode cX6_bringOf 23 = .ok (.sipush 255, 3) := dk_17 0 255 (dk_at dksX6_bringOf_1 0 rfl rfl)
theorem dX6_bringOf_26 : decode cX6_bringOf 26 = .ok (.if_icmp .ge 11, 3) := dk_162 0 11 (dk_at dksX6_bringOf_1 3 rfl rfl)
theorem dX6_bringOf_29 : decode cX6_bringOf 29 = .ok (.iload 4, 2) := dk_21 4 (dk_at dksX6_bringOf_1 6 rfl rfl)
theorem dX6_bringOf_31 : decode cX6_bringOf 31 = .ok (.invokestatic 323, 3) := dk_184 1 67 (dk_at dksX6_bringOf_1 8 rfl rfl)
theorem dX6_bringOf_34 : decode cX6_bringOf 34 = .ok (.goto 18, 3) := dk_167 0 18 (dk_at dksX6_bringOf_1 11 rfl rfl)
theorem dX6_bringOf_37 : decode cX6_bringOf 37 = .ok (.iload 4, 2) := dk_21 4 (dk_at dksX6_bringOf_1 14 rfl rfl)
theorem dX6_bringOf_39 : decode cX6_bringOf 39 = .ok (.sipush 255, 3) := dk_17 0 255 (dk_at dksX6_bringOf_1 16 rfl rfl)
theorem dX6_bringOf_42 : decode cX6_bringOf 42 = .ok (.if_icmp .ne 8, 3) := dk_160 0 8 (dk_at dksX6_bringOf_1 19 rfl rfl)
theorem dX6_bringOf_45 : decode cX6_bringOf 45 = .ok (.bipush 8, 2) := dk_16 8 (dk_at dksX6_bringOf_1 22 rfl rfl)
theorem dX6_bringOf_47 : decode cX6_bringOf 47 = .ok (.goto 5, 3) := dk_167 0 5 (dk_at dksX6_bringOf_2 0 rfl rfl)
theorem dX6_bringOf_50 : decode cX6_bringOf 50 = .ok (.bipush 16, 2) := dk_16 16 (dk_at dksX6_bringOf_2 3 rfl rfl)
theorem dX6_bringOf_52 : decode cX6_bringOf 52 = .ok (.invokevirtual 353, 3) := dk_182 1 97 (dk_at dksX6_bringOf_2 5 rfl rfl)
theorem dX6_bringOf_55 : decode cX6_bringOf 55 = .ok (.return_, 1) := dk_177 (dk_at dksX6_bringOf_2 8 rfl rfl)
abbrev cX6_marks : ByteArray := prog_18_method_63_code
def yX6_marks : MethodName := ⟨RX6, "marks", "(II)V"⟩
def dkwX6_marks_4 : List UInt8 := [180, 0, 87, 29, 46, 167, 0, 4, 3, 96, 62, 132, 4, 1, 167, 255, 156, 177]
abbrev dktX6_marks_4 : List UInt8 := dkwX6_marks_4 ++ []
def dkwX6_marks_3 : List UInt8 := [182, 1, 88, 154, 0, 7, 4, 167, 0, 4, 3, 4, 182, 1, 97, 29, 21, 5, 153, 0, 12, 42]
abbrev dktX6_marks_3 : List UInt8 := dkwX6_marks_3 ++ dktX6_marks_4
def dkwX6_marks_2 : List UInt8 := [42, 180, 0, 51, 16, 6, 28, 104, 21, 4, 96, 46, 153, 0, 26, 42, 21, 5, 153, 0, 15, 42, 29]
abbrev dktX6_marks_2 : List UInt8 := dkwX6_marks_2 ++ dktX6_marks_3
def dkwX6_marks_1 : List UInt8 := [27, 46, 96, 162, 0, 18, 42, 180, 0, 78, 29, 46, 21, 4, 160, 0, 7, 4, 167, 0, 4, 3, 54, 5]
abbrev dktX6_marks_1 : List UInt8 := dkwX6_marks_1 ++ dktX6_marks_2
def dkwX6_marks_0 : List UInt8 := [27, 4, 96, 62, 3, 54, 4, 21, 4, 42, 180, 0, 32, 28, 46, 162, 0, 95, 29, 27, 42, 180, 0, 87]
abbrev dktX6_marks_0 : List UInt8 := dkwX6_marks_0 ++ dktX6_marks_1
theorem dksX6_marks_0 : cX6_marks.data.toList.drop 0 = dktX6_marks_0 := by decide +kernel
theorem dksX6_marks_1 : cX6_marks.data.toList.drop 24 = dktX6_marks_1 := dk_seg dksX6_marks_0 24 rfl rfl
theorem dksX6_marks_2 : cX6_marks.data.toList.drop 48 = dktX6_marks_2 := dk_seg dksX6_marks_1 24 rfl rfl
theorem dksX6_marks_3 : cX6_marks.data.toList.drop 71 = dktX6_marks_3 := dk_seg dksX6_marks_2 23 rfl rfl
theorem dksX6_marks_4 : cX6_marks.data.toList.drop 93 = dktX6_marks_4 := dk_seg dksX6_marks_3 22 rfl rfl
theorem dX6_marks_0 : decode cX6_marks 0 = .ok (.iload_n 1, 1) := dk_27 (dk_at dksX6_marks_0 0 rfl rfl)
theorem dX6_marks_1 : decode cX6_marks 1 = .ok (.iconst 1, 1) := dk_4 (dk_at dksX6_marks_0 1 rfl rfl)
theorem dX6_marks_2 : decode cX6_marks 2 = .ok (.iadd, 1) := dk_96 (dk_at dksX6_marks_0 2 rfl rfl)
theorem dX6_marks_3 : decode cX6_marks 3 = .ok (.istore_n 3, 1) := dk_62 (dk_at dksX6_marks_0 3 rfl rfl)
theorem dX6_marks_4 : decode cX6_marks 4 = .ok (.iconst 0, 1) := dk_3 (dk_at dksX6_marks_0 4 rfl rfl)
theorem dX6_marks_5 : decode cX6_marks 5 = .ok (.istore 4, 2) := dk_54 4 (dk_at dksX6_marks_0 5 rfl rfl)
theorem dX6_marks_7 : decode cX6_marks 7 = .ok (.iload 4, 2) := dk_21 4 (dk_at dksX6_marks_0 7 rfl rfl)
theorem dX6_marks_9 : decode cX6_marks 9 = .ok (.aload_n 0, 1) := dk_42 (dk_at dksX6_marks_0 9 rfl rfl)
theorem dX6_marks_10 : decode cX6_marks 10 = .ok (.getfield 32, 3) := dk_180 0 32 (dk_at dksX6_marks_0 10 rfl rfl)
theorem dX6_marks_13 : decode cX6_marks 13 = .ok (.iload_n 2, 1) := dk_28 (dk_at dksX6_marks_0 13 rfl rfl)
theorem dX6_marks_14 : decode cX6_marks 14 = .ok (.iaload, 1) := dk_46 (dk_at dksX6_marks_0 14 rfl rfl)
theorem dX6_marks_15 : decode cX6_marks 15 = .ok (.if_icmp .ge 95, 3) := dk_162 0 95 (dk_at dksX6_marks_0 15 rfl rfl)
theorem dX6_marks_18 : decode cX6_marks 18 = .ok (.iload_n 3, 1) := dk_29 (dk_at dksX6_marks_0 18 rfl rfl)
theorem dX6_marks_19 : decode cX6_marks 19 = .ok (.iload_n 1, 1) := dk_27 (dk_at dksX6_marks_0 19 rfl rfl)
theorem dX6_marks_20 : decode cX6_marks 20 = .ok (.aload_n 0, 1) := dk_42 (dk_at dksX6_marks_0 20 rfl rfl)
theorem dX6_marks_21 : decode cX6_marks 21 = .ok (.getfield 87, 3) := dk_180 0 87 (dk_at dksX6_marks_0 21 rfl rfl)
theorem dX6_marks_24 : decode cX6_marks 24 = .ok (.iload_n 1, 1) := dk_27 (dk_at dksX6_marks_1 0 rfl rfl)
theorem dX6_marks_25 : decode cX6_marks 25 = .ok (.iaload, 1) := dk_46 (dk_at dksX6_marks_1 1 rfl rfl)
theorem dX6_marks_26 : decode cX6_marks 26 = .ok (.iadd, 1) := dk_96 (dk_at dksX6_marks_1 2 rfl rfl)
theorem dX6_marks_27 : decode cX6_marks 27 = .ok (.if_icmp .ge 18, 3) := dk_162 0 18 (dk_at dksX6_marks_1 3 rfl rfl)
theorem dX6_marks_30 : decode cX6_marks 30 = .ok (.aload_n 0, 1) := dk_42 (dk_at dksX6_marks_1 6 rfl rfl)
theorem dX6_marks_31 : decode cX6_marks 31 = .ok (.getfield 78, 3) := dk_180 0 78 (dk_at dksX6_marks_1 7 rfl rfl)
theorem dX6_marks_34 : decode cX6_marks 34 = .ok (.iload_n 3, 1) := dk_29 (dk_at dksX6_marks_1 10 rfl rfl)
theorem dX6_marks_35 : decode cX6_marks 35 = .ok (.iaload, 1) := dk_46 (dk_at dksX6_marks_1 11 rfl rfl)
theorem dX6_marks_36 : decode cX6_marks 36 = .ok (.iload 4, 2) := dk_21 4 (dk_at dksX6_marks_1 12 rfl rfl)
theorem dX6_marks_38 : decode cX6_marks 38 = .ok (.if_icmp .ne 7, 3) := dk_160 0 7 (dk_at dksX6_marks_1 14 rfl rfl)
theorem dX6_marks_41 : decode cX6_marks 41 = .ok (.iconst 1, 1) := dk_4 (dk_at dksX6_marks_1 17 rfl rfl)
theorem dX6_marks_42 : decode cX6_marks 42 = .ok (.goto 4, 3) := dk_167 0 4 (dk_at dksX6_marks_1 18 rfl rfl)
theorem dX6_marks_45 : decode cX6_marks 45 = .ok (.iconst 0, 1) := dk_3 (dk_at dksX6_marks_1 21 rfl rfl)
theorem dX6_marks_46 : decode cX6_marks 46 = .ok (.istore 5, 2) := dk_54 5 (dk_at dksX6_marks_1 22 rfl rfl)
theorem dX6_marks_48 : decode cX6_marks 48 = .ok (.aload_n 0, 1) := dk_42 (dk_at dksX6_marks_2 0 rfl rfl)
theorem dX6_marks_49 : decode cX6_marks 49 = .ok (.getfield 51, 3) := dk_180 0 51 (dk_at dksX6_marks_2 1 rfl rfl)
theorem dX6_marks_52 : decode cX6_marks 52 = .ok (.bipush 6, 2) := dk_16 6 (dk_at dksX6_marks_2 4 rfl rfl)
theorem dX6_marks_54 : decode cX6_marks 54 = .ok (.iload_n 2, 1) := dk_28 (dk_at dksX6_marks_2 6 rfl rfl)
theorem dX6_marks_55 : decode cX6_marks 55 = .ok (.imul, 1) := dk_104 (dk_at dksX6_marks_2 7 rfl rfl)
theorem dX6_marks_56 : decode cX6_marks 56 = .ok (.iload 4, 2) := dk_21 4 (dk_at dksX6_marks_2 8 rfl rfl)
theorem dX6_marks_58 : decode cX6_marks 58 = .ok (.iadd, 1) := dk_96 (dk_at dksX6_marks_2 10 rfl rfl)
theorem dX6_marks_59 : decode cX6_marks 59 = .ok (.iaload, 1) := dk_46 (dk_at dksX6_marks_2 11 rfl rfl)
theorem dX6_marks_60 : decode cX6_marks 60 = .ok (.ifCond .eq 26, 3) := dk_153 0 26 (dk_at dksX6_marks_2 12 rfl rfl)
theorem dX6_marks_63 : decode cX6_marks 63 = .ok (.aload_n 0, 1) := dk_42 (dk_at dksX6_marks_2 15 rfl rfl)
theorem dX6_marks_64 : decode cX6_marks 64 = .ok (.iload 5, 2) := dk_21 5 (dk_at dksX6_marks_2 16 rfl rfl)
theorem dX6_marks_66 : decode cX6_marks 66 = .ok (.ifCond .eq 15, 3) := dk_153 0 15 (dk_at dksX6_marks_2 18 rfl rfl)
theorem dX6_marks_69 : decode cX6_marks 69 = .ok (.aload_n 0, 1) := dk_42 (dk_at dksX6_marks_2 21 rfl rfl)
theorem dX6_marks_70 : decode cX6_marks 70 = .ok (.iload_n 3, 1) := dk_29 (dk_at dksX6_marks_2 22 rfl rfl)
theorem dX6_marks_71 : decode cX6_marks 71 = .ok (.invokevirtual 344, 3) := dk_182 1 88 (dk_at dksX6_marks_3 0 rfl rfl)
theorem dX6_marks_74 : decode cX6_marks 74 = .ok (.ifCond .ne 7, 3) := dk_154 0 7 (dk_at dksX6_marks_3 3 rfl rfl)
theorem dX6_marks_77 : decode cX6_marks 77 = .ok (.iconst 1, 1) := dk_4 (dk_at dksX6_marks_3 6 rfl rfl)
theorem dX6_marks_78 : decode cX6_marks 78 = .ok (.goto 4, 3) := dk_167 0 4 (dk_at dksX6_marks_3 7 rfl rfl)
theorem dX6_marks_81 : decode cX6_marks 81 = .ok (.iconst 0, 1) := dk_3 (dk_at dksX6_marks_3 10 rfl rfl)
theorem dX6_marks_82 : decode cX6_marks 82 = .ok (.iconst 1, 1) := dk_4 (dk_at dksX6_marks_3 11 rfl rfl)
theorem dX6_marks_83 : decode cX6_marks 83 = .ok (.invokevirtual 353, 3) := dk_182 1 97 (dk_at dksX6_marks_3 12 rfl rfl)
theorem dX6_marks_86 : decode cX6_marks 86 = .ok (.iload_n 3, 1) := dk_29 (dk_at dksX6_marks_3 15 rfl rfl)
theorem dX6_marks_87 : decode cX6_marks 87 = .ok (.iload 5, 2) := dk_21 5 (dk_at dksX6_marks_3 16 rfl rfl)
theorem dX6_marks_89 : decode cX6_marks 89 = .ok (.ifCond .eq 12, 3) := dk_153 0 12 (dk_at dksX6_marks_3 18 rfl rfl)
theorem dX6_marks_92 : decode cX6_marks 92 = .ok (.aload_n 0, 1) := dk_42 (dk_at dksX6_marks_3 21 rfl rfl)
theorem dX6_marks_93 : decode cX6_marks 93 = .ok (.getfield 87, 3) := dk_180 0 87 (dk_at dksX6_marks_4 0 rfl rfl)
theorem dX6_marks_96 : decode cX6_marks 96 = .ok (.iload_n 3, 1) := dk_29 (dk_at dksX6_marks_4 3 rfl rfl)
theorem dX6_marks_97 : decode cX6_marks 97 = .ok (.iaload, 1) := dk_46 (dk_at dksX6_marks_4 4 rfl rfl)
theorem dX6_marks_98 : decode cX6_marks 98 = .ok (.goto 4, 3) := dk_167 0 4 (dk_at dksX6_marks_4 5 rfl rfl)
theorem dX6_marks_101 : decode cX6_marks 101 = .ok (.iconst 0, 1) := dk_3 (dk_at dksX6_marks_4 8 rfl rfl)
theorem dX6_marks_102 : decode cX6_marks 102 = .ok (.iadd, 1) := dk_96 (dk_at dksX6_marks_4 9 rfl rfl)
theorem dX6_marks_103 : decode cX6_marks 103 = .ok (.istore_n 3, 1) := dk_62 (dk_at dksX6_marks_4 10 rfl rfl)
theorem dX6_marks_104 : decode cX6_marks 104 = .ok (.iinc 4 1, 3) := dk_132 4 1 (dk_at dksX6_marks_4 11 rfl rfl)
theorem dX6_marks_107 : decode cX6_marks 107 = .ok (.goto (-100), 3) := dk_167 255 156 (dk_at dksX6_marks_4 14 rfl rfl)
theorem dX6_marks_110 : decode cX6_marks 110 = .ok (.return_, 1) := dk_177 (dk_at dksX6_marks_4 17 rfl rfl)
abbrev cX6_fails : ByteArray := prog_18_method_3_code
def yX6_fails : MethodName := ⟨RX6, "fails", "(I)I"⟩
def dkwX6_fails_0 : List UInt8 := [42, 27, 181, 0, 132, 3, 172]
abbrev dktX6_fails_0 : List UInt8 := dkwX6_fails_0 ++ []
theorem dksX6_fails_0 : cX6_fails.data.toList.drop 0 = dktX6_fails_0 := by decide +kernel
theorem dX6_fails_0 : decode cX6_fails 0 = .ok (.aload_n 0, 1) := dk_42 (dk_at dksX6_fails_0 0 rfl rfl)
theorem dX6_fails_1 : decode cX6_fails 1 = .ok (.iload_n 1, 1) := dk_27 (dk_at dksX6_fails_0 1 rfl rfl)
theorem dX6_fails_2 : decode cX6_fails 2 = .ok (.putfield 132, 3) := dk_181 0 132 (dk_at dksX6_fails_0 2 rfl rfl)
theorem dX6_fails_5 : decode cX6_fails 5 = .ok (.iconst 0, 1) := dk_3 (dk_at dksX6_fails_0 5 rfl rfl)
theorem dX6_fails_6 : decode cX6_fails 6 = .ok (.ireturn, 1) := dk_172 (dk_at dksX6_fails_0 6 rfl rfl)
abbrev cX6_keep : ByteArray := prog_18_method_64_code
def yX6_keep : MethodName := ⟨RX6, "keep", "()V"⟩
def dkwX6_keep_5 : List UInt8 := [180, 0, 99, 27, 42, 180, 0, 93, 27, 46, 79, 132, 1, 1, 167, 255, 233, 177]
abbrev dktX6_keep_5 : List UInt8 := dkwX6_keep_5 ++ []
def dkwX6_keep_4 : List UInt8 := [42, 180, 0, 84, 27, 46, 79, 132, 1, 1, 167, 255, 163, 3, 60, 27, 42, 180, 0, 239, 162, 0, 21, 42]
abbrev dktX6_keep_4 : List UInt8 := dkwX6_keep_4 ++ dktX6_keep_5
def dkwX6_keep_3 : List UInt8 := [180, 0, 96, 8, 27, 104, 6, 96, 42, 180, 0, 81, 27, 46, 79, 42, 180, 0, 96, 8, 27, 104, 7, 96]
abbrev dktX6_keep_3 : List UInt8 := dkwX6_keep_3 ++ dktX6_keep_4
def dkwX6_keep_2 : List UInt8 := [180, 0, 75, 27, 46, 79, 42, 180, 0, 96, 8, 27, 104, 5, 96, 42, 180, 0, 78, 27, 46, 79, 42]
abbrev dktX6_keep_2 : List UInt8 := dkwX6_keep_2 ++ dktX6_keep_3
def dkwX6_keep_1 : List UInt8 := [104, 42, 180, 0, 20, 42, 27, 182, 1, 52, 46, 79, 42, 180, 0, 96, 8, 27, 104, 4, 96, 42]
abbrev dktX6_keep_1 : List UInt8 := dkwX6_keep_1 ++ dktX6_keep_2
def dkwX6_keep_0 : List UInt8 := [42, 42, 180, 0, 233, 181, 0, 140, 3, 60, 27, 42, 180, 0, 233, 162, 0, 91, 42, 180, 0, 96, 8, 27]
abbrev dktX6_keep_0 : List UInt8 := dkwX6_keep_0 ++ dktX6_keep_1
theorem dksX6_keep_0 : cX6_keep.data.toList.drop 0 = dktX6_keep_0 := by decide +kernel
theorem dksX6_keep_1 : cX6_keep.data.toList.drop 24 = dktX6_keep_1 := dk_seg dksX6_keep_0 24 rfl rfl
theorem dksX6_keep_2 : cX6_keep.data.toList.drop 46 = dktX6_keep_2 := dk_seg dksX6_keep_1 22 rfl rfl
theorem dksX6_keep_3 : cX6_keep.data.toList.drop 69 = dktX6_keep_3 := dk_seg dksX6_keep_2 23 rfl rfl
theorem dksX6_keep_4 : cX6_keep.data.toList.drop 93 = dktX6_keep_4 := dk_seg dksX6_keep_3 24 rfl rfl
theorem dksX6_keep_5 : cX6_keep.data.toList.drop 117 = dktX6_keep_5 := dk_seg dksX6_keep_4 24 rfl rfl
theorem dX6_keep_0 : decode cX6_keep 0 = .ok (.aload_n 0, 1) := dk_42 (dk_at dksX6_keep_0 0 rfl rfl)
theorem dX6_keep_1 : decode cX6_keep 1 = .ok (.aload_n 0, 1) := dk_42 (dk_at dksX6_keep_0 1 rfl rfl)
theorem dX6_keep_2 : decode cX6_keep 2 = .ok (.getfield 233, 3) := dk_180 0 233 (dk_at dksX6_keep_0 2 rfl rfl)
theorem dX6_keep_5 : decode cX6_keep 5 = .ok (.putfield 140, 3) := dk_181 0 140 (dk_at dksX6_keep_0 5 rfl rfl)
theorem dX6_keep_8 : decode cX6_keep 8 = .ok (.iconst 0, 1) := dk_3 (dk_at dksX6_keep_0 8 rfl rfl)
theorem dX6_keep_9 : decode cX6_keep 9 = .ok (.istore_n 1, 1) := dk_60 (dk_at dksX6_keep_0 9 rfl rfl)
theorem dX6_keep_10 : decode cX6_keep 10 = .ok (.iload_n 1, 1) := dk_27 (dk_at dksX6_keep_0 10 rfl rfl)
theorem dX6_keep_11 : decode cX6_keep 11 = .ok (.aload_n 0, 1) := dk_42 (dk_at dksX6_keep_0 11 rfl rfl)
theorem dX6_keep_12 : decode cX6_keep 12 = .ok (.getfield 233, 3) := dk_180 0 233 (dk_at dksX6_keep_0 12 rfl rfl)
theorem dX6_keep_15 : decode cX6_keep 15 = .ok (.if_icmp .ge 91, 3) := dk_162 0 91 (dk_at dksX6_keep_0 15 rfl rfl)
theorem dX6_keep_18 : decode cX6_keep 18 = .ok (.aload_n 0, 1) := dk_42 (dk_at dksX6_keep_0 18 rfl rfl)
theorem dX6_keep_19 : decode cX6_keep 19 = .ok (.getfield 96, 3) := dk_180 0 96 (dk_at dksX6_keep_0 19 rfl rfl)
theorem dX6_keep_22 : decode cX6_keep 22 = .ok (.iconst 5, 1) := dk_8 (dk_at dksX6_keep_0 22 rfl rfl)
theorem dX6_keep_23 : decode cX6_keep 23 = .ok (.iload_n 1, 1) := dk_27 (dk_at dksX6_keep_0 23 rfl rfl)
theorem dX6_keep_24 : decode cX6_keep 24 = .ok (.imul, 1) := dk_104 (dk_at dksX6_keep_1 0 rfl rfl)
theorem dX6_keep_25 : decode cX6_keep 25 = .ok (.aload_n 0, 1) := dk_42 (dk_at dksX6_keep_1 1 rfl rfl)
theorem dX6_keep_26 : decode cX6_keep 26 = .ok (.getfield 20, 3) := dk_180 0 20 (dk_at dksX6_keep_1 2 rfl rfl)
theorem dX6_keep_29 : decode cX6_keep 29 = .ok (.aload_n 0, 1) := dk_42 (dk_at dksX6_keep_1 5 rfl rfl)
theorem dX6_keep_30 : decode cX6_keep 30 = .ok (.iload_n 1, 1) := dk_27 (dk_at dksX6_keep_1 6 rfl rfl)
theorem dX6_keep_31 : decode cX6_keep 31 = .ok (.invokevirtual 308, 3) := dk_182 1 52 (dk_at dksX6_keep_1 7 rfl rfl)
theorem dX6_keep_34 : decode cX6_keep 34 = .ok (.iaload, 1) := dk_46 (dk_at dksX6_keep_1 10 rfl rfl)
theorem dX6_keep_35 : decode cX6_keep 35 = .ok (.iastore, 1) := dk_79 (dk_at dksX6_keep_1 11 rfl rfl)
theorem dX6_keep_36 : decode cX6_keep 36 = .ok (.aload_n 0, 1) := dk_42 (dk_at dksX6_keep_1 12 rfl rfl)
theorem dX6_keep_37 : decode cX6_keep 37 = .ok (.getfield 96, 3) := dk_180 0 96 (dk_at dksX6_keep_1 13 rfl rfl)
theorem dX6_keep_40 : decode cX6_keep 40 = .ok (.iconst 5, 1) := dk_8 (dk_at dksX6_keep_1 16 rfl rfl)
theorem dX6_keep_41 : decode cX6_keep 41 = .ok (.iload_n 1, 1) := dk_27 (dk_at dksX6_keep_1 17 rfl rfl)
theorem dX6_keep_42 : decode cX6_keep 42 = .ok (.imul, 1) := dk_104 (dk_at dksX6_keep_1 18 rfl rfl)
theorem dX6_keep_43 : decode cX6_keep 43 = .ok (.iconst 1, 1) := dk_4 (dk_at dksX6_keep_1 19 rfl rfl)
theorem dX6_keep_44 : decode cX6_keep 44 = .ok (.iadd, 1) := dk_96 (dk_at dksX6_keep_1 20 rfl rfl)
theorem dX6_keep_45 : decode cX6_keep 45 = .ok (.aload_n 0, 1) := dk_42 (dk_at dksX6_keep_1 21 rfl rfl)
theorem dX6_keep_46 : decode cX6_keep 46 = .ok (.getfield 75, 3) := dk_180 0 75 (dk_at dksX6_keep_2 0 rfl rfl)
theorem dX6_keep_49 : decode cX6_keep 49 = .ok (.iload_n 1, 1) := dk_27 (dk_at dksX6_keep_2 3 rfl rfl)
theorem dX6_keep_50 : decode cX6_keep 50 = .ok (.iaload, 1) := dk_46 (dk_at dksX6_keep_2 4 rfl rfl)
theorem dX6_keep_51 : decode cX6_keep 51 = .ok (.iastore, 1) := dk_79 (dk_at dksX6_keep_2 5 rfl rfl)
theorem dX6_keep_52 : decode cX6_keep 52 = .ok (.aload_n 0, 1) := dk_42 (dk_at dksX6_keep_2 6 rfl rfl)
theorem dX6_keep_53 : decode cX6_keep 53 = .ok (.getfield 96, 3) := dk_180 0 96 (dk_at dksX6_keep_2 7 rfl rfl)
theorem dX6_keep_56 : decode cX6_keep 56 = .ok (.iconst 5, 1) := dk_8 (dk_at dksX6_keep_2 10 rfl rfl)
theorem dX6_keep_57 : decode cX6_keep 57 = .ok (.iload_n 1, 1) := dk_27 (dk_at dksX6_keep_2 11 rfl rfl)
theorem dX6_keep_58 : decode cX6_keep 58 = .ok (.imul, 1) := dk_104 (dk_at dksX6_keep_2 12 rfl rfl)
theorem dX6_keep_59 : decode cX6_keep 59 = .ok (.iconst 2, 1) := dk_5 (dk_at dksX6_keep_2 13 rfl rfl)
theorem dX6_keep_60 : decode cX6_keep 60 = .ok (.iadd, 1) := dk_96 (dk_at dksX6_keep_2 14 rfl rfl)
theorem dX6_keep_61 : decode cX6_keep 61 = .ok (.aload_n 0, 1) := dk_42 (dk_at dksX6_keep_2 15 rfl rfl)
theorem dX6_keep_62 : decode cX6_keep 62 = .ok (.getfield 78, 3) := dk_180 0 78 (dk_at dksX6_keep_2 16 rfl rfl)
theorem dX6_keep_65 : decode cX6_keep 65 = .ok (.iload_n 1, 1) := dk_27 (dk_at dksX6_keep_2 19 rfl rfl)
theorem dX6_keep_66 : decode cX6_keep 66 = .ok (.iaload, 1) := dk_46 (dk_at dksX6_keep_2 20 rfl rfl)
theorem dX6_keep_67 : decode cX6_keep 67 = .ok (.iastore, 1) := dk_79 (dk_at dksX6_keep_2 21 rfl rfl)
theorem dX6_keep_68 : decode cX6_keep 68 = .ok (.aload_n 0, 1) := dk_42 (dk_at dksX6_keep_2 22 rfl rfl)
theorem dX6_keep_69 : decode cX6_keep 69 = .ok (.getfield 96, 3) := dk_180 0 96 (dk_at dksX6_keep_3 0 rfl rfl)
theorem dX6_keep_72 : decode cX6_keep 72 = .ok (.iconst 5, 1) := dk_8 (dk_at dksX6_keep_3 3 rfl rfl)
theorem dX6_keep_73 : decode cX6_keep 73 = .ok (.iload_n 1, 1) := dk_27 (dk_at dksX6_keep_3 4 rfl rfl)
theorem dX6_keep_74 : decode cX6_keep 74 = .ok (.imul, 1) := dk_104 (dk_at dksX6_keep_3 5 rfl rfl)
theorem dX6_keep_75 : decode cX6_keep 75 = .ok (.iconst 3, 1) := dk_6 (dk_at dksX6_keep_3 6 rfl rfl)
theorem dX6_keep_76 : decode cX6_keep 76 = .ok (.iadd, 1) := dk_96 (dk_at dksX6_keep_3 7 rfl rfl)
theorem dX6_keep_77 : decode cX6_keep 77 = .ok (.aload_n 0, 1) := dk_42 (dk_at dksX6_keep_3 8 rfl rfl)
theorem dX6_keep_78 : decode cX6_keep 78 = .ok (.getfield 81, 3) := dk_180 0 81 (dk_at dksX6_keep_3 9 rfl rfl)
theorem dX6_keep_81 : decode cX6_keep 81 = .ok (.iload_n 1, 1) := dk_27 (dk_at dksX6_keep_3 12 rfl rfl)
theorem dX6_keep_82 : decode cX6_keep 82 = .ok (.iaload, 1) := dk_46 (dk_at dksX6_keep_3 13 rfl rfl)
theorem dX6_keep_83 : decode cX6_keep 83 = .ok (.iastore, 1) := dk_79 (dk_at dksX6_keep_3 14 rfl rfl)
theorem dX6_keep_84 : decode cX6_keep 84 = .ok (.aload_n 0, 1) := dk_42 (dk_at dksX6_keep_3 15 rfl rfl)
theorem dX6_keep_85 : decode cX6_keep 85 = .ok (.getfield 96, 3) := dk_180 0 96 (dk_at dksX6_keep_3 16 rfl rfl)
theorem dX6_keep_88 : decode cX6_keep 88 = .ok (.iconst 5, 1) := dk_8 (dk_at dksX6_keep_3 19 rfl rfl)
theorem dX6_keep_89 : decode cX6_keep 89 = .ok (.iload_n 1, 1) := dk_27 (dk_at dksX6_keep_3 20 rfl rfl)
theorem dX6_keep_90 : decode cX6_keep 90 = .ok (.imul, 1) := dk_104 (dk_at dksX6_keep_3 21 rfl rfl)
theorem dX6_keep_91 : decode cX6_keep 91 = .ok (.iconst 4, 1) := dk_7 (dk_at dksX6_keep_3 22 rfl rfl)
theorem dX6_keep_92 : decode cX6_keep 92 = .ok (.iadd, 1) := dk_96 (dk_at dksX6_keep_3 23 rfl rfl)
theorem dX6_keep_93 : decode cX6_keep 93 = .ok (.aload_n 0, 1) := dk_42 (dk_at dksX6_keep_4 0 rfl rfl)
theorem dX6_keep_94 : decode cX6_keep 94 = .ok (.getfield 84, 3) := dk_180 0 84 (dk_at dksX6_keep_4 1 rfl rfl)
theorem dX6_keep_97 : decode cX6_keep 97 = .ok (.iload_n 1, 1) := dk_27 (dk_at dksX6_keep_4 4 rfl rfl)
theorem dX6_keep_98 : decode cX6_keep 98 = .ok (.iaload, 1) := dk_46 (dk_at dksX6_keep_4 5 rfl rfl)
theorem dX6_keep_99 : decode cX6_keep 99 = .ok (.iastore, 1) := dk_79 (dk_at dksX6_keep_4 6 rfl rfl)
theorem dX6_keep_100 : decode cX6_keep 100 = .ok (.iinc 1 1, 3) := dk_132 1 1 (dk_at dksX6_keep_4 7 rfl rfl)
theorem dX6_keep_103 : decode cX6_keep 103 = .ok (.goto (-93), 3) := dk_167 255 163 (dk_at dksX6_keep_4 10 rfl rfl)
theorem dX6_keep_106 : decode cX6_keep 106 = .ok (.iconst 0, 1) := dk_3 (dk_at dksX6_keep_4 13 rfl rfl)
theorem dX6_keep_107 : decode cX6_keep 107 = .ok (.istore_n 1, 1) := dk_60 (dk_at dksX6_keep_4 14 rfl rfl)
theorem dX6_keep_108 : decode cX6_keep 108 = .ok (.iload_n 1, 1) := dk_27 (dk_at dksX6_keep_4 15 rfl rfl)
theorem dX6_keep_109 : decode cX6_keep 109 = .ok (.aload_n 0, 1) := dk_42 (dk_at dksX6_keep_4 16 rfl rfl)
theorem dX6_keep_110 : decode cX6_keep 110 = .ok (.getfield 239, 3) := dk_180 0 239 (dk_at dksX6_keep_4 17 rfl rfl)
theorem dX6_keep_113 : decode cX6_keep 113 = .ok (.if_icmp .ge 21, 3) := dk_162 0 21 (dk_at dksX6_keep_4 20 rfl rfl)
theorem dX6_keep_116 : decode cX6_keep 116 = .ok (.aload_n 0, 1) := dk_42 (dk_at dksX6_keep_4 23 rfl rfl)
theorem dX6_keep_117 : decode cX6_keep 117 = .ok (.getfield 99, 3) := dk_180 0 99 (dk_at dksX6_keep_5 0 rfl rfl)
theorem dX6_keep_120 : decode cX6_keep 120 = .ok (.iload_n 1, 1) := dk_27 (dk_at dksX6_keep_5 3 rfl rfl)
theorem dX6_keep_121 : decode cX6_keep 121 = .ok (.aload_n 0, 1) := dk_42 (dk_at dksX6_keep_5 4 rfl rfl)
theorem dX6_keep_122 : decode cX6_keep 122 = .ok (.getfield 93, 3) := dk_180 0 93 (dk_at dksX6_keep_5 5 rfl rfl)
theorem dX6_keep_125 : decode cX6_keep 125 = .ok (.iload_n 1, 1) := dk_27 (dk_at dksX6_keep_5 8 rfl rfl)
theorem dX6_keep_126 : decode cX6_keep 126 = .ok (.iaload, 1) := dk_46 (dk_at dksX6_keep_5 9 rfl rfl)
theorem dX6_keep_127 : decode cX6_keep 127 = .ok (.iastore, 1) := dk_79 (dk_at dksX6_keep_5 10 rfl rfl)
theorem dX6_keep_128 : decode cX6_keep 128 = .ok (.iinc 1 1, 3) := dk_132 1 1 (dk_at dksX6_keep_5 11 rfl rfl)
theorem dX6_keep_131 : decode cX6_keep 131 = .ok (.goto (-23), 3) := dk_167 255 233 (dk_at dksX6_keep_5 14 rfl rfl)
theorem dX6_keep_134 : decode cX6_keep 134 = .ok (.return_, 1) := dk_177 (dk_at dksX6_keep_5 17 rfl rfl)
abbrev cX6_parts : ByteArray := prog_18_method_69_code
def yX6_parts : MethodName := ⟨RX6, "parts", "()I"⟩
def dkwX6_parts_0 : List UInt8 := [42, 3, 181, 0, 132, 42, 180, 0, 140, 172]
abbrev dktX6_parts_0 : List UInt8 := dkwX6_parts_0 ++ []
theorem dksX6_parts_0 : cX6_parts.data.toList.drop 0 = dktX6_parts_0 := by decide +kernel
theorem dX6_parts_0 : decode cX6_parts 0 = .ok (.aload_n 0, 1) := dk_42 (dk_at dksX6_parts_0 0 rfl rfl)
theorem dX6_parts_1 : decode cX6_parts 1 = .ok (.iconst 0, 1) := dk_3 (dk_at dksX6_parts_0 1 rfl rfl)
theorem dX6_parts_2 : decode cX6_parts 2 = .ok (.putfield 132, 3) := dk_181 0 132 (dk_at dksX6_parts_0 2 rfl rfl)
theorem dX6_parts_5 : decode cX6_parts 5 = .ok (.aload_n 0, 1) := dk_42 (dk_at dksX6_parts_0 5 rfl rfl)
theorem dX6_parts_6 : decode cX6_parts 6 = .ok (.getfield 140, 3) := dk_180 0 140 (dk_at dksX6_parts_0 6 rfl rfl)
theorem dX6_parts_9 : decode cX6_parts 9 = .ok (.ireturn, 1) := dk_172 (dk_at dksX6_parts_0 9 rfl rfl)
abbrev cX6_part : ByteArray := prog_18_method_70_code
def yX6_part : MethodName := ⟨RX6, "part", "(II)I"⟩
def dkwX6_part_2 : List UInt8 := [167, 0, 13, 42, 180, 0, 96, 8, 27, 104, 28, 96, 46, 172]
abbrev dktX6_part_2 : List UInt8 := dkwX6_part_2 ++ []
def dkwX6_part_1 : List UInt8 := [184, 0, 166, 154, 0, 7, 5, 167, 0, 4, 3, 181, 0, 132, 42, 180, 0, 132, 158, 0, 7, 3]
abbrev dktX6_part_1 : List UInt8 := dkwX6_part_1 ++ dktX6_part_2
def dkwX6_part_0 : List UInt8 := [42, 28, 3, 6, 184, 0, 166, 154, 0, 7, 4, 167, 0, 22, 27, 3, 42, 180, 0, 140, 4, 100]
abbrev dktX6_part_0 : List UInt8 := dkwX6_part_0 ++ dktX6_part_1
theorem dksX6_part_0 : cX6_part.data.toList.drop 0 = dktX6_part_0 := by decide +kernel
theorem dksX6_part_1 : cX6_part.data.toList.drop 22 = dktX6_part_1 := dk_seg dksX6_part_0 22 rfl rfl
theorem dksX6_part_2 : cX6_part.data.toList.drop 44 = dktX6_part_2 := dk_seg dksX6_part_1 22 rfl rfl
theorem dX6_part_0 : decode cX6_part 0 = .ok (.aload_n 0, 1) := dk_42 (dk_at dksX6_part_0 0 rfl rfl)
theorem dX6_part_1 : decode cX6_part 1 = .ok (.iload_n 2, 1) := dk_28 (dk_at dksX6_part_0 1 rfl rfl)
theorem dX6_part_2 : decode cX6_part 2 = .ok (.iconst 0, 1) := dk_3 (dk_at dksX6_part_0 2 rfl rfl)
theorem dX6_part_3 : decode cX6_part 3 = .ok (.iconst 3, 1) := dk_6 (dk_at dksX6_part_0 3 rfl rfl)
theorem dX6_part_4 : decode cX6_part 4 = .ok (.invokestatic 166, 3) := dk_184 0 166 (dk_at dksX6_part_0 4 rfl rfl)
theorem dX6_part_7 : decode cX6_part 7 = .ok (.ifCond .ne 7, 3) := dk_154 0 7 (dk_at dksX6_part_0 7 rfl rfl)
theorem dX6_part_10 : decode cX6_part 10 = .ok (.iconst 1, 1) := dk_4 (dk_at dksX6_part_0 10 rfl rfl)
theorem dX6_part_11 : decode cX6_part 11 = .ok (.goto 22, 3) := dk_167 0 22 (dk_at dksX6_part_0 11 rfl rfl)
theorem dX6_part_14 : decode cX6_part 14 = .ok (.iload_n 1, 1) := dk_27 (dk_at dksX6_part_0 14 rfl rfl)
theorem dX6_part_15 : decode cX6_part 15 = .ok (.iconst 0, 1) := dk_3 (dk_at dksX6_part_0 15 rfl rfl)
theorem dX6_part_16 : decode cX6_part 16 = .ok (.aload_n 0, 1) := dk_42 (dk_at dksX6_part_0 16 rfl rfl)
theorem dX6_part_17 : decode cX6_part 17 = .ok (.getfield 140, 3) := dk_180 0 140 (dk_at dksX6_part_0 17 rfl rfl)
theorem dX6_part_20 : decode cX6_part 20 = .ok (.iconst 1, 1) := dk_4 (dk_at dksX6_part_0 20 rfl rfl)
theorem dX6_part_21 : decode cX6_part 21 = .ok (.isub, 1) := dk_100 (dk_at dksX6_part_0 21 rfl rfl)
theorem dX6_part_22 : decode cX6_part 22 = .ok (.invokestatic 166, 3) := dk_184 0 166 (dk_at dksX6_part_1 0 rfl rfl)
theorem dX6_part_25 : decode cX6_part 25 = .ok (.ifCond .ne 7, 3) := dk_154 0 7 (dk_at dksX6_part_1 3 rfl rfl)
theorem dX6_part_28 : decode cX6_part 28 = .ok (.iconst 2, 1) := dk_5 (dk_at dksX6_part_1 6 rfl rfl)
theorem dX6_part_29 : decode cX6_part 29 = .ok (.goto 4, 3) := dk_167 0 4 (dk_at dksX6_part_1 7 rfl rfl)
theorem dX6_part_32 : decode cX6_part 32 = .ok (.iconst 0, 1) := dk_3 (dk_at dksX6_part_1 10 rfl rfl)
theorem dX6_part_33 : decode cX6_part 33 = .ok (.putfield 132, 3) := dk_181 0 132 (dk_at dksX6_part_1 11 rfl rfl)
theorem dX6_part_36 : decode cX6_part 36 = .ok (.aload_n 0, 1) := dk_42 (dk_at dksX6_part_1 14 rfl rfl)
theorem dX6_part_37 : decode cX6_part 37 = .ok (.getfield 132, 3) := dk_180 0 132 (dk_at dksX6_part_1 15 rfl rfl)
theorem dX6_part_40 : decode cX6_part 40 = .ok (.ifCond .le 7, 3) := dk_158 0 7 (dk_at dksX6_part_1 18 rfl rfl)
theorem dX6_part_43 : decode cX6_part 43 = .ok (.iconst 0, 1) := dk_3 (dk_at dksX6_part_1 21 rfl rfl)
theorem dX6_part_44 : decode cX6_part 44 = .ok (.goto 13, 3) := dk_167 0 13 (dk_at dksX6_part_2 0 rfl rfl)
theorem dX6_part_47 : decode cX6_part 47 = .ok (.aload_n 0, 1) := dk_42 (dk_at dksX6_part_2 3 rfl rfl)
theorem dX6_part_48 : decode cX6_part 48 = .ok (.getfield 96, 3) := dk_180 0 96 (dk_at dksX6_part_2 4 rfl rfl)
theorem dX6_part_51 : decode cX6_part 51 = .ok (.iconst 5, 1) := dk_8 (dk_at dksX6_part_2 7 rfl rfl)
theorem dX6_part_52 : decode cX6_part 52 = .ok (.iload_n 1, 1) := dk_27 (dk_at dksX6_part_2 8 rfl rfl)
theorem dX6_part_53 : decode cX6_part 53 = .ok (.imul, 1) := dk_104 (dk_at dksX6_part_2 9 rfl rfl)
theorem dX6_part_54 : decode cX6_part 54 = .ok (.iload_n 2, 1) := dk_28 (dk_at dksX6_part_2 10 rfl rfl)
theorem dX6_part_55 : decode cX6_part 55 = .ok (.iadd, 1) := dk_96 (dk_at dksX6_part_2 11 rfl rfl)
theorem dX6_part_56 : decode cX6_part 56 = .ok (.iaload, 1) := dk_46 (dk_at dksX6_part_2 12 rfl rfl)
theorem dX6_part_57 : decode cX6_part 57 = .ok (.ireturn, 1) := dk_172 (dk_at dksX6_part_2 13 rfl rfl)
abbrev cX6_octet : ByteArray := prog_18_method_71_code
def yX6_octet : MethodName := ⟨RX6, "octet", "(II)I"⟩
def dkwX6_octet_3 : List UInt8 := [180, 0, 96, 8, 27, 104, 7, 96, 46, 28, 96, 46, 172]
abbrev dktX6_octet_3 : List UInt8 := dkwX6_octet_3 ++ []
def dkwX6_octet_2 : List UInt8 := [167, 0, 4, 4, 181, 0, 132, 42, 180, 0, 132, 158, 0, 7, 3, 167, 0, 20, 42, 180, 0, 99, 42]
abbrev dktX6_octet_2 : List UInt8 := dkwX6_octet_2 ++ dktX6_octet_3
def dkwX6_octet_1 : List UInt8 := [160, 0, 27, 28, 3, 42, 180, 0, 96, 8, 27, 104, 4, 96, 46, 4, 100, 184, 0, 166, 153, 0, 7, 3]
abbrev dktX6_octet_1 : List UInt8 := dkwX6_octet_1 ++ dktX6_octet_2
def dkwX6_octet_0 : List UInt8 := [42, 27, 3, 42, 180, 0, 140, 4, 100, 184, 0, 166, 153, 0, 39, 42, 180, 0, 96, 8, 27, 104, 46, 7]
abbrev dktX6_octet_0 : List UInt8 := dkwX6_octet_0 ++ dktX6_octet_1
theorem dksX6_octet_0 : cX6_octet.data.toList.drop 0 = dktX6_octet_0 := by decide +kernel
theorem dksX6_octet_1 : cX6_octet.data.toList.drop 24 = dktX6_octet_1 := dk_seg dksX6_octet_0 24 rfl rfl
theorem dksX6_octet_2 : cX6_octet.data.toList.drop 48 = dktX6_octet_2 := dk_seg dksX6_octet_1 24 rfl rfl
theorem dksX6_octet_3 : cX6_octet.data.toList.drop 71 = dktX6_octet_3 := dk_seg dksX6_octet_2 23 rfl rfl
theorem dX6_octet_0 : decode cX6_octet 0 = .ok (.aload_n 0, 1) := dk_42 (dk_at dksX6_octet_0 0 rfl rfl)
theorem dX6_octet_1 : decode cX6_octet 1 = .ok (.iload_n 1, 1) := dk_27 (dk_at dksX6_octet_0 1 rfl rfl)
theorem dX6_octet_2 : decode cX6_octet 2 = .ok (.iconst 0, 1) := dk_3 (dk_at dksX6_octet_0 2 rfl rfl)
theorem dX6_octet_3 : decode cX6_octet 3 = .ok (.aload_n 0, 1) := dk_42 (dk_at dksX6_octet_0 3 rfl rfl)
theorem dX6_octet_4 : decode cX6_octet 4 = .ok (.getfield 140, 3) := dk_180 0 140 (dk_at dksX6_octet_0 4 rfl rfl)
theorem dX6_octet_7 : decode cX6_octet 7 = .ok (.iconst 1, 1) := dk_4 (dk_at dksX6_octet_0 7 rfl rfl)
theorem dX6_octet_8 : decode cX6_octet 8 = .ok (.isub, 1) := dk_100 (dk_at dksX6_octet_0 8 rfl rfl)
theorem dX6_octet_9 : decode cX6_octet 9 = .ok (.invokestatic 166, 3) := dk_184 0 166 (dk_at dksX6_octet_0 9 rfl rfl)
theorem dX6_octet_12 : decode cX6_octet 12 = .ok (.ifCond .eq 39, 3) := dk_153 0 39 (dk_at dksX6_octet_0 12 rfl rfl)
theorem dX6_octet_15 : decode cX6_octet 15 = .ok (.aload_n 0, 1) := dk_42 (dk_at dksX6_octet_0 15 rfl rfl)
theorem dX6_octet_16 : decode cX6_octet 16 = .ok (.getfield 96, 3) := dk_180 0 96 (dk_at dksX6_octet_0 16 rfl rfl)
theorem dX6_octet_19 : decode cX6_octet 19 = .ok (.iconst 5, 1) := dk_8 (dk_at dksX6_octet_0 19 rfl rfl)
theorem dX6_octet_20 : decode cX6_octet 20 = .ok (.iload_n 1, 1) := dk_27 (dk_at dksX6_octet_0 20 rfl rfl)
theorem dX6_octet_21 : decode cX6_octet 21 = .ok (.imul, 1) := dk_104 (dk_at dksX6_octet_0 21 rfl rfl)
theorem dX6_octet_22 : decode cX6_octet 22 = .ok (.iaload, 1) := dk_46 (dk_at dksX6_octet_0 22 rfl rfl)
theorem dX6_octet_23 : decode cX6_octet 23 = .ok (.iconst 4, 1) := dk_7 (dk_at dksX6_octet_0 23 rfl rfl)
theorem dX6_octet_24 : decode cX6_octet 24 = .ok (.if_icmp .ne 27, 3) := dk_160 0 27 (dk_at dksX6_octet_1 0 rfl rfl)
theorem dX6_octet_27 : decode cX6_octet 27 = .ok (.iload_n 2, 1) := dk_28 (dk_at dksX6_octet_1 3 rfl rfl)
theorem dX6_octet_28 : decode cX6_octet 28 = .ok (.iconst 0, 1) := dk_3 (dk_at dksX6_octet_1 4 rfl rfl)
theorem dX6_octet_29 : decode cX6_octet 29 = .ok (.aload_n 0, 1) := dk_42 (dk_at dksX6_octet_1 5 rfl rfl)
theorem dX6_octet_30 : decode cX6_octet 30 = .ok (.getfield 96, 3) := dk_180 0 96 (dk_at dksX6_octet_1 6 rfl rfl)
theorem dX6_octet_33 : decode cX6_octet 33 = .ok (.iconst 5, 1) := dk_8 (dk_at dksX6_octet_1 9 rfl rfl)
theorem dX6_octet_34 : decode cX6_octet 34 = .ok (.iload_n 1, 1) := dk_27 (dk_at dksX6_octet_1 10 rfl rfl)
theorem dX6_octet_35 : decode cX6_octet 35 = .ok (.imul, 1) := dk_104 (dk_at dksX6_octet_1 11 rfl rfl)
theorem dX6_octet_36 : decode cX6_octet 36 = .ok (.iconst 1, 1) := dk_4 (dk_at dksX6_octet_1 12 rfl rfl)
theorem dX6_octet_37 : decode cX6_octet 37 = .ok (.iadd, 1) := dk_96 (dk_at dksX6_octet_1 13 rfl rfl)
theorem dX6_octet_38 : decode cX6_octet 38 = .ok (.iaload, 1) := dk_46 (dk_at dksX6_octet_1 14 rfl rfl)
theorem dX6_octet_39 : decode cX6_octet 39 = .ok (.iconst 1, 1) := dk_4 (dk_at dksX6_octet_1 15 rfl rfl)
theorem dX6_octet_40 : decode cX6_octet 40 = .ok (.isub, 1) := dk_100 (dk_at dksX6_octet_1 16 rfl rfl)
theorem dX6_octet_41 : decode cX6_octet 41 = .ok (.invokestatic 166, 3) := dk_184 0 166 (dk_at dksX6_octet_1 17 rfl rfl)
theorem dX6_octet_44 : decode cX6_octet 44 = .ok (.ifCond .eq 7, 3) := dk_153 0 7 (dk_at dksX6_octet_1 20 rfl rfl)
theorem dX6_octet_47 : decode cX6_octet 47 = .ok (.iconst 0, 1) := dk_3 (dk_at dksX6_octet_1 23 rfl rfl)
theorem dX6_octet_48 : decode cX6_octet 48 = .ok (.goto 4, 3) := dk_167 0 4 (dk_at dksX6_octet_2 0 rfl rfl)
theorem dX6_octet_51 : decode cX6_octet 51 = .ok (.iconst 1, 1) := dk_4 (dk_at dksX6_octet_2 3 rfl rfl)
theorem dX6_octet_52 : decode cX6_octet 52 = .ok (.putfield 132, 3) := dk_181 0 132 (dk_at dksX6_octet_2 4 rfl rfl)
theorem dX6_octet_55 : decode cX6_octet 55 = .ok (.aload_n 0, 1) := dk_42 (dk_at dksX6_octet_2 7 rfl rfl)
theorem dX6_octet_56 : decode cX6_octet 56 = .ok (.getfield 132, 3) := dk_180 0 132 (dk_at dksX6_octet_2 8 rfl rfl)
theorem dX6_octet_59 : decode cX6_octet 59 = .ok (.ifCond .le 7, 3) := dk_158 0 7 (dk_at dksX6_octet_2 11 rfl rfl)
theorem dX6_octet_62 : decode cX6_octet 62 = .ok (.iconst 0, 1) := dk_3 (dk_at dksX6_octet_2 14 rfl rfl)
theorem dX6_octet_63 : decode cX6_octet 63 = .ok (.goto 20, 3) := dk_167 0 20 (dk_at dksX6_octet_2 15 rfl rfl)
theorem dX6_octet_66 : decode cX6_octet 66 = .ok (.aload_n 0, 1) := dk_42 (dk_at dksX6_octet_2 18 rfl rfl)
theorem dX6_octet_67 : decode cX6_octet 67 = .ok (.getfield 99, 3) := dk_180 0 99 (dk_at dksX6_octet_2 19 rfl rfl)
theorem dX6_octet_70 : decode cX6_octet 70 = .ok (.aload_n 0, 1) := dk_42 (dk_at dksX6_octet_2 22 rfl rfl)
theorem dX6_octet_71 : decode cX6_octet 71 = .ok (.getfield 96, 3) := dk_180 0 96 (dk_at dksX6_octet_3 0 rfl rfl)
theorem dX6_octet_74 : decode cX6_octet 74 = .ok (.iconst 5, 1) := dk_8 (dk_at dksX6_octet_3 3 rfl rfl)
theorem dX6_octet_75 : decode cX6_octet 75 = .ok (.iload_n 1, 1) := dk_27 (dk_at dksX6_octet_3 4 rfl rfl)
theorem dX6_octet_76 : decode cX6_octet 76 = .ok (.imul, 1) := dk_104 (dk_at dksX6_octet_3 5 rfl rfl)
theorem dX6_octet_77 : decode cX6_octet 77 = .ok (.iconst 4, 1) := dk_7 (dk_at dksX6_octet_3 6 rfl rfl)
theorem dX6_octet_78 : decode cX6_octet 78 = .ok (.iadd, 1) := dk_96 (dk_at dksX6_octet_3 7 rfl rfl)
theorem dX6_octet_79 : decode cX6_octet 79 = .ok (.iaload, 1) := dk_46 (dk_at dksX6_octet_3 8 rfl rfl)
theorem dX6_octet_80 : decode cX6_octet 80 = .ok (.iload_n 2, 1) := dk_28 (dk_at dksX6_octet_3 9 rfl rfl)
theorem dX6_octet_81 : decode cX6_octet 81 = .ok (.iadd, 1) := dk_96 (dk_at dksX6_octet_3 10 rfl rfl)
theorem dX6_octet_82 : decode cX6_octet 82 = .ok (.iaload, 1) := dk_46 (dk_at dksX6_octet_3 11 rfl rfl)
theorem dX6_octet_83 : decode cX6_octet 83 = .ok (.ireturn, 1) := dk_172 (dk_at dksX6_octet_3 12 rfl rfl)
abbrev cX6_operation : ByteArray := prog_18_method_72_code
def yX6_operation : MethodName := ⟨RX6, "operation", "(ICII)V"⟩
def dkwX6_operation_3 : List UInt8 := [180, 0, 123, 27, 21, 4, 79, 177]
abbrev dktX6_operation_3 : List UInt8 := dkwX6_operation_3 ++ []
def dkwX6_operation_2 : List UInt8 := [158, 0, 4, 177, 42, 180, 0, 117, 27, 42, 28, 182, 1, 112, 79, 42, 180, 0, 120, 27, 29, 79, 42]
abbrev dktX6_operation_2 : List UInt8 := dkwX6_operation_2 ++ dktX6_operation_3
def dkwX6_operation_1 : List UInt8 := [5, 184, 0, 166, 153, 0, 7, 4, 167, 0, 4, 3, 28, 182, 1, 116, 181, 0, 132, 42, 180, 0, 132]
abbrev dktX6_operation_1 : List UInt8 := dkwX6_operation_1 ++ dktX6_operation_2
def dkwX6_operation_0 : List UInt8 := [42, 42, 27, 3, 16, 7, 184, 0, 166, 153, 0, 26, 29, 3, 5, 184, 0, 166, 153, 0, 17, 21, 4, 4]
abbrev dktX6_operation_0 : List UInt8 := dkwX6_operation_0 ++ dktX6_operation_1
theorem dksX6_operation_0 : cX6_operation.data.toList.drop 0 = dktX6_operation_0 := by decide +kernel
theorem dksX6_operation_1 : cX6_operation.data.toList.drop 24 = dktX6_operation_1 := dk_seg dksX6_operation_0 24 rfl rfl
theorem dksX6_operation_2 : cX6_operation.data.toList.drop 47 = dktX6_operation_2 := dk_seg dksX6_operation_1 23 rfl rfl
theorem dksX6_operation_3 : cX6_operation.data.toList.drop 70 = dktX6_operation_3 := dk_seg dksX6_operation_2 23 rfl rfl
theorem dX6_operation_0 : decode cX6_operation 0 = .ok (.aload_n 0, 1) := dk_42 (dk_at dksX6_operation_0 0 rfl rfl)
theorem dX6_operation_1 : decode cX6_operation 1 = .ok (.aload_n 0, 1) := dk_42 (dk_at dksX6_operation_0 1 rfl rfl)
theorem dX6_operation_2 : decode cX6_operation 2 = .ok (.iload_n 1, 1) := dk_27 (dk_at dksX6_operation_0 2 rfl rfl)
theorem dX6_operation_3 : decode cX6_operation 3 = .ok (.iconst 0, 1) := dk_3 (dk_at dksX6_operation_0 3 rfl rfl)
theorem dX6_operation_4 : decode cX6_operation 4 = .ok (.bipush 7, 2) := dk_16 7 (dk_at dksX6_operation_0 4 rfl rfl)
theorem dX6_operation_6 : decode cX6_operation 6 = .ok (.invokestatic 166, 3) := dk_184 0 166 (dk_at dksX6_operation_0 6 rfl rfl)
theorem dX6_operation_9 : decode cX6_operation 9 = .ok (.ifCond .eq 26, 3) := dk_153 0 26 (dk_at dksX6_operation_0 9 rfl rfl)
theorem dX6_operation_12 : decode cX6_operation 12 = .ok (.iload_n 3, 1) := dk_29 (dk_at dksX6_operation_0 12 rfl rfl)
theorem dX6_operation_13 : decode cX6_operation 13 = .ok (.iconst 0, 1) := dk_3 (dk_at dksX6_operation_0 13 rfl rfl)
theorem dX6_operation_14 : decode cX6_operation 14 = .ok (.iconst 2, 1) := dk_5 (dk_at dksX6_operation_0 14 rfl rfl)
theorem dX6_operation_15 : decode cX6_operation 15 = .ok (.invokestatic 166, 3) := dk_184 0 166 (dk_at dksX6_operation_0 15 rfl rfl)
theorem dX6_operation_18 : decode cX6_operation 18 = .ok (.ifCond .eq 17, 3) := dk_153 0 17 (dk_at dksX6_operation_0 18 rfl rfl)
theorem dX6_operation_21 : decode cX6_operation 21 = .ok (.iload 4, 2) := dk_21 4 (dk_at dksX6_operation_0 21 rfl rfl)
theorem dX6_operation_23 : decode cX6_operation 23 = .ok (.iconst 1, 1) := dk_4 (dk_at dksX6_operation_0 23 rfl rfl)
theorem dX6_operation_24 : decode cX6_operation 24 = .ok (.iconst 2, 1) := dk_5 (dk_at dksX6_operation_1 0 rfl rfl)
theorem dX6_operation_25 : decode cX6_operation 25 = .ok (.invokestatic 166, 3) := dk_184 0 166 (dk_at dksX6_operation_1 1 rfl rfl)
theorem dX6_operation_28 : decode cX6_operation 28 = .ok (.ifCond .eq 7, 3) := dk_153 0 7 (dk_at dksX6_operation_1 4 rfl rfl)
theorem dX6_operation_31 : decode cX6_operation 31 = .ok (.iconst 1, 1) := dk_4 (dk_at dksX6_operation_1 7 rfl rfl)
theorem dX6_operation_32 : decode cX6_operation 32 = .ok (.goto 4, 3) := dk_167 0 4 (dk_at dksX6_operation_1 8 rfl rfl)
theorem dX6_operation_35 : decode cX6_operation 35 = .ok (.iconst 0, 1) := dk_3 (dk_at dksX6_operation_1 11 rfl rfl)
theorem dX6_operation_36 : decode cX6_operation 36 = .ok (.iload_n 2, 1) := dk_28 (dk_at dksX6_operation_1 12 rfl rfl)
theorem dX6_operation_37 : decode cX6_operation 37 = .ok (.invokevirtual 372, 3) := dk_182 1 116 (dk_at dksX6_operation_1 13 rfl rfl)
theorem dX6_operation_40 : decode cX6_operation 40 = .ok (.putfield 132, 3) := dk_181 0 132 (dk_at dksX6_operation_1 16 rfl rfl)
theorem dX6_operation_43 : decode cX6_operation 43 = .ok (.aload_n 0, 1) := dk_42 (dk_at dksX6_operation_1 19 rfl rfl)
theorem dX6_operation_44 : decode cX6_operation 44 = .ok (.getfield 132, 3) := dk_180 0 132 (dk_at dksX6_operation_1 20 rfl rfl)
theorem dX6_operation_47 : decode cX6_operation 47 = .ok (.ifCond .le 4, 3) := dk_158 0 4 (dk_at dksX6_operation_2 0 rfl rfl)
theorem dX6_operation_50 : decode cX6_operation 50 = .ok (.return_, 1) := dk_177 (dk_at dksX6_operation_2 3 rfl rfl)
theorem dX6_operation_51 : decode cX6_operation 51 = .ok (.aload_n 0, 1) := dk_42 (dk_at dksX6_operation_2 4 rfl rfl)
theorem dX6_operation_52 : decode cX6_operation 52 = .ok (.getfield 117, 3) := dk_180 0 117 (dk_at dksX6_operation_2 5 rfl rfl)
theorem dX6_operation_55 : decode cX6_operation 55 = .ok (.iload_n 1, 1) := dk_27 (dk_at dksX6_operation_2 8 rfl rfl)
theorem dX6_operation_56 : decode cX6_operation 56 = .ok (.aload_n 0, 1) := dk_42 (dk_at dksX6_operation_2 9 rfl rfl)
theorem dX6_operation_57 : decode cX6_operation 57 = .ok (.iload_n 2, 1) := dk_28 (dk_at dksX6_operation_2 10 rfl rfl)
theorem dX6_operation_58 : decode cX6_operation 58 = .ok (.invokevirtual 368, 3) := dk_182 1 112 (dk_at dksX6_operation_2 11 rfl rfl)
theorem dX6_operation_61 : decode cX6_operation 61 = .ok (.iastore, 1) := dk_79 (dk_at dksX6_operation_2 14 rfl rfl)
theorem dX6_operation_62 : decode cX6_operation 62 = .ok (.aload_n 0, 1) := dk_42 (dk_at dksX6_operation_2 15 rfl rfl)
theorem dX6_operation_63 : decode cX6_operation 63 = .ok (.getfield 120, 3) := dk_180 0 120 (dk_at dksX6_operation_2 16 rfl rfl)
theorem dX6_operation_66 : decode cX6_operation 66 = .ok (.iload_n 1, 1) := dk_27 (dk_at dksX6_operation_2 19 rfl rfl)
theorem dX6_operation_67 : decode cX6_operation 67 = .ok (.iload_n 3, 1) := dk_29 (dk_at dksX6_operation_2 20 rfl rfl)
theorem dX6_operation_68 : decode cX6_operation 68 = .ok (.iastore, 1) := dk_79 (dk_at dksX6_operation_2 21 rfl rfl)
theorem dX6_operation_69 : decode cX6_operation 69 = .ok (.aload_n 0, 1) := dk_42 (dk_at dksX6_operation_2 22 rfl rfl)
theorem dX6_operation_70 : decode cX6_operation 70 = .ok (.getfield 123, 3) := dk_180 0 123 (dk_at dksX6_operation_3 0 rfl rfl)
theorem dX6_operation_73 : decode cX6_operation 73 = .ok (.iload_n 1, 1) := dk_27 (dk_at dksX6_operation_3 3 rfl rfl)
theorem dX6_operation_74 : decode cX6_operation 74 = .ok (.iload 4, 2) := dk_21 4 (dk_at dksX6_operation_3 4 rfl rfl)
theorem dX6_operation_76 : decode cX6_operation 76 = .ok (.iastore, 1) := dk_79 (dk_at dksX6_operation_3 6 rfl rfl)
theorem dX6_operation_77 : decode cX6_operation 77 = .ok (.return_, 1) := dk_177 (dk_at dksX6_operation_3 7 rfl rfl)
abbrev cX6_serve : ByteArray := prog_18_method_74_code
def yX6_serve : MethodName := ⟨RX6, "serve", "()I"⟩
def dkwX6_serve_10 : List UInt8 := [167, 255, 228, 42, 5, 27, 28, 42, 180, 1, 14, 6, 96, 182, 1, 133, 172]
abbrev dktX6_serve_10 : List UInt8 := dkwX6_serve_10 ++ []
def dkwX6_serve_9 : List UInt8 := [162, 0, 25, 42, 180, 0, 63, 6, 21, 4, 96, 42, 180, 0, 69, 21, 4, 46, 79, 132, 4, 1]
abbrev dktX6_serve_9 : List UInt8 := dkwX6_serve_9 ++ dktX6_serve_10
def dkwX6_serve_8 : List UInt8 := [182, 1, 133, 172, 42, 180, 0, 126, 27, 4, 84, 42, 182, 1, 130, 3, 54, 4, 21, 4, 42, 180, 1, 14]
abbrev dktX6_serve_8 : List UInt8 := dkwX6_serve_8 ++ dktX6_serve_9
def dkwX6_serve_7 : List UInt8 := [180, 0, 123, 28, 46, 182, 1, 11, 42, 180, 1, 14, 6, 96, 16, 120, 164, 0, 12, 42, 7, 27, 7, 6]
abbrev dktX6_serve_7 : List UInt8 := dkwX6_serve_7 ++ dktX6_serve_8
def dkwX6_serve_6 : List UInt8 := [182, 1, 123, 154, 0, 19, 42, 180, 0, 126, 27, 4, 84, 42, 6, 27, 3, 5, 182, 1, 133, 172, 42, 42]
abbrev dktX6_serve_6 : List UInt8 := dkwX6_serve_6 ++ dktX6_serve_7
def dkwX6_serve_5 : List UInt8 := [182, 1, 133, 172, 42, 6, 182, 1, 120, 42, 42, 180, 0, 117, 28, 46, 42, 180, 0, 120, 28, 46]
abbrev dktX6_serve_5 : List UInt8 := dkwX6_serve_5 ++ dktX6_serve_6
def dkwX6_serve_4 : List UInt8 := [180, 0, 126, 27, 51, 153, 0, 7, 6, 167, 0, 4, 3, 62, 29, 158, 0, 12, 42, 7, 27, 29, 6]
abbrev dktX6_serve_4 : List UInt8 := dkwX6_serve_4 ++ dktX6_serve_5
def dkwX6_serve_3 : List UInt8 := [167, 0, 36, 28, 16, 7, 163, 0, 12, 42, 180, 0, 117, 28, 46, 156, 0, 7, 5, 167, 0, 17, 42]
abbrev dktX6_serve_3 : List UInt8 := dkwX6_serve_3 ++ dktX6_serve_4
def dkwX6_serve_2 : List UInt8 := [5, 46, 61, 42, 180, 0, 228, 6, 161, 0, 13, 42, 180, 0, 63, 3, 46, 4, 159, 0, 7, 4]
abbrev dktX6_serve_2 : List UInt8 := dkwX6_serve_2 ++ dktX6_serve_3
def dkwX6_serve_1 : List UInt8 := [172, 42, 180, 0, 228, 4, 164, 0, 12, 42, 180, 0, 63, 4, 46, 167, 0, 4, 3, 60, 42, 180, 0, 63]
abbrev dktX6_serve_1 : List UInt8 := dkwX6_serve_1 ++ dktX6_serve_2
def dkwX6_serve_0 : List UInt8 := [42, 42, 180, 0, 136, 153, 0, 7, 3, 167, 0, 4, 4, 181, 0, 132, 42, 180, 0, 132, 158, 0, 5, 3]
abbrev dktX6_serve_0 : List UInt8 := dkwX6_serve_0 ++ dktX6_serve_1
theorem dksX6_serve_0 : cX6_serve.data.toList.drop 0 = dktX6_serve_0 := by decide +kernel
theorem dksX6_serve_1 : cX6_serve.data.toList.drop 24 = dktX6_serve_1 := dk_seg dksX6_serve_0 24 rfl rfl
theorem dksX6_serve_2 : cX6_serve.data.toList.drop 48 = dktX6_serve_2 := dk_seg dksX6_serve_1 24 rfl rfl
theorem dksX6_serve_3 : cX6_serve.data.toList.drop 70 = dktX6_serve_3 := dk_seg dksX6_serve_2 22 rfl rfl
theorem dksX6_serve_4 : cX6_serve.data.toList.drop 93 = dktX6_serve_4 := dk_seg dksX6_serve_3 23 rfl rfl
theorem dksX6_serve_5 : cX6_serve.data.toList.drop 116 = dktX6_serve_5 := dk_seg dksX6_serve_4 23 rfl rfl
theorem dksX6_serve_6 : cX6_serve.data.toList.drop 138 = dktX6_serve_6 := dk_seg dksX6_serve_5 22 rfl rfl
theorem dksX6_serve_7 : cX6_serve.data.toList.drop 162 = dktX6_serve_7 := dk_seg dksX6_serve_6 24 rfl rfl
theorem dksX6_serve_8 : cX6_serve.data.toList.drop 186 = dktX6_serve_8 := dk_seg dksX6_serve_7 24 rfl rfl
theorem dksX6_serve_9 : cX6_serve.data.toList.drop 210 = dktX6_serve_9 := dk_seg dksX6_serve_8 24 rfl rfl
theorem dksX6_serve_10 : cX6_serve.data.toList.drop 232 = dktX6_serve_10 := dk_seg dksX6_serve_9 22 rfl rfl
theorem dX6_serve_0 : decode cX6_serve 0 = .ok (.aload_n 0, 1) := dk_42 (dk_at dksX6_serve_0 0 rfl rfl)
theorem dX6_serve_1 : decode cX6_serve 1 = .ok (.aload_n 0, 1) := dk_42 (dk_at dksX6_serve_0 1 rfl rfl)
theorem dX6_serve_2 : decode cX6_serve 2 = .ok (.getfield 136, 3) := dk_180 0 136 (dk_at dksX6_serve_0 2 rfl rfl)
theorem dX6_serve_5 : decode cX6_serve 5 = .ok (.ifCond .eq 7, 3) := dk_153 0 7 (dk_at dksX6_serve_0 5 rfl rfl)
theorem dX6_serve_8 : decode cX6_serve 8 = .ok (.iconst 0, 1) := dk_3 (dk_at dksX6_serve_0 8 rfl rfl)
theorem dX6_serve_9 : decode cX6_serve 9 = .ok (.goto 4, 3) := dk_167 0 4 (dk_at dksX6_serve_0 9 rfl rfl)
theorem dX6_serve_12 : decode cX6_serve 12 = .ok (.iconst 1, 1) := dk_4 (dk_at dksX6_serve_0 12 rfl rfl)
theorem dX6_serve_13 : decode cX6_serve 13 = .ok (.putfield 132, 3) := dk_181 0 132 (dk_at dksX6_serve_0 13 rfl rfl)
theorem dX6_serve_16 : decode cX6_serve 16 = .ok (.aload_n 0, 1) := dk_42 (dk_at dksX6_serve_0 16 rfl rfl)
theorem dX6_serve_17 : decode cX6_serve 17 = .ok (.getfield 132, 3) := dk_180 0 132 (dk_at dksX6_serve_0 17 rfl rfl)
theorem dX6_serve_20 : decode cX6_serve 20 = .ok (.ifCond .le 5, 3) := dk_158 0 5 (dk_at dksX6_serve_0 20 rfl rfl)
theorem dX6_serve_23 : decode cX6_serve 23 = .ok (.iconst 0, 1) := dk_3 (dk_at dksX6_serve_0 23 rfl rfl)
theorem dX6_serve_24 : decode cX6_serve 24 = .ok (.ireturn, 1) := dk_172 (dk_at dksX6_serve_1 0 rfl rfl)
theorem dX6_serve_25 : decode cX6_serve 25 = .ok (.aload_n 0, 1) := dk_42 (dk_at dksX6_serve_1 1 rfl rfl)
theorem dX6_serve_26 : decode cX6_serve 26 = .ok (.getfield 228, 3) := dk_180 0 228 (dk_at dksX6_serve_1 2 rfl rfl)
theorem dX6_serve_29 : decode cX6_serve 29 = .ok (.iconst 1, 1) := dk_4 (dk_at dksX6_serve_1 5 rfl rfl)
theorem dX6_serve_30 : decode cX6_serve 30 = .ok (.if_icmp .le 12, 3) := dk_164 0 12 (dk_at dksX6_serve_1 6 rfl rfl)
theorem dX6_serve_33 : decode cX6_serve 33 = .ok (.aload_n 0, 1) := dk_42 (dk_at dksX6_serve_1 9 rfl rfl)
theorem dX6_serve_34 : decode cX6_serve 34 = .ok (.getfield 63, 3) := dk_180 0 63 (dk_at dksX6_serve_1 10 rfl rfl)
theorem dX6_serve_37 : decode cX6_serve 37 = .ok (.iconst 1, 1) := dk_4 (dk_at dksX6_serve_1 13 rfl rfl)
theorem dX6_serve_38 : decode cX6_serve 38 = .ok (.iaload, 1) := dk_46 (dk_at dksX6_serve_1 14 rfl rfl)
theorem dX6_serve_39 : decode cX6_serve 39 = .ok (.goto 4, 3) := dk_167 0 4 (dk_at dksX6_serve_1 15 rfl rfl)
theorem dX6_serve_42 : decode cX6_serve 42 = .ok (.iconst 0, 1) := dk_3 (dk_at dksX6_serve_1 18 rfl rfl)
theorem dX6_serve_43 : decode cX6_serve 43 = .ok (.istore_n 1, 1) := dk_60 (dk_at dksX6_serve_1 19 rfl rfl)
theorem dX6_serve_44 : decode cX6_serve 44 = .ok (.aload_n 0, 1) := dk_42 (dk_at dksX6_serve_1 20 rfl rfl)
theorem dX6_serve_45 : decode cX6_serve 45 = .ok (.getfield 63, 3) := dk_180 0 63 (dk_at dksX6_serve_1 21 rfl rfl)
theorem dX6_serve_48 : decode cX6_serve 48 = .ok (.iconst 2, 1) := dk_5 (dk_at dksX6_serve_2 0 rfl rfl)
theorem dX6_serve_49 : decode cX6_serve 49 = .ok (.iaload, 1) := dk_46 (dk_at dksX6_serve_2 1 rfl rfl)
theorem dX6_serve_50 : decode cX6_serve 50 = .ok (.istore_n 2, 1) := dk_61 (dk_at dksX6_serve_2 2 rfl rfl)
theorem dX6_serve_51 : decode cX6_serve 51 = .ok (.aload_n 0, 1) := dk_42 (dk_at dksX6_serve_2 3 rfl rfl)
theorem dX6_serve_52 : decode cX6_serve 52 = .ok (.getfield 228, 3) := dk_180 0 228 (dk_at dksX6_serve_2 4 rfl rfl)
theorem dX6_serve_55 : decode cX6_serve 55 = .ok (.iconst 3, 1) := dk_6 (dk_at dksX6_serve_2 7 rfl rfl)
theorem dX6_serve_56 : decode cX6_serve 56 = .ok (.if_icmp .lt 13, 3) := dk_161 0 13 (dk_at dksX6_serve_2 8 rfl rfl)
theorem dX6_serve_59 : decode cX6_serve 59 = .ok (.aload_n 0, 1) := dk_42 (dk_at dksX6_serve_2 11 rfl rfl)
theorem dX6_serve_60 : decode cX6_serve 60 = .ok (.getfield 63, 3) := dk_180 0 63 (dk_at dksX6_serve_2 12 rfl rfl)
theorem dX6_serve_63 : decode cX6_serve 63 = .ok (.iconst 0, 1) := dk_3 (dk_at dksX6_serve_2 15 rfl rfl)
theorem dX6_serve_64 : decode cX6_serve 64 = .ok (.iaload, 1) := dk_46 (dk_at dksX6_serve_2 16 rfl rfl)
theorem dX6_serve_65 : decode cX6_serve 65 = .ok (.iconst 1, 1) := dk_4 (dk_at dksX6_serve_2 17 rfl rfl)
theorem dX6_serve_66 : decode cX6_serve 66 = .ok (.if_icmp .eq 7, 3) := dk_159 0 7 (dk_at dksX6_serve_2 18 rfl rfl)
theorem dX6_serve_69 : decode cX6_serve 69 = .ok (.iconst 1, 1) := dk_4 (dk_at dksX6_serve_2 21 rfl rfl)
theorem dX6_serve_70 : decode cX6_serve 70 = .ok (.goto 36, 3) := dk_167 0 36 (dk_at dksX6_serve_3 0 rfl rfl)
theorem dX6_serve_73 : decode cX6_serve 73 = .ok (.iload_n 2, 1) := dk_28 (dk_at dksX6_serve_3 3 rfl rfl)
theorem dX6_serve_74 : decode cX6_serve 74 = .ok (.bipush 7, 2) := dk_16 7 (dk_at dksX6_serve_3 4 rfl rfl)
theorem dX6_serve_76 : decode cX6_serve 76 = .ok (.if_icmp .gt 12, 3) := dk_163 0 12 (dk_at dksX6_serve_3 6 rfl rfl)
theorem dX6_serve_79 : decode cX6_serve 79 = .ok (.aload_n 0, 1) := dk_42 (dk_at dksX6_serve_3 9 rfl rfl)
theorem dX6_serve_80 : decode cX6_serve 80 = .ok (.getfield 117, 3) := dk_180 0 117 (dk_at dksX6_serve_3 10 rfl rfl)
theorem dX6_serve_83 : decode cX6_serve 83 = .ok (.iload_n 2, 1) := dk_28 (dk_at dksX6_serve_3 13 rfl rfl)
theorem dX6_serve_84 : decode cX6_serve 84 = .ok (.iaload, 1) := dk_46 (dk_at dksX6_serve_3 14 rfl rfl)
theorem dX6_serve_85 : decode cX6_serve 85 = .ok (.ifCond .ge 7, 3) := dk_156 0 7 (dk_at dksX6_serve_3 15 rfl rfl)
theorem dX6_serve_88 : decode cX6_serve 88 = .ok (.iconst 2, 1) := dk_5 (dk_at dksX6_serve_3 18 rfl rfl)
theorem dX6_serve_89 : decode cX6_serve 89 = .ok (.goto 17, 3) := dk_167 0 17 (dk_at dksX6_serve_3 19 rfl rfl)
theorem dX6_serve_92 : decode cX6_serve 92 = .ok (.aload_n 0, 1) := dk_42 (dk_at dksX6_serve_3 22 rfl rfl)
theorem dX6_serve_93 : decode cX6_serve 93 = .ok (.getfield 126, 3) := dk_180 0 126 (dk_at dksX6_serve_4 0 rfl rfl)
theorem dX6_serve_96 : decode cX6_serve 96 = .ok (.iload_n 1, 1) := dk_27 (dk_at dksX6_serve_4 3 rfl rfl)
theorem dX6_serve_97 : decode cX6_serve 97 = .ok (.baload, 1) := dk_51 (dk_at dksX6_serve_4 4 rfl rfl)
theorem dX6_serve_98 : decode cX6_serve 98 = .ok (.ifCond .eq 7, 3) := dk_153 0 7 (dk_at dksX6_serve_4 5 rfl rfl)
theorem dX6_serve_101 : decode cX6_serve 101 = .ok (.iconst 3, 1) := dk_6 (dk_at dksX6_serve_4 8 rfl rfl)
theorem dX6_serve_102 : decode cX6_serve 102 = .ok (.goto 4, 3) := dk_167 0 4 (dk_at dksX6_serve_4 9 rfl rfl)
theorem dX6_serve_105 : decode cX6_serve 105 = .ok (.iconst 0, 1) := dk_3 (dk_at dksX6_serve_4 12 rfl rfl)
theorem dX6_serve_106 : decode cX6_serve 106 = .ok (.istore_n 3, 1) := dk_62 (dk_at dksX6_serve_4 13 rfl rfl)
theorem dX6_serve_107 : decode cX6_serve 107 = .ok (.iload_n 3, 1) := dk_29 (dk_at dksX6_serve_4 14 rfl rfl)
theorem dX6_serve_108 : decode cX6_serve 108 = .ok (.ifCond .le 12, 3) := dk_158 0 12 (dk_at dksX6_serve_4 15 rfl rfl)
theorem dX6_serve_111 : decode cX6_serve 111 = .ok (.aload_n 0, 1) := dk_42 (dk_at dksX6_serve_4 18 rfl rfl)
theorem dX6_serve_112 : decode cX6_serve 112 = .ok (.iconst 4, 1) := dk_7 (dk_at dksX6_serve_4 19 rfl rfl)
theorem dX6_serve_113 : decode cX6_serve 113 = .ok (.iload_n 1, 1) := dk_27 (dk_at dksX6_serve_4 20 rfl rfl)
theorem dX6_serve_114 : decode cX6_serve 114 = .ok (.iload_n 3, 1) := dk_29 (dk_at dksX6_serve_4 21 rfl rfl)
theorem dX6_serve_115 : decode cX6_serve 115 = .ok (.iconst 3, 1) := dk_6 (dk_at dksX6_serve_4 22 rfl rfl)
theorem dX6_serve_116 : decode cX6_serve 116 = .ok (.invokevirtual 389, 3) := dk_182 1 133 (dk_at dksX6_serve_5 0 rfl rfl)
theorem dX6_serve_119 : decode cX6_serve 119 = .ok (.ireturn, 1) := dk_172 (dk_at dksX6_serve_5 3 rfl rfl)
theorem dX6_serve_120 : decode cX6_serve 120 = .ok (.aload_n 0, 1) := dk_42 (dk_at dksX6_serve_5 4 rfl rfl)
theorem dX6_serve_121 : decode cX6_serve 121 = .ok (.iconst 3, 1) := dk_6 (dk_at dksX6_serve_5 5 rfl rfl)
theorem dX6_serve_122 : decode cX6_serve 122 = .ok (.invokevirtual 376, 3) := dk_182 1 120 (dk_at dksX6_serve_5 6 rfl rfl)
theorem dX6_serve_125 : decode cX6_serve 125 = .ok (.aload_n 0, 1) := dk_42 (dk_at dksX6_serve_5 9 rfl rfl)
theorem dX6_serve_126 : decode cX6_serve 126 = .ok (.aload_n 0, 1) := dk_42 (dk_at dksX6_serve_5 10 rfl rfl)
theorem dX6_serve_127 : decode cX6_serve 127 = .ok (.getfield 117, 3) := dk_180 0 117 (dk_at dksX6_serve_5 11 rfl rfl)
theorem dX6_serve_130 : decode cX6_serve 130 = .ok (.iload_n 2, 1) := dk_28 (dk_at dksX6_serve_5 14 rfl rfl)
theorem dX6_serve_131 : decode cX6_serve 131 = .ok (.iaload, 1) := dk_46 (dk_at dksX6_serve_5 15 rfl rfl)
theorem dX6_serve_132 : decode cX6_serve 132 = .ok (.aload_n 0, 1) := dk_42 (dk_at dksX6_serve_5 16 rfl rfl)
theorem dX6_serve_133 : decode cX6_serve 133 = .ok (.getfield 120, 3) := dk_180 0 120 (dk_at dksX6_serve_5 17 rfl rfl)
theorem dX6_serve_136 : decode cX6_serve 136 = .ok (.iload_n 2, 1) := dk_28 (dk_at dksX6_serve_5 20 rfl rfl)
theorem dX6_serve_137 : decode cX6_serve 137 = .ok (.iaload, 1) := dk_46 (dk_at dksX6_serve_5 21 rfl rfl)
theorem dX6_serve_138 : decode cX6_serve 138 = .ok (.invokevirtual 379, 3) := dk_182 1 123 (dk_at dksX6_serve_6 0 rfl rfl)
theorem dX6_serve_141 : decode cX6_serve 141 = .ok (.ifCond .ne 19, 3) := dk_154 0 19 (dk_at dksX6_serve_6 3 rfl rfl)
theorem dX6_serve_144 : decode cX6_serve 144 = .ok (.aload_n 0, 1) := dk_42 (dk_at dksX6_serve_6 6 rfl rfl)
theorem dX6_serve_145 : decode cX6_serve 145 = .ok (.getfield 126, 3) := dk_180 0 126 (dk_at dksX6_serve_6 7 rfl rfl)
theorem dX6_serve_148 : decode cX6_serve 148 = .ok (.iload_n 1, 1) := dk_27 (dk_at dksX6_serve_6 10 rfl rfl)
theorem dX6_serve_149 : decode cX6_serve 149 = .ok (.iconst 1, 1) := dk_4 (dk_at dksX6_serve_6 11 rfl rfl)
theorem dX6_serve_150 : decode cX6_serve 150 = .ok (.bastore, 1) := dk_84 (dk_at dksX6_serve_6 12 rfl rfl)
theorem dX6_serve_151 : decode cX6_serve 151 = .ok (.aload_n 0, 1) := dk_42 (dk_at dksX6_serve_6 13 rfl rfl)
theorem dX6_serve_152 : decode cX6_serve 152 = .ok (.iconst 3, 1) := dk_6 (dk_at dksX6_serve_6 14 rfl rfl)
theorem dX6_serve_153 : decode cX6_serve 153 = .ok (.iload_n 1, 1) := dk_27 (dk_at dksX6_serve_6 15 rfl rfl)
theorem dX6_serve_154 : decode cX6_serve 154 = .ok (.iconst 0, 1) := dk_3 (dk_at dksX6_serve_6 16 rfl rfl)
theorem dX6_serve_155 : decode cX6_serve 155 = .ok (.iconst 2, 1) := dk_5 (dk_at dksX6_serve_6 17 rfl rfl)
theorem dX6_serve_156 : decode cX6_serve 156 = .ok (.invokevirtual 389, 3) := dk_182 1 133 (dk_at dksX6_serve_6 18 rfl rfl)
theorem dX6_serve_159 : decode cX6_serve 159 = .ok (.ireturn, 1) := dk_172 (dk_at dksX6_serve_6 21 rfl rfl)
theorem dX6_serve_160 : decode cX6_serve 160 = .ok (.aload_n 0, 1) := dk_42 (dk_at dksX6_serve_6 22 rfl rfl)
theorem dX6_serve_161 : decode cX6_serve 161 = .ok (.aload_n 0, 1) := dk_42 (dk_at dksX6_serve_6 23 rfl rfl)
theorem dX6_serve_162 : decode cX6_serve 162 = .ok (.getfield 123, 3) := dk_180 0 123 (dk_at dksX6_serve_7 0 rfl rfl)
theorem dX6_serve_165 : decode cX6_serve 165 = .ok (.iload_n 2, 1) := dk_28 (dk_at dksX6_serve_7 3 rfl rfl)
theorem dX6_serve_166 : decode cX6_serve 166 = .ok (.iaload, 1) := dk_46 (dk_at dksX6_serve_7 4 rfl rfl)
theorem dX6_serve_167 : decode cX6_serve 167 = .ok (.invokevirtual 267, 3) := dk_182 1 11 (dk_at dksX6_serve_7 5 rfl rfl)
theorem dX6_serve_170 : decode cX6_serve 170 = .ok (.aload_n 0, 1) := dk_42 (dk_at dksX6_serve_7 8 rfl rfl)
theorem dX6_serve_171 : decode cX6_serve 171 = .ok (.getfield 270, 3) := dk_180 1 14 (dk_at dksX6_serve_7 9 rfl rfl)
theorem dX6_serve_174 : decode cX6_serve 174 = .ok (.iconst 3, 1) := dk_6 (dk_at dksX6_serve_7 12 rfl rfl)
theorem dX6_serve_175 : decode cX6_serve 175 = .ok (.iadd, 1) := dk_96 (dk_at dksX6_serve_7 13 rfl rfl)
theorem dX6_serve_176 : decode cX6_serve 176 = .ok (.bipush 120, 2) := dk_16 120 (dk_at dksX6_serve_7 14 rfl rfl)
theorem dX6_serve_178 : decode cX6_serve 178 = .ok (.if_icmp .le 12, 3) := dk_164 0 12 (dk_at dksX6_serve_7 16 rfl rfl)
theorem dX6_serve_181 : decode cX6_serve 181 = .ok (.aload_n 0, 1) := dk_42 (dk_at dksX6_serve_7 19 rfl rfl)
theorem dX6_serve_182 : decode cX6_serve 182 = .ok (.iconst 4, 1) := dk_7 (dk_at dksX6_serve_7 20 rfl rfl)
theorem dX6_serve_183 : decode cX6_serve 183 = .ok (.iload_n 1, 1) := dk_27 (dk_at dksX6_serve_7 21 rfl rfl)
theorem dX6_serve_184 : decode cX6_serve 184 = .ok (.iconst 4, 1) := dk_7 (dk_at dksX6_serve_7 22 rfl rfl)
theorem dX6_serve_185 : decode cX6_serve 185 = .ok (.iconst 3, 1) := dk_6 (dk_at dksX6_serve_7 23 rfl rfl)
theorem dX6_serve_186 : decode cX6_serve 186 = .ok (.invokevirtual 389, 3) := dk_182 1 133 (dk_at dksX6_serve_8 0 rfl rfl)
theorem dX6_serve_189 : decode cX6_serve 189 = .ok (.ireturn, 1) := dk_172 (dk_at dksX6_serve_8 3 rfl rfl)
theorem dX6_serve_190 : decode cX6_serve 190 = .ok (.aload_n 0, 1) := dk_42 (dk_at dksX6_serve_8 4 rfl rfl)
theorem dX6_serve_191 : decode cX6_serve 191 = .ok (.getfield 126, 3) := dk_180 0 126 (dk_at dksX6_serve_8 5 rfl rfl)
theorem dX6_serve_194 : decode cX6_serve 194 = .ok (.iload_n 1, 1) := dk_27 (dk_at dksX6_serve_8 8 rfl rfl)
theorem dX6_serve_195 : decode cX6_serve 195 = .ok (.iconst 1, 1) := dk_4 (dk_at dksX6_serve_8 9 rfl rfl)
theorem dX6_serve_196 : decode cX6_serve 196 = .ok (.bastore, 1) := dk_84 (dk_at dksX6_serve_8 10 rfl rfl)
theorem dX6_serve_197 : decode cX6_serve 197 = .ok (.aload_n 0, 1) := dk_42 (dk_at dksX6_serve_8 11 rfl rfl)
theorem dX6_serve_198 : decode cX6_serve 198 = .ok (.invokevirtual 386, 3) := dk_182 1 130 (dk_at dksX6_serve_8 12 rfl rfl)
theorem dX6_serve_201 : decode cX6_serve 201 = .ok (.iconst 0, 1) := dk_3 (dk_at dksX6_serve_8 15 rfl rfl)
theorem dX6_serve_202 : decode cX6_serve 202 = .ok (.istore 4, 2) := dk_54 4 (dk_at dksX6_serve_8 16 rfl rfl)
theorem dX6_serve_204 : decode cX6_serve 204 = .ok (.iload 4, 2) := dk_21 4 (dk_at dksX6_serve_8 18 rfl rfl)
theorem dX6_serve_206 : decode cX6_serve 206 = .ok (.aload_n 0, 1) := dk_42 (dk_at dksX6_serve_8 20 rfl rfl)
theorem dX6_serve_207 : decode cX6_serve 207 = .ok (.getfield 270, 3) := dk_180 1 14 (dk_at dksX6_serve_8 21 rfl rfl)
theorem dX6_serve_210 : decode cX6_serve 210 = .ok (.if_icmp .ge 25, 3) := dk_162 0 25 (dk_at dksX6_serve_9 0 rfl rfl)
theorem dX6_serve_213 : decode cX6_serve 213 = .ok (.aload_n 0, 1) := dk_42 (dk_at dksX6_serve_9 3 rfl rfl)
theorem dX6_serve_214 : decode cX6_serve 214 = .ok (.getfield 63, 3) := dk_180 0 63 (dk_at dksX6_serve_9 4 rfl rfl)
theorem dX6_serve_217 : decode cX6_serve 217 = .ok (.iconst 3, 1) := dk_6 (dk_at dksX6_serve_9 7 rfl rfl)
theorem dX6_serve_218 : decode cX6_serve 218 = .ok (.iload 4, 2) := dk_21 4 (dk_at dksX6_serve_9 8 rfl rfl)
theorem dX6_serve_220 : decode cX6_serve 220 = .ok (.iadd, 1) := dk_96 (dk_at dksX6_serve_9 10 rfl rfl)
theorem dX6_serve_221 : decode cX6_serve 221 = .ok (.aload_n 0, 1) := dk_42 (dk_at dksX6_serve_9 11 rfl rfl)
theorem dX6_serve_222 : decode cX6_serve 222 = .ok (.getfield 69, 3) := dk_180 0 69 (dk_at dksX6_serve_9 12 rfl rfl)
theorem dX6_serve_225 : decode cX6_serve 225 = .ok (.iload 4, 2) := dk_21 4 (dk_at dksX6_serve_9 15 rfl rfl)
theorem dX6_serve_227 : decode cX6_serve 227 = .ok (.iaload, 1) := dk_46 (dk_at dksX6_serve_9 17 rfl rfl)
theorem dX6_serve_228 : decode cX6_serve 228 = .ok (.iastore, 1) := dk_79 (dk_at dksX6_serve_9 18 rfl rfl)
theorem dX6_serve_229 : decode cX6_serve 229 = .ok (.iinc 4 1, 3) := dk_132 4 1 (dk_at dksX6_serve_9 19 rfl rfl)
theorem dX6_serve_232 : decode cX6_serve 232 = .ok (.goto (-28), 3) := dk_167 255 228 (dk_at dksX6_serve_10 0 rfl rfl)
theorem dX6_serve_235 : decode cX6_serve 235 = .ok (.aload_n 0, 1) := dk_42 (dk_at dksX6_serve_10 3 rfl rfl)
theorem dX6_serve_236 : decode cX6_serve 236 = .ok (.iconst 2, 1) := dk_5 (dk_at dksX6_serve_10 4 rfl rfl)
theorem dX6_serve_237 : decode cX6_serve 237 = .ok (.iload_n 1, 1) := dk_27 (dk_at dksX6_serve_10 5 rfl rfl)
theorem dX6_serve_238 : decode cX6_serve 238 = .ok (.iload_n 2, 1) := dk_28 (dk_at dksX6_serve_10 6 rfl rfl)
theorem dX6_serve_239 : decode cX6_serve 239 = .ok (.aload_n 0, 1) := dk_42 (dk_at dksX6_serve_10 7 rfl rfl)
theorem dX6_serve_240 : decode cX6_serve 240 = .ok (.getfield 270, 3) := dk_180 1 14 (dk_at dksX6_serve_10 8 rfl rfl)
theorem dX6_serve_243 : decode cX6_serve 243 = .ok (.iconst 3, 1) := dk_6 (dk_at dksX6_serve_10 11 rfl rfl)
theorem dX6_serve_244 : decode cX6_serve 244 = .ok (.iadd, 1) := dk_96 (dk_at dksX6_serve_10 12 rfl rfl)
theorem dX6_serve_245 : decode cX6_serve 245 = .ok (.invokevirtual 389, 3) := dk_182 1 133 (dk_at dksX6_serve_10 13 rfl rfl)
theorem dX6_serve_248 : decode cX6_serve 248 = .ok (.ireturn, 1) := dk_172 (dk_at dksX6_serve_10 16 rfl rfl)
abbrev cX6_reply : ByteArray := prog_18_method_73_code
def yX6_reply : MethodName := ⟨RX6, "reply", "(IIII)I"⟩
def dkwX6_reply_1 : List UInt8 := [181, 0, 228, 27, 172]
abbrev dktX6_reply_1 : List UInt8 := dkwX6_reply_1 ++ []
def dkwX6_reply_0 : List UInt8 := [42, 180, 0, 63, 3, 27, 79, 42, 180, 0, 63, 4, 28, 79, 42, 180, 0, 63, 5, 29, 79, 42, 21, 4]
abbrev dktX6_reply_0 : List UInt8 := dkwX6_reply_0 ++ dktX6_reply_1
theorem dksX6_reply_0 : cX6_reply.data.toList.drop 0 = dktX6_reply_0 := by decide +kernel
theorem dksX6_reply_1 : cX6_reply.data.toList.drop 24 = dktX6_reply_1 := dk_seg dksX6_reply_0 24 rfl rfl
theorem dX6_reply_0 : decode cX6_reply 0 = .ok (.aload_n 0, 1) := dk_42 (dk_at dksX6_reply_0 0 rfl rfl)
theorem dX6_reply_1 : decode cX6_reply 1 = .ok (.getfield 63, 3) := dk_180 0 63 (dk_at dksX6_reply_0 1 rfl rfl)
theorem dX6_reply_4 : decode cX6_reply 4 = .ok (.iconst 0, 1) := dk_3 (dk_at dksX6_reply_0 4 rfl rfl)
theorem dX6_reply_5 : decode cX6_reply 5 = .ok (.iload_n 1, 1) := dk_27 (dk_at dksX6_reply_0 5 rfl rfl)
theorem dX6_reply_6 : decode cX6_reply 6 = .ok (.iastore, 1) := dk_79 (dk_at dksX6_reply_0 6 rfl rfl)
theorem dX6_reply_7 : decode cX6_reply 7 = .ok (.aload_n 0, 1) := dk_42 (dk_at dksX6_reply_0 7 rfl rfl)
theorem dX6_reply_8 : decode cX6_reply 8 = .ok (.getfield 63, 3) := dk_180 0 63 (dk_at dksX6_reply_0 8 rfl rfl)
theorem dX6_reply_11 : decode cX6_reply 11 = .ok (.iconst 1, 1) := dk_4 (dk_at dksX6_reply_0 11 rfl rfl)
theorem dX6_reply_12 : decode cX6_reply 12 = .ok (.iload_n 2, 1) := dk_28 (dk_at dksX6_reply_0 12 rfl rfl)
theorem dX6_reply_13 : decode cX6_reply 13 = .ok (.iastore, 1) := dk_79 (dk_at dksX6_reply_0 13 rfl rfl)
theorem dX6_reply_14 : decode cX6_reply 14 = .ok (.aload_n 0, 1) := dk_42 (dk_at dksX6_reply_0 14 rfl rfl)
theorem dX6_reply_15 : decode cX6_reply 15 = .ok (.getfield 63, 3) := dk_180 0 63 (dk_at dksX6_reply_0 15 rfl rfl)
theorem dX6_reply_18 : decode cX6_reply 18 = .ok (.iconst 2, 1) := dk_5 (dk_at dksX6_reply_0 18 rfl rfl)
theorem dX6_reply_19 : decode cX6_reply 19 = .ok (.iload_n 3, 1) := dk_29 (dk_at dksX6_reply_0 19 rfl rfl)
theorem dX6_reply_20 : decode cX6_reply 20 = .ok (.iastore, 1) := dk_79 (dk_at dksX6_reply_0 20 rfl rfl)
theorem dX6_reply_21 : decode cX6_reply 21 = .ok (.aload_n 0, 1) := dk_42 (dk_at dksX6_reply_0 21 rfl rfl)
theorem dX6_reply_22 : decode cX6_reply 22 = .ok (.iload 4, 2) := dk_21 4 (dk_at dksX6_reply_0 22 rfl rfl)
theorem dX6_reply_24 : decode cX6_reply 24 = .ok (.putfield 228, 3) := dk_181 0 228 (dk_at dksX6_reply_1 0 rfl rfl)
theorem dX6_reply_27 : decode cX6_reply 27 = .ok (.iload_n 1, 1) := dk_27 (dk_at dksX6_reply_1 3 rfl rfl)
theorem dX6_reply_28 : decode cX6_reply 28 = .ok (.ireturn, 1) := dk_172 (dk_at dksX6_reply_1 4 rfl rfl)
theorem q91 : (Jvm.Cond.initialized "NotationDeskModel") ∈ lw_all := lw_g (lw_at lw_m1 6 rfl) rfl
theorem q1331 : (Jvm.Cond.instantiable "NotationDeskModel" (59 : Nat)) ∈ lw_all := lw_g (lw_at lw_m6 46 rfl) rfl
theorem q1333 : (Jvm.Cond.instanceMethod ({ cls := "NotationDeskModel", name := "<init>", desc := "()V" } : Jvm.MethodName)) ∈ lw_all := lw_g (lw_at lw_m6 48 rfl) rfl
theorem q1334 : (Jvm.Cond.code ({ cls := "NotationDeskModel", name := "<init>", desc := "()V" } : Jvm.MethodName) prog_18_method_1_code (1 : Nat) (Option.none : Option Jvm.ClassFile.FieldType)) ∈ lw_all := lw_g (lw_at lw_m6 49 rfl) rfl
theorem q1335 : (Jvm.Cond.methodLink "NotationDeskModel" (1 : Nat) ({ cls := "java/lang/Object", name := "<init>", desc := "()V" } : Jvm.MethodName)) ∈ lw_all := lw_g (lw_at lw_m6 50 rfl) rfl
theorem q1336 : (Jvm.Cond.methodLink "NotationDeskModel" (129 : Nat) ({ cls := "NotationDeskModel", name := "leave", desc := "()V" } : Jvm.MethodName)) ∈ lw_all := lw_g (lw_at lw_m6 51 rfl) rfl
theorem q1337 : (Jvm.Cond.privateMethod ({ cls := "NotationDeskModel", name := "leave", desc := "()V" } : Jvm.MethodName)) ∈ lw_tbl := lw_at lw_m6 52 rfl
theorem q1338 : (Jvm.Cond.instanceMethod ({ cls := "NotationDeskModel", name := "leave", desc := "()V" } : Jvm.MethodName)) ∈ lw_all := lw_g (lw_at lw_m6 53 rfl) rfl
theorem q1339 : (Jvm.Cond.code ({ cls := "NotationDeskModel", name := "leave", desc := "()V" } : Jvm.MethodName) prog_18_method_5_code (2 : Nat) (Option.none : Option Jvm.ClassFile.FieldType)) ∈ lw_all := lw_g (lw_at lw_m6 54 rfl) rfl
theorem q1340 : (Jvm.Cond.fieldLink "NotationDeskModel" (132 : Nat) "NotationDeskModel" "code" "I") ∈ lw_all := lw_g (lw_at lw_m6 55 rfl) rfl
theorem q1341 : (Jvm.Cond.fieldLink "NotationDeskModel" (136 : Nat) "NotationDeskModel" "module" "Z") ∈ lw_all := lw_g (lw_at lw_m6 56 rfl) rfl
theorem q1342 : (Jvm.Cond.fieldLink "NotationDeskModel" (143 : Nat) "NotationDeskModel" "size" "I") ∈ lw_all := lw_g (lw_at lw_m6 57 rfl) rfl
theorem q1343 : (Jvm.Cond.fieldLink "NotationDeskModel" (146 : Nat) "NotationDeskModel" "place" "I") ∈ lw_all := lw_g (lw_at lw_m6 58 rfl) rfl
theorem q1344 : (Jvm.Cond.fieldLink "NotationDeskModel" (149 : Nat) "NotationDeskModel" "fault" "I") ∈ lw_all := lw_g (lw_at lw_m6 59 rfl) rfl
theorem q1345 : (Jvm.Cond.fieldLink "NotationDeskModel" (177 : Nat) "NotationDeskModel" "depth" "I") ∈ lw_all := lw_g (lw_at lw_m6 60 rfl) rfl
theorem q1346 : (Jvm.Cond.fieldLink "NotationDeskModel" (203 : Nat) "NotationDeskModel" "told" "I") ∈ lw_all := lw_g (lw_at lw_m6 61 rfl) rfl
theorem q1347 : (Jvm.Cond.fieldLink "NotationDeskModel" (7 : Nat) "NotationDeskModel" "text" "[C") ∈ lw_all := lw_g (lw_at lw_m6 62 rfl) rfl
theorem q1348 : (Jvm.Cond.fieldLink "NotationDeskModel" (13 : Nat) "NotationDeskModel" "open" "[I") ∈ lw_all := lw_g (lw_at lw_m6 63 rfl) rfl
theorem q1349 : (Jvm.Cond.fieldLink "NotationDeskModel" (17 : Nat) "NotationDeskModel" "names" "[I") ∈ lw_all := lw_g (lw_at lw_m6 64 rfl) rfl
theorem q1350 : (Jvm.Cond.fieldLink "NotationDeskModel" (160 : Nat) "NotationDeskModel" "types" "I") ∈ lw_all := lw_g (lw_at lw_m6 65 rfl) rfl
theorem q1351 : (Jvm.Cond.fieldLink "NotationDeskModel" (20 : Nat) "NotationDeskModel" "kind" "[I") ∈ lw_all := lw_g (lw_at lw_m6 66 rfl) rfl
theorem q1352 : (Jvm.Cond.fieldLink "NotationDeskModel" (23 : Nat) "NotationDeskModel" "low" "[I") ∈ lw_all := lw_g (lw_at lw_m6 67 rfl) rfl
theorem q1353 : (Jvm.Cond.fieldLink "NotationDeskModel" (26 : Nat) "NotationDeskModel" "high" "[I") ∈ lw_all := lw_g (lw_at lw_m6 68 rfl) rfl
theorem q1354 : (Jvm.Cond.fieldLink "NotationDeskModel" (29 : Nat) "NotationDeskModel" "digit" "[I") ∈ lw_all := lw_g (lw_at lw_m6 69 rfl) rfl
theorem q1355 : (Jvm.Cond.fieldLink "NotationDeskModel" (32 : Nat) "NotationDeskModel" "count" "[I") ∈ lw_all := lw_g (lw_at lw_m6 70 rfl) rfl
theorem q1356 : (Jvm.Cond.fieldLink "NotationDeskModel" (35 : Nat) "NotationDeskModel" "begins" "[I") ∈ lw_all := lw_g (lw_at lw_m6 71 rfl) rfl
theorem q1357 : (Jvm.Cond.fieldLink "NotationDeskModel" (38 : Nat) "NotationDeskModel" "height" "[I") ∈ lw_all := lw_g (lw_at lw_m6 72 rfl) rfl
theorem q1358 : (Jvm.Cond.fieldLink "NotationDeskModel" (41 : Nat) "NotationDeskModel" "sized" "[Z") ∈ lw_all := lw_g (lw_at lw_m6 73 rfl) rfl
theorem q1359 : (Jvm.Cond.fieldLink "NotationDeskModel" (45 : Nat) "NotationDeskModel" "implicit" "[Z") ∈ lw_all := lw_g (lw_at lw_m6 74 rfl) rfl
theorem q1360 : (Jvm.Cond.fieldLink "NotationDeskModel" (48 : Nat) "NotationDeskModel" "child" "[I") ∈ lw_all := lw_g (lw_at lw_m6 75 rfl) rfl
theorem q1361 : (Jvm.Cond.fieldLink "NotationDeskModel" (51 : Nat) "NotationDeskModel" "flag" "[I") ∈ lw_all := lw_g (lw_at lw_m6 76 rfl) rfl
theorem q1362 : (Jvm.Cond.fieldLink "NotationDeskModel" (54 : Nat) "NotationDeskModel" "given" "[I") ∈ lw_all := lw_g (lw_at lw_m6 77 rfl) rfl
theorem q1363 : (Jvm.Cond.fieldLink "NotationDeskModel" (222 : Nat) "NotationDeskModel" "base" "I") ∈ lw_all := lw_g (lw_at lw_m6 78 rfl) rfl
theorem q1364 : (Jvm.Cond.fieldLink "NotationDeskModel" (225 : Nat) "NotationDeskModel" "tags" "I") ∈ lw_all := lw_g (lw_at lw_m6 79 rfl) rfl
theorem q1365 : (Jvm.Cond.fieldLink "NotationDeskModel" (57 : Nat) "NotationDeskModel" "tag" "[I") ∈ lw_all := lw_g (lw_at lw_m6 80 rfl) rfl
theorem q1366 : (Jvm.Cond.fieldLink "NotationDeskModel" (60 : Nat) "NotationDeskModel" "around" "[I") ∈ lw_all := lw_g (lw_at lw_m6 81 rfl) rfl
theorem q1367 : (Jvm.Cond.fieldLink "NotationDeskModel" (228 : Nat) "NotationDeskModel" "buffered" "I") ∈ lw_all := lw_g (lw_at lw_m6 82 rfl) rfl
theorem q1368 : (Jvm.Cond.fieldLink "NotationDeskModel" (261 : Nat) "NotationDeskModel" "sources" "I") ∈ lw_all := lw_g (lw_at lw_m6 83 rfl) rfl
theorem q1369 : (Jvm.Cond.fieldLink "NotationDeskModel" (270 : Nat) "NotationDeskModel" "makes" "I") ∈ lw_all := lw_g (lw_at lw_m6 84 rfl) rfl
theorem q1370 : (Jvm.Cond.fieldLink "NotationDeskModel" (341 : Nat) "NotationDeskModel" "bits" "I") ∈ lw_all := lw_g (lw_at lw_m6 85 rfl) rfl
theorem q1371 : (Jvm.Cond.fieldLink "NotationDeskModel" (63 : Nat) "NotationDeskModel" "buffer" "[I") ∈ lw_all := lw_g (lw_at lw_m6 86 rfl) rfl
theorem q1372 : (Jvm.Cond.fieldLink "NotationDeskModel" (66 : Nat) "NotationDeskModel" "source" "[I") ∈ lw_all := lw_g (lw_at lw_m6 87 rfl) rfl
theorem q1373 : (Jvm.Cond.fieldLink "NotationDeskModel" (69 : Nat) "NotationDeskModel" "made" "[I") ∈ lw_all := lw_g (lw_at lw_m6 88 rfl) rfl
theorem q1374 : (Jvm.Cond.fieldLink "NotationDeskModel" (233 : Nat) "NotationDeskModel" "many" "I") ∈ lw_all := lw_g (lw_at lw_m6 89 rfl) rfl
theorem q1375 : (Jvm.Cond.fieldLink "NotationDeskModel" (239 : Nat) "NotationDeskModel" "held" "I") ∈ lw_all := lw_g (lw_at lw_m6 90 rfl) rfl
theorem q1376 : (Jvm.Cond.fieldLink "NotationDeskModel" (72 : Nat) "NotationDeskModel" "type" "[I") ∈ lw_all := lw_g (lw_at lw_m6 91 rfl) rfl
theorem q1377 : (Jvm.Cond.fieldLink "NotationDeskModel" (75 : Nat) "NotationDeskModel" "number" "[I") ∈ lw_all := lw_g (lw_at lw_m6 92 rfl) rfl
theorem q1378 : (Jvm.Cond.fieldLink "NotationDeskModel" (78 : Nat) "NotationDeskModel" "which" "[I") ∈ lw_all := lw_g (lw_at lw_m6 93 rfl) rfl
theorem q1379 : (Jvm.Cond.fieldLink "NotationDeskModel" (81 : Nat) "NotationDeskModel" "parent" "[I") ∈ lw_all := lw_g (lw_at lw_m6 94 rfl) rfl
theorem q1380 : (Jvm.Cond.fieldLink "NotationDeskModel" (84 : Nat) "NotationDeskModel" "from" "[I") ∈ lw_all := lw_g (lw_at lw_m6 95 rfl) rfl
theorem q1381 : (Jvm.Cond.fieldLink "NotationDeskModel" (87 : Nat) "NotationDeskModel" "below" "[I") ∈ lw_all := lw_g (lw_at lw_m6 96 rfl) rfl
theorem q1382 : (Jvm.Cond.fieldLink "NotationDeskModel" (90 : Nat) "NotationDeskModel" "start" "[I") ∈ lw_all := lw_g (lw_at lw_m6 97 rfl) rfl
theorem q1383 : (Jvm.Cond.fieldLink "NotationDeskModel" (93 : Nat) "NotationDeskModel" "octets" "[I") ∈ lw_all := lw_g (lw_at lw_m6 98 rfl) rfl
theorem q1384 : (Jvm.Cond.fieldLink "NotationDeskModel" (140 : Nat) "NotationDeskModel" "parts" "I") ∈ lw_all := lw_g (lw_at lw_m6 99 rfl) rfl
theorem q1385 : (Jvm.Cond.fieldLink "NotationDeskModel" (96 : Nat) "NotationDeskModel" "shown" "[I") ∈ lw_all := lw_g (lw_at lw_m6 100 rfl) rfl
theorem q1386 : (Jvm.Cond.fieldLink "NotationDeskModel" (99 : Nat) "NotationDeskModel" "spelled" "[I") ∈ lw_all := lw_g (lw_at lw_m6 101 rfl) rfl
theorem q1387 : (Jvm.Cond.fieldLink "NotationDeskModel" (245 : Nat) "NotationDeskModel" "at" "I") ∈ lw_all := lw_g (lw_at lw_m6 102 rfl) rfl
theorem q1388 : (Jvm.Cond.fieldLink "NotationDeskModel" (242 : Nat) "NotationDeskModel" "frames" "I") ∈ lw_all := lw_g (lw_at lw_m6 103 rfl) rfl
theorem q1389 : (Jvm.Cond.fieldLink "NotationDeskModel" (236 : Nat) "NotationDeskModel" "good" "Z") ∈ lw_all := lw_g (lw_at lw_m6 104 rfl) rfl
theorem q1390 : (Jvm.Cond.fieldLink "NotationDeskModel" (102 : Nat) "NotationDeskModel" "framePart" "[I") ∈ lw_all := lw_g (lw_at lw_m6 105 rfl) rfl
theorem q1391 : (Jvm.Cond.fieldLink "NotationDeskModel" (105 : Nat) "NotationDeskModel" "frameEnd" "[I") ∈ lw_all := lw_g (lw_at lw_m6 106 rfl) rfl
theorem q1392 : (Jvm.Cond.fieldLink "NotationDeskModel" (108 : Nat) "NotationDeskModel" "frameNext" "[I") ∈ lw_all := lw_g (lw_at lw_m6 107 rfl) rfl
theorem q1393 : (Jvm.Cond.fieldLink "NotationDeskModel" (111 : Nat) "NotationDeskModel" "frameBits" "[I") ∈ lw_all := lw_g (lw_at lw_m6 108 rfl) rfl
theorem q1394 : (Jvm.Cond.fieldLink "NotationDeskModel" (114 : Nat) "NotationDeskModel" "loose" "[Z") ∈ lw_all := lw_g (lw_at lw_m6 109 rfl) rfl
theorem q1395 : (Jvm.Cond.fieldLink "NotationDeskModel" (117 : Nat) "NotationDeskModel" "operationType" "[I") ∈ lw_all := lw_g (lw_at lw_m6 110 rfl) rfl
theorem q1396 : (Jvm.Cond.fieldLink "NotationDeskModel" (120 : Nat) "NotationDeskModel" "takes" "[I") ∈ lw_all := lw_g (lw_at lw_m6 111 rfl) rfl
theorem q1397 : (Jvm.Cond.fieldLink "NotationDeskModel" (123 : Nat) "NotationDeskModel" "answers" "[I") ∈ lw_all := lw_g (lw_at lw_m6 112 rfl) rfl
theorem q1398 : (Jvm.Cond.fieldLink "NotationDeskModel" (126 : Nat) "NotationDeskModel" "served" "[Z") ∈ lw_all := lw_g (lw_at lw_m6 113 rfl) rfl
theorem q1399 : (Jvm.Cond.lays "NotationDeskModel" "NotationDeskModel" "code" "I") ∈ lw_all := lw_g (lw_at lw_m6 114 rfl) rfl
theorem q1400 : (Jvm.Cond.soleField "NotationDeskModel" "code") ∈ lw_all := lw_g (lw_at lw_m6 115 rfl) rfl
theorem q1401 : (Jvm.Cond.lays "NotationDeskModel" "NotationDeskModel" "module" "Z") ∈ lw_all := lw_g (lw_at lw_m6 116 rfl) rfl
theorem q1402 : (Jvm.Cond.soleField "NotationDeskModel" "module") ∈ lw_all := lw_g (lw_at lw_m6 117 rfl) rfl
theorem q1403 : (Jvm.Cond.lays "NotationDeskModel" "NotationDeskModel" "size" "I") ∈ lw_all := lw_g (lw_at lw_m6 118 rfl) rfl
theorem q1404 : (Jvm.Cond.soleField "NotationDeskModel" "size") ∈ lw_all := lw_g (lw_at lw_m6 119 rfl) rfl
theorem q1405 : (Jvm.Cond.lays "NotationDeskModel" "NotationDeskModel" "place" "I") ∈ lw_all := lw_g (lw_at lw_m6 120 rfl) rfl
theorem q1406 : (Jvm.Cond.soleField "NotationDeskModel" "place") ∈ lw_all := lw_g (lw_at lw_m6 121 rfl) rfl
theorem q1407 : (Jvm.Cond.lays "NotationDeskModel" "NotationDeskModel" "fault" "I") ∈ lw_all := lw_g (lw_at lw_m6 122 rfl) rfl
theorem q1408 : (Jvm.Cond.soleField "NotationDeskModel" "fault") ∈ lw_all := lw_g (lw_at lw_m6 123 rfl) rfl
theorem q1409 : (Jvm.Cond.lays "NotationDeskModel" "NotationDeskModel" "depth" "I") ∈ lw_all := lw_g (lw_at lw_m6 124 rfl) rfl
theorem q1410 : (Jvm.Cond.soleField "NotationDeskModel" "depth") ∈ lw_all := lw_g (lw_at lw_m6 125 rfl) rfl
theorem q1411 : (Jvm.Cond.lays "NotationDeskModel" "NotationDeskModel" "told" "I") ∈ lw_all := lw_g (lw_at lw_m6 126 rfl) rfl
theorem q1412 : (Jvm.Cond.soleField "NotationDeskModel" "told") ∈ lw_all := lw_g (lw_at lw_m6 127 rfl) rfl
theorem q1413 : (Jvm.Cond.laysFinal "NotationDeskModel" "NotationDeskModel" "text" "[C") ∈ lw_all := lw_g (lw_at lw_m6 128 rfl) rfl
theorem q1414 : (Jvm.Cond.soleField "NotationDeskModel" "text") ∈ lw_all := lw_g (lw_at lw_m6 129 rfl) rfl
theorem q1415 : (Jvm.Cond.laysFinal "NotationDeskModel" "NotationDeskModel" "open" "[I") ∈ lw_all := lw_g (lw_at lw_m6 130 rfl) rfl
theorem q1416 : (Jvm.Cond.soleField "NotationDeskModel" "open") ∈ lw_all := lw_g (lw_at lw_m6 131 rfl) rfl
theorem q1417 : (Jvm.Cond.laysFinal "NotationDeskModel" "NotationDeskModel" "names" "[I") ∈ lw_all := lw_g (lw_at lw_m6 132 rfl) rfl
theorem q1418 : (Jvm.Cond.soleField "NotationDeskModel" "names") ∈ lw_all := lw_g (lw_at lw_m6 133 rfl) rfl
theorem q1419 : (Jvm.Cond.lays "NotationDeskModel" "NotationDeskModel" "types" "I") ∈ lw_all := lw_g (lw_at lw_m6 134 rfl) rfl
theorem q1420 : (Jvm.Cond.soleField "NotationDeskModel" "types") ∈ lw_all := lw_g (lw_at lw_m6 135 rfl) rfl
theorem q1421 : (Jvm.Cond.laysFinal "NotationDeskModel" "NotationDeskModel" "kind" "[I") ∈ lw_all := lw_g (lw_at lw_m6 136 rfl) rfl
theorem q1422 : (Jvm.Cond.soleField "NotationDeskModel" "kind") ∈ lw_all := lw_g (lw_at lw_m6 137 rfl) rfl
theorem q1423 : (Jvm.Cond.laysFinal "NotationDeskModel" "NotationDeskModel" "low" "[I") ∈ lw_all := lw_g (lw_at lw_m6 138 rfl) rfl
theorem q1424 : (Jvm.Cond.soleField "NotationDeskModel" "low") ∈ lw_all := lw_g (lw_at lw_m6 139 rfl) rfl
theorem q1425 : (Jvm.Cond.laysFinal "NotationDeskModel" "NotationDeskModel" "high" "[I") ∈ lw_all := lw_g (lw_at lw_m6 140 rfl) rfl
theorem q1426 : (Jvm.Cond.soleField "NotationDeskModel" "high") ∈ lw_all := lw_g (lw_at lw_m6 141 rfl) rfl
theorem q1427 : (Jvm.Cond.laysFinal "NotationDeskModel" "NotationDeskModel" "digit" "[I") ∈ lw_all := lw_g (lw_at lw_m6 142 rfl) rfl
theorem q1428 : (Jvm.Cond.soleField "NotationDeskModel" "digit") ∈ lw_all := lw_g (lw_at lw_m6 143 rfl) rfl
theorem q1429 : (Jvm.Cond.laysFinal "NotationDeskModel" "NotationDeskModel" "count" "[I") ∈ lw_all := lw_g (lw_at lw_m6 144 rfl) rfl
theorem q1430 : (Jvm.Cond.soleField "NotationDeskModel" "count") ∈ lw_all := lw_g (lw_at lw_m6 145 rfl) rfl
theorem q1431 : (Jvm.Cond.laysFinal "NotationDeskModel" "NotationDeskModel" "begins" "[I") ∈ lw_all := lw_g (lw_at lw_m6 146 rfl) rfl
theorem q1432 : (Jvm.Cond.soleField "NotationDeskModel" "begins") ∈ lw_all := lw_g (lw_at lw_m6 147 rfl) rfl
theorem q1433 : (Jvm.Cond.laysFinal "NotationDeskModel" "NotationDeskModel" "height" "[I") ∈ lw_all := lw_g (lw_at lw_m6 148 rfl) rfl
theorem q1434 : (Jvm.Cond.soleField "NotationDeskModel" "height") ∈ lw_all := lw_g (lw_at lw_m6 149 rfl) rfl
theorem q1435 : (Jvm.Cond.laysFinal "NotationDeskModel" "NotationDeskModel" "sized" "[Z") ∈ lw_all := lw_g (lw_at lw_m6 150 rfl) rfl
theorem q1436 : (Jvm.Cond.soleField "NotationDeskModel" "sized") ∈ lw_all := lw_g (lw_at lw_m6 151 rfl) rfl
theorem q1437 : (Jvm.Cond.laysFinal "NotationDeskModel" "NotationDeskModel" "implicit" "[Z") ∈ lw_all := lw_g (lw_at lw_m6 152 rfl) rfl
theorem q1438 : (Jvm.Cond.soleField "NotationDeskModel" "implicit") ∈ lw_all := lw_g (lw_at lw_m6 153 rfl) rfl
theorem q1439 : (Jvm.Cond.laysFinal "NotationDeskModel" "NotationDeskModel" "child" "[I") ∈ lw_all := lw_g (lw_at lw_m6 154 rfl) rfl
theorem q1440 : (Jvm.Cond.soleField "NotationDeskModel" "child") ∈ lw_all := lw_g (lw_at lw_m6 155 rfl) rfl
theorem q1441 : (Jvm.Cond.laysFinal "NotationDeskModel" "NotationDeskModel" "flag" "[I") ∈ lw_all := lw_g (lw_at lw_m6 156 rfl) rfl
theorem q1442 : (Jvm.Cond.soleField "NotationDeskModel" "flag") ∈ lw_all := lw_g (lw_at lw_m6 157 rfl) rfl
theorem q1443 : (Jvm.Cond.laysFinal "NotationDeskModel" "NotationDeskModel" "given" "[I") ∈ lw_all := lw_g (lw_at lw_m6 158 rfl) rfl
theorem q1444 : (Jvm.Cond.soleField "NotationDeskModel" "given") ∈ lw_all := lw_g (lw_at lw_m6 159 rfl) rfl
theorem q1445 : (Jvm.Cond.lays "NotationDeskModel" "NotationDeskModel" "base" "I") ∈ lw_all := lw_g (lw_at lw_m6 160 rfl) rfl
theorem q1446 : (Jvm.Cond.soleField "NotationDeskModel" "base") ∈ lw_all := lw_g (lw_at lw_m6 161 rfl) rfl
theorem q1447 : (Jvm.Cond.lays "NotationDeskModel" "NotationDeskModel" "tags" "I") ∈ lw_all := lw_g (lw_at lw_m6 162 rfl) rfl
theorem q1448 : (Jvm.Cond.soleField "NotationDeskModel" "tags") ∈ lw_all := lw_g (lw_at lw_m6 163 rfl) rfl
theorem q1449 : (Jvm.Cond.laysFinal "NotationDeskModel" "NotationDeskModel" "tag" "[I") ∈ lw_all := lw_g (lw_at lw_m6 164 rfl) rfl
theorem q1450 : (Jvm.Cond.soleField "NotationDeskModel" "tag") ∈ lw_all := lw_g (lw_at lw_m6 165 rfl) rfl
theorem q1451 : (Jvm.Cond.laysFinal "NotationDeskModel" "NotationDeskModel" "around" "[I") ∈ lw_all := lw_g (lw_at lw_m6 166 rfl) rfl
theorem q1452 : (Jvm.Cond.soleField "NotationDeskModel" "around") ∈ lw_all := lw_g (lw_at lw_m6 167 rfl) rfl
theorem q1453 : (Jvm.Cond.lays "NotationDeskModel" "NotationDeskModel" "buffered" "I") ∈ lw_all := lw_g (lw_at lw_m6 168 rfl) rfl
theorem q1454 : (Jvm.Cond.soleField "NotationDeskModel" "buffered") ∈ lw_all := lw_g (lw_at lw_m6 169 rfl) rfl
theorem q1455 : (Jvm.Cond.lays "NotationDeskModel" "NotationDeskModel" "sources" "I") ∈ lw_all := lw_g (lw_at lw_m6 170 rfl) rfl
theorem q1456 : (Jvm.Cond.soleField "NotationDeskModel" "sources") ∈ lw_all := lw_g (lw_at lw_m6 171 rfl) rfl
theorem q1457 : (Jvm.Cond.lays "NotationDeskModel" "NotationDeskModel" "makes" "I") ∈ lw_all := lw_g (lw_at lw_m6 172 rfl) rfl
theorem q1458 : (Jvm.Cond.soleField "NotationDeskModel" "makes") ∈ lw_all := lw_g (lw_at lw_m6 173 rfl) rfl
theorem q1459 : (Jvm.Cond.lays "NotationDeskModel" "NotationDeskModel" "bits" "I") ∈ lw_all := lw_g (lw_at lw_m6 174 rfl) rfl
theorem q1460 : (Jvm.Cond.soleField "NotationDeskModel" "bits") ∈ lw_all := lw_g (lw_at lw_m6 175 rfl) rfl
theorem q1461 : (Jvm.Cond.laysFinal "NotationDeskModel" "NotationDeskModel" "buffer" "[I") ∈ lw_all := lw_g (lw_at lw_m6 176 rfl) rfl
theorem q1462 : (Jvm.Cond.soleField "NotationDeskModel" "buffer") ∈ lw_all := lw_g (lw_at lw_m6 177 rfl) rfl
theorem q1463 : (Jvm.Cond.laysFinal "NotationDeskModel" "NotationDeskModel" "source" "[I") ∈ lw_all := lw_g (lw_at lw_m6 178 rfl) rfl
theorem q1464 : (Jvm.Cond.soleField "NotationDeskModel" "source") ∈ lw_all := lw_g (lw_at lw_m6 179 rfl) rfl
theorem q1465 : (Jvm.Cond.laysFinal "NotationDeskModel" "NotationDeskModel" "made" "[I") ∈ lw_all := lw_g (lw_at lw_m6 180 rfl) rfl
theorem q1466 : (Jvm.Cond.soleField "NotationDeskModel" "made") ∈ lw_all := lw_g (lw_at lw_m6 181 rfl) rfl
theorem q1467 : (Jvm.Cond.lays "NotationDeskModel" "NotationDeskModel" "many" "I") ∈ lw_all := lw_g (lw_at lw_m6 182 rfl) rfl
theorem q1468 : (Jvm.Cond.soleField "NotationDeskModel" "many") ∈ lw_all := lw_g (lw_at lw_m6 183 rfl) rfl
theorem q1469 : (Jvm.Cond.lays "NotationDeskModel" "NotationDeskModel" "held" "I") ∈ lw_all := lw_g (lw_at lw_m6 184 rfl) rfl
theorem q1470 : (Jvm.Cond.soleField "NotationDeskModel" "held") ∈ lw_all := lw_g (lw_at lw_m6 185 rfl) rfl
theorem q1471 : (Jvm.Cond.laysFinal "NotationDeskModel" "NotationDeskModel" "type" "[I") ∈ lw_all := lw_g (lw_at lw_m6 186 rfl) rfl
theorem q1472 : (Jvm.Cond.soleField "NotationDeskModel" "type") ∈ lw_all := lw_g (lw_at lw_m6 187 rfl) rfl
theorem q1473 : (Jvm.Cond.laysFinal "NotationDeskModel" "NotationDeskModel" "number" "[I") ∈ lw_all := lw_g (lw_at lw_m6 188 rfl) rfl
theorem q1474 : (Jvm.Cond.soleField "NotationDeskModel" "number") ∈ lw_all := lw_g (lw_at lw_m6 189 rfl) rfl
theorem q1475 : (Jvm.Cond.laysFinal "NotationDeskModel" "NotationDeskModel" "which" "[I") ∈ lw_all := lw_g (lw_at lw_m6 190 rfl) rfl
theorem q1476 : (Jvm.Cond.soleField "NotationDeskModel" "which") ∈ lw_all := lw_g (lw_at lw_m6 191 rfl) rfl
theorem q1477 : (Jvm.Cond.laysFinal "NotationDeskModel" "NotationDeskModel" "parent" "[I") ∈ lw_all := lw_g (lw_at lw_m6 192 rfl) rfl
theorem q1478 : (Jvm.Cond.soleField "NotationDeskModel" "parent") ∈ lw_all := lw_g (lw_at lw_m6 193 rfl) rfl
theorem q1479 : (Jvm.Cond.laysFinal "NotationDeskModel" "NotationDeskModel" "from" "[I") ∈ lw_all := lw_g (lw_at lw_m6 194 rfl) rfl
theorem q1480 : (Jvm.Cond.soleField "NotationDeskModel" "from") ∈ lw_all := lw_g (lw_at lw_m6 195 rfl) rfl
theorem q1481 : (Jvm.Cond.laysFinal "NotationDeskModel" "NotationDeskModel" "below" "[I") ∈ lw_all := lw_g (lw_at lw_m6 196 rfl) rfl
theorem q1482 : (Jvm.Cond.soleField "NotationDeskModel" "below") ∈ lw_all := lw_g (lw_at lw_m6 197 rfl) rfl
theorem q1483 : (Jvm.Cond.laysFinal "NotationDeskModel" "NotationDeskModel" "start" "[I") ∈ lw_all := lw_g (lw_at lw_m6 198 rfl) rfl
theorem q1484 : (Jvm.Cond.soleField "NotationDeskModel" "start") ∈ lw_all := lw_g (lw_at lw_m6 199 rfl) rfl
theorem q1485 : (Jvm.Cond.laysFinal "NotationDeskModel" "NotationDeskModel" "octets" "[I") ∈ lw_all := lw_g (lw_at lw_m6 200 rfl) rfl
theorem q1486 : (Jvm.Cond.soleField "NotationDeskModel" "octets") ∈ lw_all := lw_g (lw_at lw_m6 201 rfl) rfl
theorem q1487 : (Jvm.Cond.lays "NotationDeskModel" "NotationDeskModel" "parts" "I") ∈ lw_all := lw_g (lw_at lw_m6 202 rfl) rfl
theorem q1488 : (Jvm.Cond.soleField "NotationDeskModel" "parts") ∈ lw_all := lw_g (lw_at lw_m6 203 rfl) rfl
theorem q1489 : (Jvm.Cond.laysFinal "NotationDeskModel" "NotationDeskModel" "shown" "[I") ∈ lw_all := lw_g (lw_at lw_m6 204 rfl) rfl
theorem q1490 : (Jvm.Cond.soleField "NotationDeskModel" "shown") ∈ lw_all := lw_g (lw_at lw_m6 205 rfl) rfl
theorem q1491 : (Jvm.Cond.laysFinal "NotationDeskModel" "NotationDeskModel" "spelled" "[I") ∈ lw_all := lw_g (lw_at lw_m6 206 rfl) rfl
theorem q1492 : (Jvm.Cond.soleField "NotationDeskModel" "spelled") ∈ lw_all := lw_g (lw_at lw_m6 207 rfl) rfl
theorem q1493 : (Jvm.Cond.lays "NotationDeskModel" "NotationDeskModel" "at" "I") ∈ lw_all := lw_g (lw_at lw_m6 208 rfl) rfl
theorem q1494 : (Jvm.Cond.soleField "NotationDeskModel" "at") ∈ lw_all := lw_g (lw_at lw_m6 209 rfl) rfl
theorem q1495 : (Jvm.Cond.lays "NotationDeskModel" "NotationDeskModel" "frames" "I") ∈ lw_all := lw_g (lw_at lw_m6 210 rfl) rfl
theorem q1496 : (Jvm.Cond.soleField "NotationDeskModel" "frames") ∈ lw_all := lw_g (lw_at lw_m6 211 rfl) rfl
theorem q1497 : (Jvm.Cond.lays "NotationDeskModel" "NotationDeskModel" "good" "Z") ∈ lw_all := lw_g (lw_at lw_m6 212 rfl) rfl
theorem q1498 : (Jvm.Cond.soleField "NotationDeskModel" "good") ∈ lw_all := lw_g (lw_at lw_m6 213 rfl) rfl
theorem q1499 : (Jvm.Cond.laysFinal "NotationDeskModel" "NotationDeskModel" "framePart" "[I") ∈ lw_all := lw_g (lw_at lw_m6 214 rfl) rfl
theorem q1500 : (Jvm.Cond.soleField "NotationDeskModel" "framePart") ∈ lw_all := lw_g (lw_at lw_m6 215 rfl) rfl
theorem q1501 : (Jvm.Cond.laysFinal "NotationDeskModel" "NotationDeskModel" "frameEnd" "[I") ∈ lw_all := lw_g (lw_at lw_m6 216 rfl) rfl
theorem q1502 : (Jvm.Cond.soleField "NotationDeskModel" "frameEnd") ∈ lw_all := lw_g (lw_at lw_m6 217 rfl) rfl
theorem q1503 : (Jvm.Cond.laysFinal "NotationDeskModel" "NotationDeskModel" "frameNext" "[I") ∈ lw_all := lw_g (lw_at lw_m6 218 rfl) rfl
theorem q1504 : (Jvm.Cond.soleField "NotationDeskModel" "frameNext") ∈ lw_all := lw_g (lw_at lw_m6 219 rfl) rfl
theorem q1505 : (Jvm.Cond.laysFinal "NotationDeskModel" "NotationDeskModel" "frameBits" "[I") ∈ lw_all := lw_g (lw_at lw_m6 220 rfl) rfl
theorem q1506 : (Jvm.Cond.soleField "NotationDeskModel" "frameBits") ∈ lw_all := lw_g (lw_at lw_m6 221 rfl) rfl
theorem q1507 : (Jvm.Cond.laysFinal "NotationDeskModel" "NotationDeskModel" "loose" "[Z") ∈ lw_all := lw_g (lw_at lw_m6 222 rfl) rfl
theorem q1508 : (Jvm.Cond.soleField "NotationDeskModel" "loose") ∈ lw_all := lw_g (lw_at lw_m6 223 rfl) rfl
theorem q1509 : (Jvm.Cond.laysFinal "NotationDeskModel" "NotationDeskModel" "operationType" "[I") ∈ lw_all := lw_g (lw_at lw_m6 224 rfl) rfl
theorem q1510 : (Jvm.Cond.soleField "NotationDeskModel" "operationType") ∈ lw_all := lw_g (lw_at lw_m6 225 rfl) rfl
theorem q1511 : (Jvm.Cond.laysFinal "NotationDeskModel" "NotationDeskModel" "takes" "[I") ∈ lw_all := lw_g (lw_at lw_m6 226 rfl) rfl
theorem q1512 : (Jvm.Cond.soleField "NotationDeskModel" "takes") ∈ lw_all := lw_g (lw_at lw_m6 227 rfl) rfl
theorem q1513 : (Jvm.Cond.laysFinal "NotationDeskModel" "NotationDeskModel" "answers" "[I") ∈ lw_all := lw_g (lw_at lw_m6 228 rfl) rfl
theorem q1514 : (Jvm.Cond.soleField "NotationDeskModel" "answers") ∈ lw_all := lw_g (lw_at lw_m6 229 rfl) rfl
theorem q1515 : (Jvm.Cond.laysFinal "NotationDeskModel" "NotationDeskModel" "served" "[Z") ∈ lw_all := lw_g (lw_at lw_m6 230 rfl) rfl
theorem q1516 : (Jvm.Cond.soleField "NotationDeskModel" "served") ∈ lw_all := lw_g (lw_at lw_m6 231 rfl) rfl
theorem q1517 : (Jvm.Cond.superclass "NotationDeskModel" "java/lang/Object") ∈ lw_all := lw_g (lw_at lw_m6 232 rfl) rfl
theorem q1519 : (Jvm.Cond.instanceMethod ({ cls := "NotationDeskModel", name := "thrown", desc := "()I" } : Jvm.MethodName)) ∈ lw_all := lw_g (lw_at lw_m6 234 rfl) rfl
theorem q1520 : (Jvm.Cond.selects "NotationDeskModel" ({ cls := "NotationDeskModel", name := "thrown", desc := "()I" } : Jvm.MethodName) ({ cls := "NotationDeskModel", name := "thrown", desc := "()I" } : Jvm.MethodName)) ∈ lw_all := lw_g (lw_at lw_m6 235 rfl) rfl
theorem q1521 : (Jvm.Cond.code ({ cls := "NotationDeskModel", name := "thrown", desc := "()I" } : Jvm.MethodName) prog_18_method_2_code (1 : Nat) (Option.some Jvm.ClassFile.FieldType.int)) ∈ lw_all := lw_g (lw_at lw_m6 236 rfl) rfl
theorem q1523 : (Jvm.Cond.instanceMethod ({ cls := "NotationDeskModel", name := "type", desc := "(C)Z" } : Jvm.MethodName)) ∈ lw_all := lw_g (lw_at lw_m6 238 rfl) rfl
theorem q1524 : (Jvm.Cond.selects "NotationDeskModel" ({ cls := "NotationDeskModel", name := "type", desc := "(C)Z" } : Jvm.MethodName) ({ cls := "NotationDeskModel", name := "type", desc := "(C)Z" } : Jvm.MethodName)) ∈ lw_all := lw_g (lw_at lw_m6 239 rfl) rfl
theorem q1525 : (Jvm.Cond.code ({ cls := "NotationDeskModel", name := "type", desc := "(C)Z" } : Jvm.MethodName) prog_18_method_6_code (2 : Nat) (Option.some Jvm.ClassFile.FieldType.boolean)) ∈ lw_all := lw_g (lw_at lw_m7 0 rfl) rfl
theorem q1527 : (Jvm.Cond.instanceMethod ({ cls := "NotationDeskModel", name := "clear", desc := "()I" } : Jvm.MethodName)) ∈ lw_all := lw_g (lw_at lw_m7 2 rfl) rfl
theorem q1528 : (Jvm.Cond.selects "NotationDeskModel" ({ cls := "NotationDeskModel", name := "clear", desc := "()I" } : Jvm.MethodName) ({ cls := "NotationDeskModel", name := "clear", desc := "()I" } : Jvm.MethodName)) ∈ lw_all := lw_g (lw_at lw_m7 3 rfl) rfl
theorem q1529 : (Jvm.Cond.code ({ cls := "NotationDeskModel", name := "clear", desc := "()I" } : Jvm.MethodName) prog_18_method_7_code (2 : Nat) (Option.some Jvm.ClassFile.FieldType.int)) ∈ lw_all := lw_g (lw_at lw_m7 4 rfl) rfl
theorem q1531 : (Jvm.Cond.instanceMethod ({ cls := "NotationDeskModel", name := "compile", desc := "()I" } : Jvm.MethodName)) ∈ lw_all := lw_g (lw_at lw_m7 6 rfl) rfl
theorem q1532 : (Jvm.Cond.selects "NotationDeskModel" ({ cls := "NotationDeskModel", name := "compile", desc := "()I" } : Jvm.MethodName) ({ cls := "NotationDeskModel", name := "compile", desc := "()I" } : Jvm.MethodName)) ∈ lw_all := lw_g (lw_at lw_m7 7 rfl) rfl
theorem q1533 : (Jvm.Cond.code ({ cls := "NotationDeskModel", name := "compile", desc := "()I" } : Jvm.MethodName) prog_18_method_11_code (2 : Nat) (Option.some Jvm.ClassFile.FieldType.int)) ∈ lw_all := lw_g (lw_at lw_m7 8 rfl) rfl
theorem q1534 : (Jvm.Cond.methodLink "NotationDeskModel" (163 : Nat) ({ cls := "NotationDeskModel", name := "definition", desc := "()V" } : Jvm.MethodName)) ∈ lw_all := lw_g (lw_at lw_m7 9 rfl) rfl
theorem q1535 : (Jvm.Cond.privateMethod ({ cls := "NotationDeskModel", name := "definition", desc := "()V" } : Jvm.MethodName)) ∈ lw_tbl := lw_at lw_m7 10 rfl
theorem q1536 : (Jvm.Cond.instanceMethod ({ cls := "NotationDeskModel", name := "definition", desc := "()V" } : Jvm.MethodName)) ∈ lw_all := lw_g (lw_at lw_m7 11 rfl) rfl
theorem q1537 : (Jvm.Cond.code ({ cls := "NotationDeskModel", name := "definition", desc := "()V" } : Jvm.MethodName) prog_18_method_12_code (3 : Nat) (Option.none : Option Jvm.ClassFile.FieldType)) ∈ lw_all := lw_g (lw_at lw_m7 12 rfl) rfl
theorem q1538 : (Jvm.Cond.methodLink "NotationDeskModel" (152 : Nat) ({ cls := "NotationDeskModel", name := "look", desc := "()I" } : Jvm.MethodName)) ∈ lw_all := lw_g (lw_at lw_m7 13 rfl) rfl
theorem q1539 : (Jvm.Cond.privateMethod ({ cls := "NotationDeskModel", name := "look", desc := "()I" } : Jvm.MethodName)) ∈ lw_tbl := lw_at lw_m7 14 rfl
theorem q1540 : (Jvm.Cond.instanceMethod ({ cls := "NotationDeskModel", name := "look", desc := "()I" } : Jvm.MethodName)) ∈ lw_all := lw_g (lw_at lw_m7 15 rfl) rfl
theorem q1541 : (Jvm.Cond.code ({ cls := "NotationDeskModel", name := "look", desc := "()I" } : Jvm.MethodName) prog_18_method_8_code (1 : Nat) (Option.some Jvm.ClassFile.FieldType.int)) ∈ lw_all := lw_g (lw_at lw_m7 16 rfl) rfl
theorem q1542 : (Jvm.Cond.methodLink "NotationDeskModel" (166 : Nat) ({ cls := "NotationDeskModel", name := "in", desc := "(III)Z" } : Jvm.MethodName)) ∈ lw_all := lw_g (lw_at lw_m7 17 rfl) rfl
theorem q1543 : (Jvm.Cond.static ({ cls := "NotationDeskModel", name := "in", desc := "(III)Z" } : Jvm.MethodName)) ∈ lw_all := lw_g (lw_at lw_m7 18 rfl) rfl
theorem q1544 : (Jvm.Cond.code ({ cls := "NotationDeskModel", name := "in", desc := "(III)Z" } : Jvm.MethodName) prog_18_method_4_code (3 : Nat) (Option.some Jvm.ClassFile.FieldType.boolean)) ∈ lw_all := lw_g (lw_at lw_m7 19 rfl) rfl
theorem q1545 : (Jvm.Cond.methodLink "NotationDeskModel" (156 : Nat) ({ cls := "NotationDeskModel", name := "stop", desc := "(II)I" } : Jvm.MethodName)) ∈ lw_all := lw_g (lw_at lw_m7 20 rfl) rfl
theorem q1546 : (Jvm.Cond.privateMethod ({ cls := "NotationDeskModel", name := "stop", desc := "(II)I" } : Jvm.MethodName)) ∈ lw_tbl := lw_at lw_m7 21 rfl
theorem q1547 : (Jvm.Cond.instanceMethod ({ cls := "NotationDeskModel", name := "stop", desc := "(II)I" } : Jvm.MethodName)) ∈ lw_all := lw_g (lw_at lw_m7 22 rfl) rfl
theorem q1548 : (Jvm.Cond.code ({ cls := "NotationDeskModel", name := "stop", desc := "(II)I" } : Jvm.MethodName) prog_18_method_9_code (3 : Nat) (Option.some Jvm.ClassFile.FieldType.int)) ∈ lw_all := lw_g (lw_at lw_m7 23 rfl) rfl
theorem q1549 : (Jvm.Cond.methodLink "NotationDeskModel" (170 : Nat) ({ cls := "NotationDeskModel", name := "need", desc := "(I)Z" } : Jvm.MethodName)) ∈ lw_all := lw_g (lw_at lw_m7 24 rfl) rfl
theorem q1550 : (Jvm.Cond.privateMethod ({ cls := "NotationDeskModel", name := "need", desc := "(I)Z" } : Jvm.MethodName)) ∈ lw_tbl := lw_at lw_m7 25 rfl
theorem q1551 : (Jvm.Cond.instanceMethod ({ cls := "NotationDeskModel", name := "need", desc := "(I)Z" } : Jvm.MethodName)) ∈ lw_all := lw_g (lw_at lw_m7 26 rfl) rfl
theorem q1552 : (Jvm.Cond.code ({ cls := "NotationDeskModel", name := "need", desc := "(I)Z" } : Jvm.MethodName) prog_18_method_10_code (2 : Nat) (Option.some Jvm.ClassFile.FieldType.boolean)) ∈ lw_all := lw_g (lw_at lw_m7 27 rfl) rfl
theorem q1553 : (Jvm.Cond.methodLink "NotationDeskModel" (174 : Nat) ({ cls := "NotationDeskModel", name := "whole", desc := "()I" } : Jvm.MethodName)) ∈ lw_all := lw_g (lw_at lw_m7 28 rfl) rfl
theorem q1554 : (Jvm.Cond.privateMethod ({ cls := "NotationDeskModel", name := "whole", desc := "()I" } : Jvm.MethodName)) ∈ lw_tbl := lw_at lw_m7 29 rfl
theorem q1555 : (Jvm.Cond.instanceMethod ({ cls := "NotationDeskModel", name := "whole", desc := "()I" } : Jvm.MethodName)) ∈ lw_all := lw_g (lw_at lw_m7 30 rfl) rfl
theorem q1556 : (Jvm.Cond.code ({ cls := "NotationDeskModel", name := "whole", desc := "()I" } : Jvm.MethodName) prog_18_method_13_code (2 : Nat) (Option.some Jvm.ClassFile.FieldType.int)) ∈ lw_all := lw_g (lw_at lw_m7 31 rfl) rfl
theorem q1557 : (Jvm.Cond.methodLink "NotationDeskModel" (180 : Nat) ({ cls := "NotationDeskModel", name := "begin", desc := "()I" } : Jvm.MethodName)) ∈ lw_all := lw_g (lw_at lw_m7 32 rfl) rfl
theorem q1558 : (Jvm.Cond.privateMethod ({ cls := "NotationDeskModel", name := "begin", desc := "()I" } : Jvm.MethodName)) ∈ lw_tbl := lw_at lw_m7 33 rfl
theorem q1559 : (Jvm.Cond.instanceMethod ({ cls := "NotationDeskModel", name := "begin", desc := "()I" } : Jvm.MethodName)) ∈ lw_all := lw_g (lw_at lw_m7 34 rfl) rfl
theorem q1560 : (Jvm.Cond.code ({ cls := "NotationDeskModel", name := "begin", desc := "()I" } : Jvm.MethodName) prog_18_method_16_code (4 : Nat) (Option.some Jvm.ClassFile.FieldType.int)) ∈ lw_all := lw_g (lw_at lw_m7 35 rfl) rfl
theorem q1561 : (Jvm.Cond.methodLink "NotationDeskModel" (187 : Nat) ({ cls := "NotationDeskModel", name := "tagged", desc := "()I" } : Jvm.MethodName)) ∈ lw_all := lw_g (lw_at lw_m7 36 rfl) rfl
theorem q1562 : (Jvm.Cond.privateMethod ({ cls := "NotationDeskModel", name := "tagged", desc := "()I" } : Jvm.MethodName)) ∈ lw_tbl := lw_at lw_m7 37 rfl
theorem q1563 : (Jvm.Cond.instanceMethod ({ cls := "NotationDeskModel", name := "tagged", desc := "()I" } : Jvm.MethodName)) ∈ lw_all := lw_g (lw_at lw_m7 38 rfl) rfl
theorem q1564 : (Jvm.Cond.code ({ cls := "NotationDeskModel", name := "tagged", desc := "()I" } : Jvm.MethodName) prog_18_method_17_code (2 : Nat) (Option.some Jvm.ClassFile.FieldType.int)) ∈ lw_all := lw_g (lw_at lw_m7 39 rfl) rfl
theorem q1565 : (Jvm.Cond.methodLink "NotationDeskModel" (193 : Nat) ({ cls := "NotationDeskModel", name := "add", desc := "(I)I" } : Jvm.MethodName)) ∈ lw_all := lw_g (lw_at lw_m7 40 rfl) rfl
theorem q1566 : (Jvm.Cond.privateMethod ({ cls := "NotationDeskModel", name := "add", desc := "(I)I" } : Jvm.MethodName)) ∈ lw_tbl := lw_at lw_m7 41 rfl
theorem q1567 : (Jvm.Cond.instanceMethod ({ cls := "NotationDeskModel", name := "add", desc := "(I)I" } : Jvm.MethodName)) ∈ lw_all := lw_g (lw_at lw_m7 42 rfl) rfl
theorem q1568 : (Jvm.Cond.code ({ cls := "NotationDeskModel", name := "add", desc := "(I)I" } : Jvm.MethodName) prog_18_method_14_code (4 : Nat) (Option.some Jvm.ClassFile.FieldType.int)) ∈ lw_all := lw_g (lw_at lw_m7 43 rfl) rfl
theorem q1569 : (Jvm.Cond.methodLink "NotationDeskModel" (196 : Nat) ({ cls := "NotationDeskModel", name := "push", desc := "(I)I" } : Jvm.MethodName)) ∈ lw_all := lw_g (lw_at lw_m7 44 rfl) rfl
theorem q1570 : (Jvm.Cond.privateMethod ({ cls := "NotationDeskModel", name := "push", desc := "(I)I" } : Jvm.MethodName)) ∈ lw_tbl := lw_at lw_m7 45 rfl
theorem q1571 : (Jvm.Cond.instanceMethod ({ cls := "NotationDeskModel", name := "push", desc := "(I)I" } : Jvm.MethodName)) ∈ lw_all := lw_g (lw_at lw_m7 46 rfl) rfl
theorem q1572 : (Jvm.Cond.code ({ cls := "NotationDeskModel", name := "push", desc := "(I)I" } : Jvm.MethodName) prog_18_method_15_code (2 : Nat) (Option.some Jvm.ClassFile.FieldType.int)) ∈ lw_all := lw_g (lw_at lw_m7 47 rfl) rfl
theorem q1573 : (Jvm.Cond.methodLink "NotationDeskModel" (190 : Nat) ({ cls := "NotationDeskModel", name := "named", desc := "(I)I" } : Jvm.MethodName)) ∈ lw_all := lw_g (lw_at lw_m7 48 rfl) rfl
theorem q1574 : (Jvm.Cond.privateMethod ({ cls := "NotationDeskModel", name := "named", desc := "(I)I" } : Jvm.MethodName)) ∈ lw_tbl := lw_at lw_m7 49 rfl
theorem q1575 : (Jvm.Cond.instanceMethod ({ cls := "NotationDeskModel", name := "named", desc := "(I)I" } : Jvm.MethodName)) ∈ lw_all := lw_g (lw_at lw_m7 50 rfl) rfl
theorem q1576 : (Jvm.Cond.code ({ cls := "NotationDeskModel", name := "named", desc := "(I)I" } : Jvm.MethodName) prog_18_method_18_code (2 : Nat) (Option.some Jvm.ClassFile.FieldType.int)) ∈ lw_all := lw_g (lw_at lw_m7 51 rfl) rfl
theorem q1577 : (Jvm.Cond.methodLink "NotationDeskModel" (199 : Nat) ({ cls := "NotationDeskModel", name := "ranged", desc := "(IZ)V" } : Jvm.MethodName)) ∈ lw_all := lw_g (lw_at lw_m7 52 rfl) rfl
theorem q1578 : (Jvm.Cond.privateMethod ({ cls := "NotationDeskModel", name := "ranged", desc := "(IZ)V" } : Jvm.MethodName)) ∈ lw_tbl := lw_at lw_m7 53 rfl
theorem q1579 : (Jvm.Cond.instanceMethod ({ cls := "NotationDeskModel", name := "ranged", desc := "(IZ)V" } : Jvm.MethodName)) ∈ lw_all := lw_g (lw_at lw_m7 54 rfl) rfl
theorem q1580 : (Jvm.Cond.code ({ cls := "NotationDeskModel", name := "ranged", desc := "(IZ)V" } : Jvm.MethodName) prog_18_method_20_code (4 : Nat) (Option.none : Option Jvm.ClassFile.FieldType)) ∈ lw_all := lw_g (lw_at lw_m7 55 rfl) rfl
theorem q1581 : (Jvm.Cond.methodLink "NotationDeskModel" (206 : Nat) ({ cls := "NotationDeskModel", name := "numeral", desc := "()Z" } : Jvm.MethodName)) ∈ lw_all := lw_g (lw_at lw_m7 56 rfl) rfl
theorem q1582 : (Jvm.Cond.privateMethod ({ cls := "NotationDeskModel", name := "numeral", desc := "()Z" } : Jvm.MethodName)) ∈ lw_tbl := lw_at lw_m7 57 rfl
theorem q1583 : (Jvm.Cond.instanceMethod ({ cls := "NotationDeskModel", name := "numeral", desc := "()Z" } : Jvm.MethodName)) ∈ lw_all := lw_g (lw_at lw_m7 58 rfl) rfl
theorem q1584 : (Jvm.Cond.code ({ cls := "NotationDeskModel", name := "numeral", desc := "()Z" } : Jvm.MethodName) prog_18_method_19_code (4 : Nat) (Option.some Jvm.ClassFile.FieldType.boolean)) ∈ lw_all := lw_g (lw_at lw_m7 59 rfl) rfl
theorem q1585 : (Jvm.Cond.constant "NotationDeskModel" (210 : Nat) (65536 : Int32)) ∈ lw_all := lw_g (lw_at lw_m7 60 rfl) rfl
theorem q1586 : (Jvm.Cond.methodLink "NotationDeskModel" (183 : Nat) ({ cls := "NotationDeskModel", name := "end", desc := "(I)I" } : Jvm.MethodName)) ∈ lw_all := lw_g (lw_at lw_m7 61 rfl) rfl
theorem q1587 : (Jvm.Cond.privateMethod ({ cls := "NotationDeskModel", name := "end", desc := "(I)I" } : Jvm.MethodName)) ∈ lw_tbl := lw_at lw_m7 62 rfl
theorem q1588 : (Jvm.Cond.instanceMethod ({ cls := "NotationDeskModel", name := "end", desc := "(I)I" } : Jvm.MethodName)) ∈ lw_all := lw_g (lw_at lw_m7 63 rfl) rfl
theorem q1589 : (Jvm.Cond.code ({ cls := "NotationDeskModel", name := "end", desc := "(I)I" } : Jvm.MethodName) prog_18_method_21_code (4 : Nat) (Option.some Jvm.ClassFile.FieldType.int)) ∈ lw_all := lw_g (lw_at lw_m7 64 rfl) rfl
theorem q1590 : (Jvm.Cond.methodLink "NotationDeskModel" (211 : Nat) ({ cls := "NotationDeskModel", name := "component", desc := "(II)V" } : Jvm.MethodName)) ∈ lw_all := lw_g (lw_at lw_m7 65 rfl) rfl
theorem q1591 : (Jvm.Cond.privateMethod ({ cls := "NotationDeskModel", name := "component", desc := "(II)V" } : Jvm.MethodName)) ∈ lw_tbl := lw_at lw_m7 66 rfl
theorem q1592 : (Jvm.Cond.instanceMethod ({ cls := "NotationDeskModel", name := "component", desc := "(II)V" } : Jvm.MethodName)) ∈ lw_all := lw_g (lw_at lw_m7 67 rfl) rfl
theorem q1593 : (Jvm.Cond.code ({ cls := "NotationDeskModel", name := "component", desc := "(II)V" } : Jvm.MethodName) prog_18_method_22_code (4 : Nat) (Option.none : Option Jvm.ClassFile.FieldType)) ∈ lw_all := lw_g (lw_at lw_m7 68 rfl) rfl
theorem q1594 : (Jvm.Cond.methodLink "NotationDeskModel" (218 : Nat) ({ cls := "NotationDeskModel", name := "unwrap", desc := "(I)V" } : Jvm.MethodName)) ∈ lw_all := lw_g (lw_at lw_m7 69 rfl) rfl
theorem q1595 : (Jvm.Cond.privateMethod ({ cls := "NotationDeskModel", name := "unwrap", desc := "(I)V" } : Jvm.MethodName)) ∈ lw_tbl := lw_at lw_m7 70 rfl
theorem q1596 : (Jvm.Cond.instanceMethod ({ cls := "NotationDeskModel", name := "unwrap", desc := "(I)V" } : Jvm.MethodName)) ∈ lw_all := lw_g (lw_at lw_m7 71 rfl) rfl
theorem q1597 : (Jvm.Cond.code ({ cls := "NotationDeskModel", name := "unwrap", desc := "(I)V" } : Jvm.MethodName) prog_18_method_24_code (6 : Nat) (Option.none : Option Jvm.ClassFile.FieldType)) ∈ lw_all := lw_g (lw_at lw_m7 72 rfl) rfl
theorem q1598 : (Jvm.Cond.methodLink "NotationDeskModel" (215 : Nat) ({ cls := "NotationDeskModel", name := "clashes", desc := "(I)Z" } : Jvm.MethodName)) ∈ lw_all := lw_g (lw_at lw_m7 73 rfl) rfl
theorem q1599 : (Jvm.Cond.privateMethod ({ cls := "NotationDeskModel", name := "clashes", desc := "(I)Z" } : Jvm.MethodName)) ∈ lw_tbl := lw_at lw_m7 74 rfl
theorem q1600 : (Jvm.Cond.instanceMethod ({ cls := "NotationDeskModel", name := "clashes", desc := "(I)Z" } : Jvm.MethodName)) ∈ lw_all := lw_g (lw_at lw_m7 75 rfl) rfl
theorem q1601 : (Jvm.Cond.code ({ cls := "NotationDeskModel", name := "clashes", desc := "(I)Z" } : Jvm.MethodName) prog_18_method_23_code (5 : Nat) (Option.some Jvm.ClassFile.FieldType.boolean)) ∈ lw_all := lw_g (lw_at lw_m7 76 rfl) rfl
theorem q1603 : (Jvm.Cond.instanceMethod ({ cls := "NotationDeskModel", name := "put", desc := "(JI)Z" } : Jvm.MethodName)) ∈ lw_all := lw_g (lw_at lw_m7 78 rfl) rfl
theorem q1604 : (Jvm.Cond.selects "NotationDeskModel" ({ cls := "NotationDeskModel", name := "put", desc := "(JI)Z" } : Jvm.MethodName) ({ cls := "NotationDeskModel", name := "put", desc := "(JI)Z" } : Jvm.MethodName)) ∈ lw_all := lw_g (lw_at lw_m7 79 rfl) rfl
theorem q1605 : (Jvm.Cond.code ({ cls := "NotationDeskModel", name := "put", desc := "(JI)Z" } : Jvm.MethodName) prog_18_method_25_code (5 : Nat) (Option.some Jvm.ClassFile.FieldType.boolean)) ∈ lw_all := lw_g (lw_at lw_m7 80 rfl) rfl
theorem q1606 : (Jvm.Cond.constantLong "NotationDeskModel" (231 : Nat) (255 : Int64)) ∈ lw_all := lw_g (lw_at lw_m7 81 rfl) rfl
theorem q1608 : (Jvm.Cond.instanceMethod ({ cls := "NotationDeskModel", name := "wipe", desc := "()I" } : Jvm.MethodName)) ∈ lw_all := lw_g (lw_at lw_m7 83 rfl) rfl
theorem q1609 : (Jvm.Cond.selects "NotationDeskModel" ({ cls := "NotationDeskModel", name := "wipe", desc := "()I" } : Jvm.MethodName) ({ cls := "NotationDeskModel", name := "wipe", desc := "()I" } : Jvm.MethodName)) ∈ lw_all := lw_g (lw_at lw_m7 84 rfl) rfl
theorem q1610 : (Jvm.Cond.code ({ cls := "NotationDeskModel", name := "wipe", desc := "()I" } : Jvm.MethodName) prog_18_method_26_code (2 : Nat) (Option.some Jvm.ClassFile.FieldType.int)) ∈ lw_all := lw_g (lw_at lw_m7 85 rfl) rfl
theorem q1612 : (Jvm.Cond.instanceMethod ({ cls := "NotationDeskModel", name := "at", desc := "(I)I" } : Jvm.MethodName)) ∈ lw_all := lw_g (lw_at lw_m7 87 rfl) rfl
theorem q1613 : (Jvm.Cond.selects "NotationDeskModel" ({ cls := "NotationDeskModel", name := "at", desc := "(I)I" } : Jvm.MethodName) ({ cls := "NotationDeskModel", name := "at", desc := "(I)I" } : Jvm.MethodName)) ∈ lw_all := lw_g (lw_at lw_m7 88 rfl) rfl
theorem q1614 : (Jvm.Cond.code ({ cls := "NotationDeskModel", name := "at", desc := "(I)I" } : Jvm.MethodName) prog_18_method_27_code (2 : Nat) (Option.some Jvm.ClassFile.FieldType.int)) ∈ lw_all := lw_g (lw_at lw_m7 89 rfl) rfl
theorem q1616 : (Jvm.Cond.instanceMethod ({ cls := "NotationDeskModel", name := "transcode", desc := "(CII)I" } : Jvm.MethodName)) ∈ lw_all := lw_g (lw_at lw_m7 91 rfl) rfl
theorem q1617 : (Jvm.Cond.selects "NotationDeskModel" ({ cls := "NotationDeskModel", name := "transcode", desc := "(CII)I" } : Jvm.MethodName) ({ cls := "NotationDeskModel", name := "transcode", desc := "(CII)I" } : Jvm.MethodName)) ∈ lw_all := lw_g (lw_at lw_m7 92 rfl) rfl
theorem q1618 : (Jvm.Cond.code ({ cls := "NotationDeskModel", name := "transcode", desc := "(CII)I" } : Jvm.MethodName) prog_18_method_68_code (5 : Nat) (Option.some Jvm.ClassFile.FieldType.int)) ∈ lw_all := lw_g (lw_at lw_m7 93 rfl) rfl
theorem q1619 : (Jvm.Cond.methodLink "NotationDeskModel" (372 : Nat) ({ cls := "NotationDeskModel", name := "asked", desc := "(ZC)I" } : Jvm.MethodName)) ∈ lw_all := lw_g (lw_at lw_m7 94 rfl) rfl
theorem q1620 : (Jvm.Cond.privateMethod ({ cls := "NotationDeskModel", name := "asked", desc := "(ZC)I" } : Jvm.MethodName)) ∈ lw_tbl := lw_at lw_m7 95 rfl
theorem q1621 : (Jvm.Cond.instanceMethod ({ cls := "NotationDeskModel", name := "asked", desc := "(ZC)I" } : Jvm.MethodName)) ∈ lw_all := lw_g (lw_at lw_m7 96 rfl) rfl
theorem q1622 : (Jvm.Cond.code ({ cls := "NotationDeskModel", name := "asked", desc := "(ZC)I" } : Jvm.MethodName) prog_18_method_66_code (3 : Nat) (Option.some Jvm.ClassFile.FieldType.int)) ∈ lw_all := lw_g (lw_at lw_m7 97 rfl) rfl
theorem q1623 : (Jvm.Cond.methodLink "NotationDeskModel" (368 : Nat) ({ cls := "NotationDeskModel", name := "typeOf", desc := "(C)I" } : Jvm.MethodName)) ∈ lw_all := lw_g (lw_at lw_m7 98 rfl) rfl
theorem q1624 : (Jvm.Cond.privateMethod ({ cls := "NotationDeskModel", name := "typeOf", desc := "(C)I" } : Jvm.MethodName)) ∈ lw_tbl := lw_at lw_m7 99 rfl
theorem q1625 : (Jvm.Cond.instanceMethod ({ cls := "NotationDeskModel", name := "typeOf", desc := "(C)I" } : Jvm.MethodName)) ∈ lw_all := lw_g (lw_at lw_m7 100 rfl) rfl
theorem q1626 : (Jvm.Cond.code ({ cls := "NotationDeskModel", name := "typeOf", desc := "(C)I" } : Jvm.MethodName) prog_18_method_65_code (2 : Nat) (Option.some Jvm.ClassFile.FieldType.int)) ∈ lw_all := lw_g (lw_at lw_m7 101 rfl) rfl
theorem q1627 : (Jvm.Cond.methodLink "NotationDeskModel" (376 : Nat) ({ cls := "NotationDeskModel", name := "load", desc := "(I)V" } : Jvm.MethodName)) ∈ lw_all := lw_g (lw_at lw_m7 102 rfl) rfl
theorem q1628 : (Jvm.Cond.privateMethod ({ cls := "NotationDeskModel", name := "load", desc := "(I)V" } : Jvm.MethodName)) ∈ lw_tbl := lw_at lw_m7 103 rfl
theorem q1629 : (Jvm.Cond.instanceMethod ({ cls := "NotationDeskModel", name := "load", desc := "(I)V" } : Jvm.MethodName)) ∈ lw_all := lw_g (lw_at lw_m7 104 rfl) rfl
theorem q1630 : (Jvm.Cond.code ({ cls := "NotationDeskModel", name := "load", desc := "(I)V" } : Jvm.MethodName) prog_18_method_67_code (3 : Nat) (Option.none : Option Jvm.ClassFile.FieldType)) ∈ lw_all := lw_g (lw_at lw_m7 105 rfl) rfl
theorem q1631 : (Jvm.Cond.methodLink "NotationDeskModel" (379 : Nat) ({ cls := "NotationDeskModel", name := "isValue", desc := "(II)Z" } : Jvm.MethodName)) ∈ lw_all := lw_g (lw_at lw_m7 106 rfl) rfl
theorem q1632 : (Jvm.Cond.privateMethod ({ cls := "NotationDeskModel", name := "isValue", desc := "(II)Z" } : Jvm.MethodName)) ∈ lw_tbl := lw_at lw_m7 107 rfl
theorem q1633 : (Jvm.Cond.instanceMethod ({ cls := "NotationDeskModel", name := "isValue", desc := "(II)Z" } : Jvm.MethodName)) ∈ lw_all := lw_g (lw_at lw_m7 108 rfl) rfl
theorem q1634 : (Jvm.Cond.code ({ cls := "NotationDeskModel", name := "isValue", desc := "(II)Z" } : Jvm.MethodName) prog_18_method_30_code (4 : Nat) (Option.some Jvm.ClassFile.FieldType.boolean)) ∈ lw_all := lw_g (lw_at lw_m7 109 rfl) rfl
theorem q1635 : (Jvm.Cond.methodLink "NotationDeskModel" (248 : Nat) ({ cls := "NotationDeskModel", name := "element", desc := "(III)V" } : Jvm.MethodName)) ∈ lw_all := lw_g (lw_at lw_m7 110 rfl) rfl
theorem q1636 : (Jvm.Cond.privateMethod ({ cls := "NotationDeskModel", name := "element", desc := "(III)V" } : Jvm.MethodName)) ∈ lw_tbl := lw_at lw_m7 111 rfl
theorem q1637 : (Jvm.Cond.instanceMethod ({ cls := "NotationDeskModel", name := "element", desc := "(III)V" } : Jvm.MethodName)) ∈ lw_all := lw_g (lw_at lw_m7 112 rfl) rfl
theorem q1638 : (Jvm.Cond.code ({ cls := "NotationDeskModel", name := "element", desc := "(III)V" } : Jvm.MethodName) prog_18_method_36_code (11 : Nat) (Option.none : Option Jvm.ClassFile.FieldType)) ∈ lw_all := lw_g (lw_at lw_m7 113 rfl) rfl
theorem q1639 : (Jvm.Cond.methodLink "NotationDeskModel" (276 : Nat) ({ cls := "NotationDeskModel", name := "next", desc := "()I" } : Jvm.MethodName)) ∈ lw_all := lw_g (lw_at lw_m7 114 rfl) rfl
theorem q1640 : (Jvm.Cond.privateMethod ({ cls := "NotationDeskModel", name := "next", desc := "()I" } : Jvm.MethodName)) ∈ lw_tbl := lw_at lw_m7 115 rfl
theorem q1641 : (Jvm.Cond.instanceMethod ({ cls := "NotationDeskModel", name := "next", desc := "()I" } : Jvm.MethodName)) ∈ lw_all := lw_g (lw_at lw_m7 116 rfl) rfl
theorem q1642 : (Jvm.Cond.code ({ cls := "NotationDeskModel", name := "next", desc := "()I" } : Jvm.MethodName) prog_18_method_32_code (1 : Nat) (Option.some Jvm.ClassFile.FieldType.int)) ∈ lw_all := lw_g (lw_at lw_m7 117 rfl) rfl
theorem q1643 : (Jvm.Cond.methodLink "NotationDeskModel" (273 : Nat) ({ cls := "NotationDeskModel", name := "bound", desc := "()I" } : Jvm.MethodName)) ∈ lw_all := lw_g (lw_at lw_m7 118 rfl) rfl
theorem q1644 : (Jvm.Cond.privateMethod ({ cls := "NotationDeskModel", name := "bound", desc := "()I" } : Jvm.MethodName)) ∈ lw_tbl := lw_at lw_m7 119 rfl
theorem q1645 : (Jvm.Cond.instanceMethod ({ cls := "NotationDeskModel", name := "bound", desc := "()I" } : Jvm.MethodName)) ∈ lw_all := lw_g (lw_at lw_m7 120 rfl) rfl
theorem q1646 : (Jvm.Cond.code ({ cls := "NotationDeskModel", name := "bound", desc := "()I" } : Jvm.MethodName) prog_18_method_31_code (1 : Nat) (Option.some Jvm.ClassFile.FieldType.int)) ∈ lw_all := lw_g (lw_at lw_m7 121 rfl) rfl
theorem q1647 : (Jvm.Cond.methodLink "NotationDeskModel" (287 : Nat) ({ cls := "NotationDeskModel", name := "enter", desc := "(I)V" } : Jvm.MethodName)) ∈ lw_all := lw_g (lw_at lw_m7 122 rfl) rfl
theorem q1648 : (Jvm.Cond.privateMethod ({ cls := "NotationDeskModel", name := "enter", desc := "(I)V" } : Jvm.MethodName)) ∈ lw_tbl := lw_at lw_m7 123 rfl
theorem q1649 : (Jvm.Cond.instanceMethod ({ cls := "NotationDeskModel", name := "enter", desc := "(I)V" } : Jvm.MethodName)) ∈ lw_all := lw_g (lw_at lw_m7 124 rfl) rfl
theorem q1650 : (Jvm.Cond.code ({ cls := "NotationDeskModel", name := "enter", desc := "(I)V" } : Jvm.MethodName) prog_18_method_35_code (3 : Nat) (Option.none : Option Jvm.ClassFile.FieldType)) ∈ lw_all := lw_g (lw_at lw_m7 125 rfl) rfl
theorem q1651 : (Jvm.Cond.methodLink "NotationDeskModel" (279 : Nat) ({ cls := "NotationDeskModel", name := "length", desc := "(Z)I" } : Jvm.MethodName)) ∈ lw_all := lw_g (lw_at lw_m7 126 rfl) rfl
theorem q1652 : (Jvm.Cond.privateMethod ({ cls := "NotationDeskModel", name := "length", desc := "(Z)I" } : Jvm.MethodName)) ∈ lw_tbl := lw_at lw_m7 127 rfl
theorem q1653 : (Jvm.Cond.instanceMethod ({ cls := "NotationDeskModel", name := "length", desc := "(Z)I" } : Jvm.MethodName)) ∈ lw_all := lw_g (lw_at lw_m7 128 rfl) rfl
theorem q1654 : (Jvm.Cond.code ({ cls := "NotationDeskModel", name := "length", desc := "(Z)I" } : Jvm.MethodName) prog_18_method_33_code (3 : Nat) (Option.some Jvm.ClassFile.FieldType.int)) ∈ lw_all := lw_g (lw_at lw_m7 129 rfl) rfl
theorem q1655 : (Jvm.Cond.methodLink "NotationDeskModel" (283 : Nat) ({ cls := "NotationDeskModel", name := "frame", desc := "(IIZ)V" } : Jvm.MethodName)) ∈ lw_all := lw_g (lw_at lw_m7 130 rfl) rfl
theorem q1656 : (Jvm.Cond.privateMethod ({ cls := "NotationDeskModel", name := "frame", desc := "(IIZ)V" } : Jvm.MethodName)) ∈ lw_tbl := lw_at lw_m7 131 rfl
theorem q1657 : (Jvm.Cond.instanceMethod ({ cls := "NotationDeskModel", name := "frame", desc := "(IIZ)V" } : Jvm.MethodName)) ∈ lw_all := lw_g (lw_at lw_m7 132 rfl) rfl
theorem q1658 : (Jvm.Cond.code ({ cls := "NotationDeskModel", name := "frame", desc := "(IIZ)V" } : Jvm.MethodName) prog_18_method_29_code (4 : Nat) (Option.none : Option Jvm.ClassFile.FieldType)) ∈ lw_all := lw_g (lw_at lw_m7 133 rfl) rfl
theorem q1659 : (Jvm.Cond.methodLink "NotationDeskModel" (290 : Nat) ({ cls := "NotationDeskModel", name := "bitOf", desc := "(I)I" } : Jvm.MethodName)) ∈ lw_all := lw_g (lw_at lw_m7 134 rfl) rfl
theorem q1660 : (Jvm.Cond.static ({ cls := "NotationDeskModel", name := "bitOf", desc := "(I)I" } : Jvm.MethodName)) ∈ lw_all := lw_g (lw_at lw_m7 135 rfl) rfl
theorem q1661 : (Jvm.Cond.code ({ cls := "NotationDeskModel", name := "bitOf", desc := "(I)I" } : Jvm.MethodName) prog_18_method_34_code (1 : Nat) (Option.some Jvm.ClassFile.FieldType.int)) ∈ lw_all := lw_g (lw_at lw_m7 136 rfl) rfl
theorem q1662 : (Jvm.Cond.methodLink "NotationDeskModel" (293 : Nat) ({ cls := "NotationDeskModel", name := "adds", desc := "(IIII)I" } : Jvm.MethodName)) ∈ lw_all := lw_g (lw_at lw_m7 137 rfl) rfl
theorem q1663 : (Jvm.Cond.privateMethod ({ cls := "NotationDeskModel", name := "adds", desc := "(IIII)I" } : Jvm.MethodName)) ∈ lw_tbl := lw_at lw_m7 138 rfl
theorem q1664 : (Jvm.Cond.instanceMethod ({ cls := "NotationDeskModel", name := "adds", desc := "(IIII)I" } : Jvm.MethodName)) ∈ lw_all := lw_g (lw_at lw_m7 139 rfl) rfl
theorem q1665 : (Jvm.Cond.code ({ cls := "NotationDeskModel", name := "adds", desc := "(IIII)I" } : Jvm.MethodName) prog_18_method_28_code (5 : Nat) (Option.some Jvm.ClassFile.FieldType.int)) ∈ lw_all := lw_g (lw_at lw_m7 140 rfl) rfl
theorem q1666 : (Jvm.Cond.methodLink "NotationDeskModel" (297 : Nat) ({ cls := "NotationDeskModel", name := "inner", desc := "(III)V" } : Jvm.MethodName)) ∈ lw_all := lw_g (lw_at lw_m7 141 rfl) rfl
theorem q1667 : (Jvm.Cond.privateMethod ({ cls := "NotationDeskModel", name := "inner", desc := "(III)V" } : Jvm.MethodName)) ∈ lw_tbl := lw_at lw_m7 142 rfl
theorem q1668 : (Jvm.Cond.instanceMethod ({ cls := "NotationDeskModel", name := "inner", desc := "(III)V" } : Jvm.MethodName)) ∈ lw_all := lw_g (lw_at lw_m7 143 rfl) rfl
theorem q1669 : (Jvm.Cond.code ({ cls := "NotationDeskModel", name := "inner", desc := "(III)V" } : Jvm.MethodName) prog_18_method_37_code (10 : Nat) (Option.none : Option Jvm.ClassFile.FieldType)) ∈ lw_all := lw_g (lw_at lw_m7 144 rfl) rfl
theorem q1670 : (Jvm.Cond.methodLink "NotationDeskModel" (300 : Nat) ({ cls := "NotationDeskModel", name := "bytesOf", desc := "(I)I" } : Jvm.MethodName)) ∈ lw_all := lw_g (lw_at lw_m7 145 rfl) rfl
theorem q1671 : (Jvm.Cond.static ({ cls := "NotationDeskModel", name := "bytesOf", desc := "(I)I" } : Jvm.MethodName)) ∈ lw_all := lw_g (lw_at lw_m7 146 rfl) rfl
theorem q1672 : (Jvm.Cond.code ({ cls := "NotationDeskModel", name := "bytesOf", desc := "(I)I" } : Jvm.MethodName) prog_18_method_38_code (1 : Nat) (Option.some Jvm.ClassFile.FieldType.int)) ∈ lw_all := lw_g (lw_at lw_m7 147 rfl) rfl
theorem q1673 : (Jvm.Cond.constant "NotationDeskModel" (303 : Nat) (-8388608 : Int32)) ∈ lw_all := lw_g (lw_at lw_m7 148 rfl) rfl
theorem q1674 : (Jvm.Cond.constant "NotationDeskModel" (304 : Nat) (8388607 : Int32)) ∈ lw_all := lw_g (lw_at lw_m7 149 rfl) rfl
theorem q1675 : (Jvm.Cond.methodLink "NotationDeskModel" (252 : Nat) ({ cls := "NotationDeskModel", name := "want", desc := "(III)V" } : Jvm.MethodName)) ∈ lw_all := lw_g (lw_at lw_m7 150 rfl) rfl
theorem q1676 : (Jvm.Cond.privateMethod ({ cls := "NotationDeskModel", name := "want", desc := "(III)V" } : Jvm.MethodName)) ∈ lw_tbl := lw_at lw_m7 151 rfl
theorem q1677 : (Jvm.Cond.instanceMethod ({ cls := "NotationDeskModel", name := "want", desc := "(III)V" } : Jvm.MethodName)) ∈ lw_all := lw_g (lw_at lw_m7 152 rfl) rfl
theorem q1678 : (Jvm.Cond.code ({ cls := "NotationDeskModel", name := "want", desc := "(III)V" } : Jvm.MethodName) prog_18_method_50_code (10 : Nat) (Option.none : Option Jvm.ClassFile.FieldType)) ∈ lw_all := lw_g (lw_at lw_m7 153 rfl) rfl
theorem q1679 : (Jvm.Cond.methodLink "NotationDeskModel" (329 : Nat) ({ cls := "NotationDeskModel", name := "ranging", desc := "(II)I" } : Jvm.MethodName)) ∈ lw_all := lw_g (lw_at lw_m7 154 rfl) rfl
theorem q1680 : (Jvm.Cond.privateMethod ({ cls := "NotationDeskModel", name := "ranging", desc := "(II)I" } : Jvm.MethodName)) ∈ lw_tbl := lw_at lw_m7 155 rfl
theorem q1681 : (Jvm.Cond.instanceMethod ({ cls := "NotationDeskModel", name := "ranging", desc := "(II)I" } : Jvm.MethodName)) ∈ lw_all := lw_g (lw_at lw_m7 156 rfl) rfl
theorem q1682 : (Jvm.Cond.code ({ cls := "NotationDeskModel", name := "ranging", desc := "(II)I" } : Jvm.MethodName) prog_18_method_47_code (5 : Nat) (Option.some Jvm.ClassFile.FieldType.int)) ∈ lw_all := lw_g (lw_at lw_m7 157 rfl) rfl
theorem q1683 : (Jvm.Cond.methodLink "NotationDeskModel" (320 : Nat) ({ cls := "NotationDeskModel", name := "align", desc := "()V" } : Jvm.MethodName)) ∈ lw_all := lw_g (lw_at lw_m7 158 rfl) rfl
theorem q1684 : (Jvm.Cond.privateMethod ({ cls := "NotationDeskModel", name := "align", desc := "()V" } : Jvm.MethodName)) ∈ lw_tbl := lw_at lw_m7 159 rfl
theorem q1685 : (Jvm.Cond.instanceMethod ({ cls := "NotationDeskModel", name := "align", desc := "()V" } : Jvm.MethodName)) ∈ lw_all := lw_g (lw_at lw_m7 160 rfl) rfl
theorem q1686 : (Jvm.Cond.code ({ cls := "NotationDeskModel", name := "align", desc := "()V" } : Jvm.MethodName) prog_18_method_45_code (1 : Nat) (Option.none : Option Jvm.ClassFile.FieldType)) ∈ lw_all := lw_g (lw_at lw_m7 161 rfl) rfl
theorem q1687 : (Jvm.Cond.methodLink "NotationDeskModel" (323 : Nat) ({ cls := "NotationDeskModel", name := "width", desc := "(I)I" } : Jvm.MethodName)) ∈ lw_all := lw_g (lw_at lw_m7 162 rfl) rfl
theorem q1688 : (Jvm.Cond.static ({ cls := "NotationDeskModel", name := "width", desc := "(I)I" } : Jvm.MethodName)) ∈ lw_all := lw_g (lw_at lw_m7 163 rfl) rfl
theorem q1689 : (Jvm.Cond.code ({ cls := "NotationDeskModel", name := "width", desc := "(I)I" } : Jvm.MethodName) prog_18_method_46_code (2 : Nat) (Option.some Jvm.ClassFile.FieldType.int)) ∈ lw_all := lw_g (lw_at lw_m7 164 rfl) rfl
theorem q1690 : (Jvm.Cond.methodLink "NotationDeskModel" (326 : Nat) ({ cls := "NotationDeskModel", name := "some", desc := "(I)I" } : Jvm.MethodName)) ∈ lw_all := lw_g (lw_at lw_m7 165 rfl) rfl
theorem q1691 : (Jvm.Cond.privateMethod ({ cls := "NotationDeskModel", name := "some", desc := "(I)I" } : Jvm.MethodName)) ∈ lw_tbl := lw_at lw_m7 166 rfl
theorem q1692 : (Jvm.Cond.instanceMethod ({ cls := "NotationDeskModel", name := "some", desc := "(I)I" } : Jvm.MethodName)) ∈ lw_all := lw_g (lw_at lw_m7 167 rfl) rfl
theorem q1693 : (Jvm.Cond.code ({ cls := "NotationDeskModel", name := "some", desc := "(I)I" } : Jvm.MethodName) prog_18_method_44_code (4 : Nat) (Option.some Jvm.ClassFile.FieldType.int)) ∈ lw_all := lw_g (lw_at lw_m7 168 rfl) rfl
theorem q1694 : (Jvm.Cond.methodLink "NotationDeskModel" (317 : Nat) ({ cls := "NotationDeskModel", name := "bit", desc := "()I" } : Jvm.MethodName)) ∈ lw_all := lw_g (lw_at lw_m7 169 rfl) rfl
theorem q1695 : (Jvm.Cond.privateMethod ({ cls := "NotationDeskModel", name := "bit", desc := "()I" } : Jvm.MethodName)) ∈ lw_tbl := lw_at lw_m7 170 rfl
theorem q1696 : (Jvm.Cond.instanceMethod ({ cls := "NotationDeskModel", name := "bit", desc := "()I" } : Jvm.MethodName)) ∈ lw_all := lw_g (lw_at lw_m7 171 rfl) rfl
theorem q1697 : (Jvm.Cond.code ({ cls := "NotationDeskModel", name := "bit", desc := "()I" } : Jvm.MethodName) prog_18_method_43_code (1 : Nat) (Option.some Jvm.ClassFile.FieldType.int)) ∈ lw_all := lw_g (lw_at lw_m7 172 rfl) rfl
theorem q1698 : (Jvm.Cond.methodLink "NotationDeskModel" (332 : Nat) ({ cls := "NotationDeskModel", name := "rank", desc := "(II)I" } : Jvm.MethodName)) ∈ lw_all := lw_g (lw_at lw_m7 173 rfl) rfl
theorem q1699 : (Jvm.Cond.privateMethod ({ cls := "NotationDeskModel", name := "rank", desc := "(II)I" } : Jvm.MethodName)) ∈ lw_tbl := lw_at lw_m7 174 rfl
theorem q1700 : (Jvm.Cond.instanceMethod ({ cls := "NotationDeskModel", name := "rank", desc := "(II)I" } : Jvm.MethodName)) ∈ lw_all := lw_g (lw_at lw_m7 175 rfl) rfl
theorem q1701 : (Jvm.Cond.code ({ cls := "NotationDeskModel", name := "rank", desc := "(II)I" } : Jvm.MethodName) prog_18_method_49_code (6 : Nat) (Option.some Jvm.ClassFile.FieldType.int)) ∈ lw_all := lw_g (lw_at lw_m7 176 rfl) rfl
theorem q1702 : (Jvm.Cond.methodLink "NotationDeskModel" (335 : Nat) ({ cls := "NotationDeskModel", name := "counted", desc := "(I)I" } : Jvm.MethodName)) ∈ lw_all := lw_g (lw_at lw_m7 177 rfl) rfl
theorem q1703 : (Jvm.Cond.privateMethod ({ cls := "NotationDeskModel", name := "counted", desc := "(I)I" } : Jvm.MethodName)) ∈ lw_tbl := lw_at lw_m7 178 rfl
theorem q1704 : (Jvm.Cond.instanceMethod ({ cls := "NotationDeskModel", name := "counted", desc := "(I)I" } : Jvm.MethodName)) ∈ lw_all := lw_g (lw_at lw_m7 179 rfl) rfl
theorem q1705 : (Jvm.Cond.code ({ cls := "NotationDeskModel", name := "counted", desc := "(I)I" } : Jvm.MethodName) prog_18_method_48_code (3 : Nat) (Option.some Jvm.ClassFile.FieldType.int)) ∈ lw_all := lw_g (lw_at lw_m7 180 rfl) rfl
theorem q1706 : (Jvm.Cond.methodLink "NotationDeskModel" (255 : Nat) ({ cls := "NotationDeskModel", name := "goOn", desc := "()V" } : Jvm.MethodName)) ∈ lw_all := lw_g (lw_at lw_m7 181 rfl) rfl
theorem q1707 : (Jvm.Cond.privateMethod ({ cls := "NotationDeskModel", name := "goOn", desc := "()V" } : Jvm.MethodName)) ∈ lw_tbl := lw_at lw_m7 182 rfl
theorem q1708 : (Jvm.Cond.instanceMethod ({ cls := "NotationDeskModel", name := "goOn", desc := "()V" } : Jvm.MethodName)) ∈ lw_all := lw_g (lw_at lw_m7 183 rfl) rfl
theorem q1709 : (Jvm.Cond.code ({ cls := "NotationDeskModel", name := "goOn", desc := "()V" } : Jvm.MethodName) prog_18_method_41_code (7 : Nat) (Option.none : Option Jvm.ClassFile.FieldType)) ∈ lw_all := lw_g (lw_at lw_m7 184 rfl) rfl
theorem q1710 : (Jvm.Cond.methodLink "NotationDeskModel" (305 : Nat) ({ cls := "NotationDeskModel", name := "isEnd", desc := "()Z" } : Jvm.MethodName)) ∈ lw_all := lw_g (lw_at lw_m7 185 rfl) rfl
theorem q1711 : (Jvm.Cond.privateMethod ({ cls := "NotationDeskModel", name := "isEnd", desc := "()Z" } : Jvm.MethodName)) ∈ lw_tbl := lw_at lw_m7 186 rfl
theorem q1712 : (Jvm.Cond.instanceMethod ({ cls := "NotationDeskModel", name := "isEnd", desc := "()Z" } : Jvm.MethodName)) ∈ lw_all := lw_g (lw_at lw_m7 187 rfl) rfl
theorem q1713 : (Jvm.Cond.code ({ cls := "NotationDeskModel", name := "isEnd", desc := "()Z" } : Jvm.MethodName) prog_18_method_39_code (1 : Nat) (Option.some Jvm.ClassFile.FieldType.boolean)) ∈ lw_all := lw_g (lw_at lw_m7 188 rfl) rfl
theorem q1714 : (Jvm.Cond.methodLink "NotationDeskModel" (308 : Nat) ({ cls := "NotationDeskModel", name := "baseOf", desc := "(I)I" } : Jvm.MethodName)) ∈ lw_all := lw_g (lw_at lw_m7 189 rfl) rfl
theorem q1715 : (Jvm.Cond.privateMethod ({ cls := "NotationDeskModel", name := "baseOf", desc := "(I)I" } : Jvm.MethodName)) ∈ lw_tbl := lw_at lw_m7 190 rfl
theorem q1716 : (Jvm.Cond.instanceMethod ({ cls := "NotationDeskModel", name := "baseOf", desc := "(I)I" } : Jvm.MethodName)) ∈ lw_all := lw_g (lw_at lw_m7 191 rfl) rfl
theorem q1717 : (Jvm.Cond.code ({ cls := "NotationDeskModel", name := "baseOf", desc := "(I)I" } : Jvm.MethodName) prog_18_method_52_code (2 : Nat) (Option.some Jvm.ClassFile.FieldType.int)) ∈ lw_all := lw_g (lw_at lw_m7 192 rfl) rfl
theorem q1718 : (Jvm.Cond.methodLink "NotationDeskModel" (311 : Nat) ({ cls := "NotationDeskModel", name := "leaveFrame", desc := "()V" } : Jvm.MethodName)) ∈ lw_all := lw_g (lw_at lw_m7 193 rfl) rfl
theorem q1719 : (Jvm.Cond.privateMethod ({ cls := "NotationDeskModel", name := "leaveFrame", desc := "()V" } : Jvm.MethodName)) ∈ lw_tbl := lw_at lw_m7 194 rfl
theorem q1720 : (Jvm.Cond.instanceMethod ({ cls := "NotationDeskModel", name := "leaveFrame", desc := "()V" } : Jvm.MethodName)) ∈ lw_all := lw_g (lw_at lw_m7 195 rfl) rfl
theorem q1721 : (Jvm.Cond.code ({ cls := "NotationDeskModel", name := "leaveFrame", desc := "()V" } : Jvm.MethodName) prog_18_method_40_code (1 : Nat) (Option.none : Option Jvm.ClassFile.FieldType)) ∈ lw_all := lw_g (lw_at lw_m7 196 rfl) rfl
theorem q1722 : (Jvm.Cond.methodLink "NotationDeskModel" (314 : Nat) ({ cls := "NotationDeskModel", name := "absent", desc := "(III)V" } : Jvm.MethodName)) ∈ lw_all := lw_g (lw_at lw_m7 197 rfl) rfl
theorem q1723 : (Jvm.Cond.privateMethod ({ cls := "NotationDeskModel", name := "absent", desc := "(III)V" } : Jvm.MethodName)) ∈ lw_tbl := lw_at lw_m7 198 rfl
theorem q1724 : (Jvm.Cond.instanceMethod ({ cls := "NotationDeskModel", name := "absent", desc := "(III)V" } : Jvm.MethodName)) ∈ lw_all := lw_g (lw_at lw_m7 199 rfl) rfl
theorem q1725 : (Jvm.Cond.code ({ cls := "NotationDeskModel", name := "absent", desc := "(III)V" } : Jvm.MethodName) prog_18_method_42_code (5 : Nat) (Option.none : Option Jvm.ClassFile.FieldType)) ∈ lw_all := lw_g (lw_at lw_m7 200 rfl) rfl
theorem q1726 : (Jvm.Cond.methodLink "NotationDeskModel" (258 : Nat) ({ cls := "NotationDeskModel", name := "goOnPacked", desc := "()V" } : Jvm.MethodName)) ∈ lw_all := lw_g (lw_at lw_m7 201 rfl) rfl
theorem q1727 : (Jvm.Cond.privateMethod ({ cls := "NotationDeskModel", name := "goOnPacked", desc := "()V" } : Jvm.MethodName)) ∈ lw_tbl := lw_at lw_m7 202 rfl
theorem q1728 : (Jvm.Cond.instanceMethod ({ cls := "NotationDeskModel", name := "goOnPacked", desc := "()V" } : Jvm.MethodName)) ∈ lw_all := lw_g (lw_at lw_m7 203 rfl) rfl
theorem q1729 : (Jvm.Cond.code ({ cls := "NotationDeskModel", name := "goOnPacked", desc := "()V" } : Jvm.MethodName) prog_18_method_51_code (5 : Nat) (Option.none : Option Jvm.ClassFile.FieldType)) ∈ lw_all := lw_g (lw_at lw_m7 204 rfl) rfl
theorem q1730 : (Jvm.Cond.methodLink "NotationDeskModel" (264 : Nat) ({ cls := "NotationDeskModel", name := "settle", desc := "()V" } : Jvm.MethodName)) ∈ lw_all := lw_g (lw_at lw_m7 205 rfl) rfl
theorem q1731 : (Jvm.Cond.privateMethod ({ cls := "NotationDeskModel", name := "settle", desc := "()V" } : Jvm.MethodName)) ∈ lw_tbl := lw_at lw_m7 206 rfl
theorem q1732 : (Jvm.Cond.instanceMethod ({ cls := "NotationDeskModel", name := "settle", desc := "()V" } : Jvm.MethodName)) ∈ lw_all := lw_g (lw_at lw_m7 207 rfl) rfl
theorem q1733 : (Jvm.Cond.code ({ cls := "NotationDeskModel", name := "settle", desc := "()V" } : Jvm.MethodName) prog_18_method_54_code (3 : Nat) (Option.none : Option Jvm.ClassFile.FieldType)) ∈ lw_all := lw_g (lw_at lw_m7 208 rfl) rfl
theorem q1734 : (Jvm.Cond.methodLink "NotationDeskModel" (267 : Nat) ({ cls := "NotationDeskModel", name := "write", desc := "(I)V" } : Jvm.MethodName)) ∈ lw_all := lw_g (lw_at lw_m7 209 rfl) rfl
theorem q1735 : (Jvm.Cond.privateMethod ({ cls := "NotationDeskModel", name := "write", desc := "(I)V" } : Jvm.MethodName)) ∈ lw_tbl := lw_at lw_m7 210 rfl
theorem q1736 : (Jvm.Cond.instanceMethod ({ cls := "NotationDeskModel", name := "write", desc := "(I)V" } : Jvm.MethodName)) ∈ lw_all := lw_g (lw_at lw_m7 211 rfl) rfl
theorem q1737 : (Jvm.Cond.code ({ cls := "NotationDeskModel", name := "write", desc := "(I)V" } : Jvm.MethodName) prog_18_method_57_code (3 : Nat) (Option.none : Option Jvm.ClassFile.FieldType)) ∈ lw_all := lw_g (lw_at lw_m7 212 rfl) rfl
theorem q1738 : (Jvm.Cond.methodLink "NotationDeskModel" (344 : Nat) ({ cls := "NotationDeskModel", name := "isLeft", desc := "(I)Z" } : Jvm.MethodName)) ∈ lw_all := lw_g (lw_at lw_m7 213 rfl) rfl
theorem q1739 : (Jvm.Cond.privateMethod ({ cls := "NotationDeskModel", name := "isLeft", desc := "(I)Z" } : Jvm.MethodName)) ∈ lw_tbl := lw_at lw_m7 214 rfl
theorem q1740 : (Jvm.Cond.instanceMethod ({ cls := "NotationDeskModel", name := "isLeft", desc := "(I)Z" } : Jvm.MethodName)) ∈ lw_all := lw_g (lw_at lw_m7 215 rfl) rfl
theorem q1741 : (Jvm.Cond.code ({ cls := "NotationDeskModel", name := "isLeft", desc := "(I)Z" } : Jvm.MethodName) prog_18_method_53_code (4 : Nat) (Option.some Jvm.ClassFile.FieldType.boolean)) ∈ lw_all := lw_g (lw_at lw_m7 216 rfl) rfl
theorem q1742 : (Jvm.Cond.methodLink "NotationDeskModel" (347 : Nat) ({ cls := "NotationDeskModel", name := "encode", desc := "(I)V" } : Jvm.MethodName)) ∈ lw_all := lw_g (lw_at lw_m7 217 rfl) rfl
theorem q1743 : (Jvm.Cond.privateMethod ({ cls := "NotationDeskModel", name := "encode", desc := "(I)V" } : Jvm.MethodName)) ∈ lw_tbl := lw_at lw_m7 218 rfl
theorem q1744 : (Jvm.Cond.instanceMethod ({ cls := "NotationDeskModel", name := "encode", desc := "(I)V" } : Jvm.MethodName)) ∈ lw_all := lw_g (lw_at lw_m7 219 rfl) rfl
theorem q1745 : (Jvm.Cond.code ({ cls := "NotationDeskModel", name := "encode", desc := "(I)V" } : Jvm.MethodName) prog_18_method_56_code (5 : Nat) (Option.none : Option Jvm.ClassFile.FieldType)) ∈ lw_all := lw_g (lw_at lw_m7 220 rfl) rfl
theorem q1746 : (Jvm.Cond.methodLink "NotationDeskModel" (338 : Nat) ({ cls := "NotationDeskModel", name := "make", desc := "(I)V" } : Jvm.MethodName)) ∈ lw_all := lw_g (lw_at lw_m7 221 rfl) rfl
theorem q1747 : (Jvm.Cond.privateMethod ({ cls := "NotationDeskModel", name := "make", desc := "(I)V" } : Jvm.MethodName)) ∈ lw_tbl := lw_at lw_m7 222 rfl
theorem q1748 : (Jvm.Cond.instanceMethod ({ cls := "NotationDeskModel", name := "make", desc := "(I)V" } : Jvm.MethodName)) ∈ lw_all := lw_g (lw_at lw_m7 223 rfl) rfl
theorem q1749 : (Jvm.Cond.code ({ cls := "NotationDeskModel", name := "make", desc := "(I)V" } : Jvm.MethodName) prog_18_method_55_code (2 : Nat) (Option.none : Option Jvm.ClassFile.FieldType)) ∈ lw_all := lw_g (lw_at lw_m7 224 rfl) rfl
theorem q1750 : (Jvm.Cond.methodLink "NotationDeskModel" (350 : Nat) ({ cls := "NotationDeskModel", name := "packed", desc := "(I)V" } : Jvm.MethodName)) ∈ lw_all := lw_g (lw_at lw_m7 225 rfl) rfl
theorem q1751 : (Jvm.Cond.privateMethod ({ cls := "NotationDeskModel", name := "packed", desc := "(I)V" } : Jvm.MethodName)) ∈ lw_tbl := lw_at lw_m7 226 rfl
theorem q1752 : (Jvm.Cond.instanceMethod ({ cls := "NotationDeskModel", name := "packed", desc := "(I)V" } : Jvm.MethodName)) ∈ lw_all := lw_g (lw_at lw_m7 227 rfl) rfl
theorem q1753 : (Jvm.Cond.code ({ cls := "NotationDeskModel", name := "packed", desc := "(I)V" } : Jvm.MethodName) prog_18_method_62_code (6 : Nat) (Option.none : Option Jvm.ClassFile.FieldType)) ∈ lw_all := lw_g (lw_at lw_m7 228 rfl) rfl
theorem q1754 : (Jvm.Cond.methodLink "NotationDeskModel" (353 : Nat) ({ cls := "NotationDeskModel", name := "bring", desc := "(II)V" } : Jvm.MethodName)) ∈ lw_all := lw_g (lw_at lw_m7 229 rfl) rfl
theorem q1755 : (Jvm.Cond.privateMethod ({ cls := "NotationDeskModel", name := "bring", desc := "(II)V" } : Jvm.MethodName)) ∈ lw_tbl := lw_at lw_m7 230 rfl
theorem q1756 : (Jvm.Cond.instanceMethod ({ cls := "NotationDeskModel", name := "bring", desc := "(II)V" } : Jvm.MethodName)) ∈ lw_all := lw_g (lw_at lw_m7 231 rfl) rfl
theorem q1757 : (Jvm.Cond.code ({ cls := "NotationDeskModel", name := "bring", desc := "(II)V" } : Jvm.MethodName) prog_18_method_58_code (4 : Nat) (Option.none : Option Jvm.ClassFile.FieldType)) ∈ lw_all := lw_g (lw_at lw_m7 232 rfl) rfl
theorem q1758 : (Jvm.Cond.methodLink "NotationDeskModel" (362 : Nat) ({ cls := "NotationDeskModel", name := "bringCount", desc := "(II)V" } : Jvm.MethodName)) ∈ lw_all := lw_g (lw_at lw_m7 233 rfl) rfl
theorem q1759 : (Jvm.Cond.privateMethod ({ cls := "NotationDeskModel", name := "bringCount", desc := "(II)V" } : Jvm.MethodName)) ∈ lw_tbl := lw_at lw_m7 234 rfl
theorem q1760 : (Jvm.Cond.instanceMethod ({ cls := "NotationDeskModel", name := "bringCount", desc := "(II)V" } : Jvm.MethodName)) ∈ lw_all := lw_g (lw_at lw_m7 235 rfl) rfl
theorem q1761 : (Jvm.Cond.code ({ cls := "NotationDeskModel", name := "bringCount", desc := "(II)V" } : Jvm.MethodName) prog_18_method_61_code (3 : Nat) (Option.none : Option Jvm.ClassFile.FieldType)) ∈ lw_all := lw_g (lw_at lw_m7 236 rfl) rfl
theorem q1762 : (Jvm.Cond.methodLink "NotationDeskModel" (356 : Nat) ({ cls := "NotationDeskModel", name := "fill", desc := "()V" } : Jvm.MethodName)) ∈ lw_all := lw_g (lw_at lw_m7 237 rfl) rfl
theorem q1763 : (Jvm.Cond.privateMethod ({ cls := "NotationDeskModel", name := "fill", desc := "()V" } : Jvm.MethodName)) ∈ lw_tbl := lw_at lw_m7 238 rfl
theorem q1764 : (Jvm.Cond.instanceMethod ({ cls := "NotationDeskModel", name := "fill", desc := "()V" } : Jvm.MethodName)) ∈ lw_all := lw_g (lw_at lw_m7 239 rfl) rfl
theorem q1765 : (Jvm.Cond.code ({ cls := "NotationDeskModel", name := "fill", desc := "()V" } : Jvm.MethodName) prog_18_method_59_code (1 : Nat) (Option.none : Option Jvm.ClassFile.FieldType)) ∈ lw_all := lw_g (lw_at lw_m8 0 rfl) rfl
theorem q1766 : (Jvm.Cond.methodLink "NotationDeskModel" (359 : Nat) ({ cls := "NotationDeskModel", name := "bringOf", desc := "(III)V" } : Jvm.MethodName)) ∈ lw_all := lw_g (lw_at lw_m8 1 rfl) rfl
theorem q1767 : (Jvm.Cond.privateMethod ({ cls := "NotationDeskModel", name := "bringOf", desc := "(III)V" } : Jvm.MethodName)) ∈ lw_tbl := lw_at lw_m8 2 rfl
theorem q1768 : (Jvm.Cond.instanceMethod ({ cls := "NotationDeskModel", name := "bringOf", desc := "(III)V" } : Jvm.MethodName)) ∈ lw_all := lw_g (lw_at lw_m8 3 rfl) rfl
theorem q1769 : (Jvm.Cond.code ({ cls := "NotationDeskModel", name := "bringOf", desc := "(III)V" } : Jvm.MethodName) prog_18_method_60_code (5 : Nat) (Option.none : Option Jvm.ClassFile.FieldType)) ∈ lw_all := lw_g (lw_at lw_m8 4 rfl) rfl
theorem q1770 : (Jvm.Cond.methodLink "NotationDeskModel" (365 : Nat) ({ cls := "NotationDeskModel", name := "marks", desc := "(II)V" } : Jvm.MethodName)) ∈ lw_all := lw_g (lw_at lw_m8 5 rfl) rfl
theorem q1771 : (Jvm.Cond.privateMethod ({ cls := "NotationDeskModel", name := "marks", desc := "(II)V" } : Jvm.MethodName)) ∈ lw_tbl := lw_at lw_m8 6 rfl
theorem q1772 : (Jvm.Cond.instanceMethod ({ cls := "NotationDeskModel", name := "marks", desc := "(II)V" } : Jvm.MethodName)) ∈ lw_all := lw_g (lw_at lw_m8 7 rfl) rfl
theorem q1773 : (Jvm.Cond.code ({ cls := "NotationDeskModel", name := "marks", desc := "(II)V" } : Jvm.MethodName) prog_18_method_63_code (6 : Nat) (Option.none : Option Jvm.ClassFile.FieldType)) ∈ lw_all := lw_g (lw_at lw_m8 8 rfl) rfl
theorem q1774 : (Jvm.Cond.methodLink "NotationDeskModel" (383 : Nat) ({ cls := "NotationDeskModel", name := "fails", desc := "(I)I" } : Jvm.MethodName)) ∈ lw_all := lw_g (lw_at lw_m8 9 rfl) rfl
theorem q1775 : (Jvm.Cond.privateMethod ({ cls := "NotationDeskModel", name := "fails", desc := "(I)I" } : Jvm.MethodName)) ∈ lw_tbl := lw_at lw_m8 10 rfl
theorem q1776 : (Jvm.Cond.instanceMethod ({ cls := "NotationDeskModel", name := "fails", desc := "(I)I" } : Jvm.MethodName)) ∈ lw_all := lw_g (lw_at lw_m8 11 rfl) rfl
theorem q1777 : (Jvm.Cond.code ({ cls := "NotationDeskModel", name := "fails", desc := "(I)I" } : Jvm.MethodName) prog_18_method_3_code (2 : Nat) (Option.some Jvm.ClassFile.FieldType.int)) ∈ lw_all := lw_g (lw_at lw_m8 12 rfl) rfl
theorem q1778 : (Jvm.Cond.methodLink "NotationDeskModel" (386 : Nat) ({ cls := "NotationDeskModel", name := "keep", desc := "()V" } : Jvm.MethodName)) ∈ lw_all := lw_g (lw_at lw_m8 13 rfl) rfl
theorem q1779 : (Jvm.Cond.privateMethod ({ cls := "NotationDeskModel", name := "keep", desc := "()V" } : Jvm.MethodName)) ∈ lw_tbl := lw_at lw_m8 14 rfl
theorem q1780 : (Jvm.Cond.instanceMethod ({ cls := "NotationDeskModel", name := "keep", desc := "()V" } : Jvm.MethodName)) ∈ lw_all := lw_g (lw_at lw_m8 15 rfl) rfl
theorem q1781 : (Jvm.Cond.code ({ cls := "NotationDeskModel", name := "keep", desc := "()V" } : Jvm.MethodName) prog_18_method_64_code (2 : Nat) (Option.none : Option Jvm.ClassFile.FieldType)) ∈ lw_all := lw_g (lw_at lw_m8 16 rfl) rfl
theorem q1783 : (Jvm.Cond.instanceMethod ({ cls := "NotationDeskModel", name := "parts", desc := "()I" } : Jvm.MethodName)) ∈ lw_all := lw_g (lw_at lw_m8 18 rfl) rfl
theorem q1784 : (Jvm.Cond.selects "NotationDeskModel" ({ cls := "NotationDeskModel", name := "parts", desc := "()I" } : Jvm.MethodName) ({ cls := "NotationDeskModel", name := "parts", desc := "()I" } : Jvm.MethodName)) ∈ lw_all := lw_g (lw_at lw_m8 19 rfl) rfl
theorem q1785 : (Jvm.Cond.code ({ cls := "NotationDeskModel", name := "parts", desc := "()I" } : Jvm.MethodName) prog_18_method_69_code (1 : Nat) (Option.some Jvm.ClassFile.FieldType.int)) ∈ lw_all := lw_g (lw_at lw_m8 20 rfl) rfl
theorem q1787 : (Jvm.Cond.instanceMethod ({ cls := "NotationDeskModel", name := "part", desc := "(II)I" } : Jvm.MethodName)) ∈ lw_all := lw_g (lw_at lw_m8 22 rfl) rfl
theorem q1788 : (Jvm.Cond.selects "NotationDeskModel" ({ cls := "NotationDeskModel", name := "part", desc := "(II)I" } : Jvm.MethodName) ({ cls := "NotationDeskModel", name := "part", desc := "(II)I" } : Jvm.MethodName)) ∈ lw_all := lw_g (lw_at lw_m8 23 rfl) rfl
theorem q1789 : (Jvm.Cond.code ({ cls := "NotationDeskModel", name := "part", desc := "(II)I" } : Jvm.MethodName) prog_18_method_70_code (3 : Nat) (Option.some Jvm.ClassFile.FieldType.int)) ∈ lw_all := lw_g (lw_at lw_m8 24 rfl) rfl
theorem q1791 : (Jvm.Cond.instanceMethod ({ cls := "NotationDeskModel", name := "octet", desc := "(II)I" } : Jvm.MethodName)) ∈ lw_all := lw_g (lw_at lw_m8 26 rfl) rfl
theorem q1792 : (Jvm.Cond.selects "NotationDeskModel" ({ cls := "NotationDeskModel", name := "octet", desc := "(II)I" } : Jvm.MethodName) ({ cls := "NotationDeskModel", name := "octet", desc := "(II)I" } : Jvm.MethodName)) ∈ lw_all := lw_g (lw_at lw_m8 27 rfl) rfl
theorem q1793 : (Jvm.Cond.code ({ cls := "NotationDeskModel", name := "octet", desc := "(II)I" } : Jvm.MethodName) prog_18_method_71_code (3 : Nat) (Option.some Jvm.ClassFile.FieldType.int)) ∈ lw_all := lw_g (lw_at lw_m8 28 rfl) rfl
theorem q1795 : (Jvm.Cond.instanceMethod ({ cls := "NotationDeskModel", name := "operation", desc := "(ICII)V" } : Jvm.MethodName)) ∈ lw_all := lw_g (lw_at lw_m8 30 rfl) rfl
theorem q1796 : (Jvm.Cond.selects "NotationDeskModel" ({ cls := "NotationDeskModel", name := "operation", desc := "(ICII)V" } : Jvm.MethodName) ({ cls := "NotationDeskModel", name := "operation", desc := "(ICII)V" } : Jvm.MethodName)) ∈ lw_all := lw_g (lw_at lw_m8 31 rfl) rfl
theorem q1797 : (Jvm.Cond.code ({ cls := "NotationDeskModel", name := "operation", desc := "(ICII)V" } : Jvm.MethodName) prog_18_method_72_code (5 : Nat) (Option.none : Option Jvm.ClassFile.FieldType)) ∈ lw_all := lw_g (lw_at lw_m8 32 rfl) rfl
theorem q1799 : (Jvm.Cond.instanceMethod ({ cls := "NotationDeskModel", name := "serve", desc := "()I" } : Jvm.MethodName)) ∈ lw_all := lw_g (lw_at lw_m8 34 rfl) rfl
theorem q1800 : (Jvm.Cond.selects "NotationDeskModel" ({ cls := "NotationDeskModel", name := "serve", desc := "()I" } : Jvm.MethodName) ({ cls := "NotationDeskModel", name := "serve", desc := "()I" } : Jvm.MethodName)) ∈ lw_all := lw_g (lw_at lw_m8 35 rfl) rfl
theorem q1801 : (Jvm.Cond.code ({ cls := "NotationDeskModel", name := "serve", desc := "()I" } : Jvm.MethodName) prog_18_method_74_code (5 : Nat) (Option.some Jvm.ClassFile.FieldType.int)) ∈ lw_all := lw_g (lw_at lw_m8 36 rfl) rfl
theorem q1802 : (Jvm.Cond.methodLink "NotationDeskModel" (389 : Nat) ({ cls := "NotationDeskModel", name := "reply", desc := "(IIII)I" } : Jvm.MethodName)) ∈ lw_all := lw_g (lw_at lw_m8 37 rfl) rfl
theorem q1803 : (Jvm.Cond.privateMethod ({ cls := "NotationDeskModel", name := "reply", desc := "(IIII)I" } : Jvm.MethodName)) ∈ lw_tbl := lw_at lw_m8 38 rfl
theorem q1804 : (Jvm.Cond.instanceMethod ({ cls := "NotationDeskModel", name := "reply", desc := "(IIII)I" } : Jvm.MethodName)) ∈ lw_all := lw_g (lw_at lw_m8 39 rfl) rfl
theorem q1805 : (Jvm.Cond.code ({ cls := "NotationDeskModel", name := "reply", desc := "(IIII)I" } : Jvm.MethodName) prog_18_method_73_code (5 : Nat) (Option.some Jvm.ClassFile.FieldType.int)) ∈ lw_all := lw_g (lw_at lw_m8 40 rfl) rfl
theorem q1816 : (Jvm.Cond.castable "NotationDeskModel" "java/lang/Object") ∈ lw_tbl := lw_at lw_m8 51 rfl
theorem in_X6 : ∀ w ∈ wsX60, w ∈ lw_all := lw_in wsX60 [1399, 1401, 1403, 1405, 1407, 1409, 1411, 1413, 1415, 1417, 1419, 1421, 1423, 1425, 1427, 1429, 1431, 1433, 1435, 1437, 1439, 1441, 1443, 1445, 1447, 1449, 1451, 1453, 1455, 1457, 1459, 1461, 1463, 1465, 1467, 1469, 1471, 1473, 1475, 1477, 1479, 1481, 1483, 1485, 1487, 1489, 1491, 1493, 1495, 1497, 1499, 1501, 1503, 1505, 1507, 1509, 1511, 1513, 1515] (by decide +kernel) (by decide +kernel)
